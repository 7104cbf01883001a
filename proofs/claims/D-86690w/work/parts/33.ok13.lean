set_option maxRecDepth 100000
abbrev cX33_shared : ByteArray := prog_10_method_17_code
def dkwX33_shared_6 : List UInt8 := [182, 0, 51, 87, 42, 21, 5, 42, 180, 0, 22, 182, 0, 102, 177]
abbrev dktX33_shared_6 : List UInt8 := dkwX33_shared_6 ++ []
def dkwX33_shared_5 : List UInt8 := [182, 0, 51, 87, 42, 21, 7, 42, 180, 0, 22, 182, 0, 102, 42, 16, 15, 3, 43, 4, 182, 0, 98]
abbrev dktX33_shared_5 : List UInt8 := dkwX33_shared_5 ++ dktX33_shared_6
def dkwX33_shared_4 : List UInt8 := [180, 0, 119, 3, 182, 0, 51, 87, 42, 43, 8, 182, 0, 154, 42, 16, 20, 3, 43, 6, 182, 0, 98]
abbrev dktX33_shared_4 : List UInt8 := dkwX33_shared_4 ++ dktX33_shared_5
def dkwX33_shared_3 : List UInt8 := [42, 21, 6, 42, 180, 0, 22, 182, 0, 102, 44, 42, 42, 180, 0, 22, 182, 0, 158, 42, 16, 12, 43]
abbrev dktX33_shared_3 : List UInt8 := dkwX33_shared_3 ++ dktX33_shared_4
def dkwX33_shared_2 : List UInt8 := [16, 247, 43, 4, 182, 0, 98, 182, 0, 127, 42, 16, 19, 43, 6, 182, 0, 98, 3, 182, 0, 51, 54, 7]
abbrev dktX33_shared_2 : List UInt8 := dkwX33_shared_2 ++ dktX33_shared_3
def dkwX33_shared_1 : List UInt8 := [182, 0, 51, 54, 5, 42, 8, 3, 3, 182, 0, 51, 54, 6, 42, 44, 29, 21, 4, 42, 180, 0, 22]
abbrev dktX33_shared_1 : List UInt8 := dkwX33_shared_1 ++ dktX33_shared_2
def dkwX33_shared_0 : List UInt8 := [42, 16, 18, 3, 43, 4, 182, 0, 98, 182, 0, 51, 87, 42, 16, 19, 43, 6, 182, 0, 98, 3]
abbrev dktX33_shared_0 : List UInt8 := dkwX33_shared_0 ++ dktX33_shared_1
theorem dksX33_shared_0 : cX33_shared.data.toList.drop 0 = dktX33_shared_0 := by decide +kernel
theorem dksX33_shared_1 : cX33_shared.data.toList.drop 22 = dktX33_shared_1 := dk_seg dksX33_shared_0 22 rfl rfl
theorem dksX33_shared_2 : cX33_shared.data.toList.drop 45 = dktX33_shared_2 := dk_seg dksX33_shared_1 23 rfl rfl
theorem dksX33_shared_3 : cX33_shared.data.toList.drop 69 = dktX33_shared_3 := dk_seg dksX33_shared_2 24 rfl rfl
theorem dksX33_shared_4 : cX33_shared.data.toList.drop 92 = dktX33_shared_4 := dk_seg dksX33_shared_3 23 rfl rfl
theorem dksX33_shared_5 : cX33_shared.data.toList.drop 115 = dktX33_shared_5 := dk_seg dksX33_shared_4 23 rfl rfl
theorem dksX33_shared_6 : cX33_shared.data.toList.drop 138 = dktX33_shared_6 := dk_seg dksX33_shared_5 23 rfl rfl
theorem dX33_shared_0 : decode cX33_shared 0 = .ok (.aload_n 0, 1) := dk_42 (dk_at dksX33_shared_0 0 rfl rfl)
theorem dX33_shared_1 : decode cX33_shared 1 = .ok (.bipush 18, 2) := dk_16 18 (dk_at dksX33_shared_0 1 rfl rfl)
theorem dX33_shared_3 : decode cX33_shared 3 = .ok (.iconst 0, 1) := dk_3 (dk_at dksX33_shared_0 3 rfl rfl)
theorem dX33_shared_4 : decode cX33_shared 4 = .ok (.aload_n 1, 1) := dk_43 (dk_at dksX33_shared_0 4 rfl rfl)
theorem dX33_shared_5 : decode cX33_shared 5 = .ok (.iconst 1, 1) := dk_4 (dk_at dksX33_shared_0 5 rfl rfl)
theorem dX33_shared_6 : decode cX33_shared 6 = .ok (.invokevirtual 98, 3) := dk_182 0 98 (dk_at dksX33_shared_0 6 rfl rfl)
theorem dX33_shared_9 : decode cX33_shared 9 = .ok (.invokevirtual 51, 3) := dk_182 0 51 (dk_at dksX33_shared_0 9 rfl rfl)
theorem dX33_shared_12 : decode cX33_shared 12 = .ok (.pop, 1) := dk_87 (dk_at dksX33_shared_0 12 rfl rfl)
theorem dX33_shared_13 : decode cX33_shared 13 = .ok (.aload_n 0, 1) := dk_42 (dk_at dksX33_shared_0 13 rfl rfl)
theorem dX33_shared_14 : decode cX33_shared 14 = .ok (.bipush 19, 2) := dk_16 19 (dk_at dksX33_shared_0 14 rfl rfl)
theorem dX33_shared_16 : decode cX33_shared 16 = .ok (.aload_n 1, 1) := dk_43 (dk_at dksX33_shared_0 16 rfl rfl)
theorem dX33_shared_17 : decode cX33_shared 17 = .ok (.iconst 3, 1) := dk_6 (dk_at dksX33_shared_0 17 rfl rfl)
theorem dX33_shared_18 : decode cX33_shared 18 = .ok (.invokevirtual 98, 3) := dk_182 0 98 (dk_at dksX33_shared_0 18 rfl rfl)
theorem dX33_shared_21 : decode cX33_shared 21 = .ok (.iconst 0, 1) := dk_3 (dk_at dksX33_shared_0 21 rfl rfl)
theorem dX33_shared_22 : decode cX33_shared 22 = .ok (.invokevirtual 51, 3) := dk_182 0 51 (dk_at dksX33_shared_1 0 rfl rfl)
theorem dX33_shared_25 : decode cX33_shared 25 = .ok (.istore 5, 2) := dk_54 5 (dk_at dksX33_shared_1 3 rfl rfl)
theorem dX33_shared_27 : decode cX33_shared 27 = .ok (.aload_n 0, 1) := dk_42 (dk_at dksX33_shared_1 5 rfl rfl)
theorem dX33_shared_28 : decode cX33_shared 28 = .ok (.iconst 5, 1) := dk_8 (dk_at dksX33_shared_1 6 rfl rfl)
theorem dX33_shared_29 : decode cX33_shared 29 = .ok (.iconst 0, 1) := dk_3 (dk_at dksX33_shared_1 7 rfl rfl)
theorem dX33_shared_30 : decode cX33_shared 30 = .ok (.iconst 0, 1) := dk_3 (dk_at dksX33_shared_1 8 rfl rfl)
theorem dX33_shared_31 : decode cX33_shared 31 = .ok (.invokevirtual 51, 3) := dk_182 0 51 (dk_at dksX33_shared_1 9 rfl rfl)
theorem dX33_shared_34 : decode cX33_shared 34 = .ok (.istore 6, 2) := dk_54 6 (dk_at dksX33_shared_1 12 rfl rfl)
theorem dX33_shared_36 : decode cX33_shared 36 = .ok (.aload_n 0, 1) := dk_42 (dk_at dksX33_shared_1 14 rfl rfl)
theorem dX33_shared_37 : decode cX33_shared 37 = .ok (.aload_n 2, 1) := dk_44 (dk_at dksX33_shared_1 15 rfl rfl)
theorem dX33_shared_38 : decode cX33_shared 38 = .ok (.iload_n 3, 1) := dk_29 (dk_at dksX33_shared_1 16 rfl rfl)
theorem dX33_shared_39 : decode cX33_shared 39 = .ok (.iload 4, 2) := dk_21 4 (dk_at dksX33_shared_1 17 rfl rfl)
theorem dX33_shared_41 : decode cX33_shared 41 = .ok (.aload_n 0, 1) := dk_42 (dk_at dksX33_shared_1 19 rfl rfl)
theorem dX33_shared_42 : decode cX33_shared 42 = .ok (.getfield 22, 3) := dk_180 0 22 (dk_at dksX33_shared_1 20 rfl rfl)
theorem dX33_shared_45 : decode cX33_shared 45 = .ok (.bipush (-9), 2) := dk_16 247 (dk_at dksX33_shared_2 0 rfl rfl)
theorem dX33_shared_47 : decode cX33_shared 47 = .ok (.aload_n 1, 1) := dk_43 (dk_at dksX33_shared_2 2 rfl rfl)
theorem dX33_shared_48 : decode cX33_shared 48 = .ok (.iconst 1, 1) := dk_4 (dk_at dksX33_shared_2 3 rfl rfl)
theorem dX33_shared_49 : decode cX33_shared 49 = .ok (.invokevirtual 98, 3) := dk_182 0 98 (dk_at dksX33_shared_2 4 rfl rfl)
theorem dX33_shared_52 : decode cX33_shared 52 = .ok (.invokevirtual 127, 3) := dk_182 0 127 (dk_at dksX33_shared_2 7 rfl rfl)
theorem dX33_shared_55 : decode cX33_shared 55 = .ok (.aload_n 0, 1) := dk_42 (dk_at dksX33_shared_2 10 rfl rfl)
theorem dX33_shared_56 : decode cX33_shared 56 = .ok (.bipush 19, 2) := dk_16 19 (dk_at dksX33_shared_2 11 rfl rfl)
theorem dX33_shared_58 : decode cX33_shared 58 = .ok (.aload_n 1, 1) := dk_43 (dk_at dksX33_shared_2 13 rfl rfl)
theorem dX33_shared_59 : decode cX33_shared 59 = .ok (.iconst 3, 1) := dk_6 (dk_at dksX33_shared_2 14 rfl rfl)
theorem dX33_shared_60 : decode cX33_shared 60 = .ok (.invokevirtual 98, 3) := dk_182 0 98 (dk_at dksX33_shared_2 15 rfl rfl)
theorem dX33_shared_63 : decode cX33_shared 63 = .ok (.iconst 0, 1) := dk_3 (dk_at dksX33_shared_2 18 rfl rfl)
theorem dX33_shared_64 : decode cX33_shared 64 = .ok (.invokevirtual 51, 3) := dk_182 0 51 (dk_at dksX33_shared_2 19 rfl rfl)
theorem dX33_shared_67 : decode cX33_shared 67 = .ok (.istore 7, 2) := dk_54 7 (dk_at dksX33_shared_2 22 rfl rfl)
theorem dX33_shared_69 : decode cX33_shared 69 = .ok (.aload_n 0, 1) := dk_42 (dk_at dksX33_shared_3 0 rfl rfl)
theorem dX33_shared_70 : decode cX33_shared 70 = .ok (.iload 6, 2) := dk_21 6 (dk_at dksX33_shared_3 1 rfl rfl)
theorem dX33_shared_72 : decode cX33_shared 72 = .ok (.aload_n 0, 1) := dk_42 (dk_at dksX33_shared_3 3 rfl rfl)
theorem dX33_shared_73 : decode cX33_shared 73 = .ok (.getfield 22, 3) := dk_180 0 22 (dk_at dksX33_shared_3 4 rfl rfl)
theorem dX33_shared_76 : decode cX33_shared 76 = .ok (.invokevirtual 102, 3) := dk_182 0 102 (dk_at dksX33_shared_3 7 rfl rfl)
theorem dX33_shared_79 : decode cX33_shared 79 = .ok (.aload_n 2, 1) := dk_44 (dk_at dksX33_shared_3 10 rfl rfl)
theorem dX33_shared_80 : decode cX33_shared 80 = .ok (.aload_n 0, 1) := dk_42 (dk_at dksX33_shared_3 11 rfl rfl)
theorem dX33_shared_81 : decode cX33_shared 81 = .ok (.aload_n 0, 1) := dk_42 (dk_at dksX33_shared_3 12 rfl rfl)
theorem dX33_shared_82 : decode cX33_shared 82 = .ok (.getfield 22, 3) := dk_180 0 22 (dk_at dksX33_shared_3 13 rfl rfl)
theorem dX33_shared_85 : decode cX33_shared 85 = .ok (.invokevirtual 158, 3) := dk_182 0 158 (dk_at dksX33_shared_3 16 rfl rfl)
theorem dX33_shared_88 : decode cX33_shared 88 = .ok (.aload_n 0, 1) := dk_42 (dk_at dksX33_shared_3 19 rfl rfl)
theorem dX33_shared_89 : decode cX33_shared 89 = .ok (.bipush 12, 2) := dk_16 12 (dk_at dksX33_shared_3 20 rfl rfl)
theorem dX33_shared_91 : decode cX33_shared 91 = .ok (.aload_n 1, 1) := dk_43 (dk_at dksX33_shared_3 22 rfl rfl)
theorem dX33_shared_92 : decode cX33_shared 92 = .ok (.getfield 119, 3) := dk_180 0 119 (dk_at dksX33_shared_4 0 rfl rfl)
theorem dX33_shared_95 : decode cX33_shared 95 = .ok (.iconst 0, 1) := dk_3 (dk_at dksX33_shared_4 3 rfl rfl)
theorem dX33_shared_96 : decode cX33_shared 96 = .ok (.invokevirtual 51, 3) := dk_182 0 51 (dk_at dksX33_shared_4 4 rfl rfl)
theorem dX33_shared_99 : decode cX33_shared 99 = .ok (.pop, 1) := dk_87 (dk_at dksX33_shared_4 7 rfl rfl)
theorem dX33_shared_100 : decode cX33_shared 100 = .ok (.aload_n 0, 1) := dk_42 (dk_at dksX33_shared_4 8 rfl rfl)
theorem dX33_shared_101 : decode cX33_shared 101 = .ok (.aload_n 1, 1) := dk_43 (dk_at dksX33_shared_4 9 rfl rfl)
theorem dX33_shared_102 : decode cX33_shared 102 = .ok (.iconst 5, 1) := dk_8 (dk_at dksX33_shared_4 10 rfl rfl)
theorem dX33_shared_103 : decode cX33_shared 103 = .ok (.invokevirtual 154, 3) := dk_182 0 154 (dk_at dksX33_shared_4 11 rfl rfl)
theorem dX33_shared_106 : decode cX33_shared 106 = .ok (.aload_n 0, 1) := dk_42 (dk_at dksX33_shared_4 14 rfl rfl)
theorem dX33_shared_107 : decode cX33_shared 107 = .ok (.bipush 20, 2) := dk_16 20 (dk_at dksX33_shared_4 15 rfl rfl)
theorem dX33_shared_109 : decode cX33_shared 109 = .ok (.iconst 0, 1) := dk_3 (dk_at dksX33_shared_4 17 rfl rfl)
theorem dX33_shared_110 : decode cX33_shared 110 = .ok (.aload_n 1, 1) := dk_43 (dk_at dksX33_shared_4 18 rfl rfl)
theorem dX33_shared_111 : decode cX33_shared 111 = .ok (.iconst 3, 1) := dk_6 (dk_at dksX33_shared_4 19 rfl rfl)
theorem dX33_shared_112 : decode cX33_shared 112 = .ok (.invokevirtual 98, 3) := dk_182 0 98 (dk_at dksX33_shared_4 20 rfl rfl)
theorem dX33_shared_115 : decode cX33_shared 115 = .ok (.invokevirtual 51, 3) := dk_182 0 51 (dk_at dksX33_shared_5 0 rfl rfl)
theorem dX33_shared_118 : decode cX33_shared 118 = .ok (.pop, 1) := dk_87 (dk_at dksX33_shared_5 3 rfl rfl)
theorem dX33_shared_119 : decode cX33_shared 119 = .ok (.aload_n 0, 1) := dk_42 (dk_at dksX33_shared_5 4 rfl rfl)
theorem dX33_shared_120 : decode cX33_shared 120 = .ok (.iload 7, 2) := dk_21 7 (dk_at dksX33_shared_5 5 rfl rfl)
theorem dX33_shared_122 : decode cX33_shared 122 = .ok (.aload_n 0, 1) := dk_42 (dk_at dksX33_shared_5 7 rfl rfl)
theorem dX33_shared_123 : decode cX33_shared 123 = .ok (.getfield 22, 3) := dk_180 0 22 (dk_at dksX33_shared_5 8 rfl rfl)
theorem dX33_shared_126 : decode cX33_shared 126 = .ok (.invokevirtual 102, 3) := dk_182 0 102 (dk_at dksX33_shared_5 11 rfl rfl)
theorem dX33_shared_129 : decode cX33_shared 129 = .ok (.aload_n 0, 1) := dk_42 (dk_at dksX33_shared_5 14 rfl rfl)
theorem dX33_shared_130 : decode cX33_shared 130 = .ok (.bipush 15, 2) := dk_16 15 (dk_at dksX33_shared_5 15 rfl rfl)
theorem dX33_shared_132 : decode cX33_shared 132 = .ok (.iconst 0, 1) := dk_3 (dk_at dksX33_shared_5 17 rfl rfl)
theorem dX33_shared_133 : decode cX33_shared 133 = .ok (.aload_n 1, 1) := dk_43 (dk_at dksX33_shared_5 18 rfl rfl)
theorem dX33_shared_134 : decode cX33_shared 134 = .ok (.iconst 1, 1) := dk_4 (dk_at dksX33_shared_5 19 rfl rfl)
theorem dX33_shared_135 : decode cX33_shared 135 = .ok (.invokevirtual 98, 3) := dk_182 0 98 (dk_at dksX33_shared_5 20 rfl rfl)
theorem dX33_shared_138 : decode cX33_shared 138 = .ok (.invokevirtual 51, 3) := dk_182 0 51 (dk_at dksX33_shared_6 0 rfl rfl)
theorem dX33_shared_141 : decode cX33_shared 141 = .ok (.pop, 1) := dk_87 (dk_at dksX33_shared_6 3 rfl rfl)
theorem dX33_shared_142 : decode cX33_shared 142 = .ok (.aload_n 0, 1) := dk_42 (dk_at dksX33_shared_6 4 rfl rfl)
theorem dX33_shared_143 : decode cX33_shared 143 = .ok (.iload 5, 2) := dk_21 5 (dk_at dksX33_shared_6 5 rfl rfl)
theorem dX33_shared_145 : decode cX33_shared 145 = .ok (.aload_n 0, 1) := dk_42 (dk_at dksX33_shared_6 7 rfl rfl)
theorem dX33_shared_146 : decode cX33_shared 146 = .ok (.getfield 22, 3) := dk_180 0 22 (dk_at dksX33_shared_6 8 rfl rfl)
theorem dX33_shared_149 : decode cX33_shared 149 = .ok (.invokevirtual 102, 3) := dk_182 0 102 (dk_at dksX33_shared_6 11 rfl rfl)
theorem dX33_shared_152 : decode cX33_shared 152 = .ok (.return_, 1) := dk_177 (dk_at dksX33_shared_6 14 rfl rfl)
theorem okX33_shared_0 : XOkL xms rX33_shared bX33_shared_0 := xcP (xok_aload_n dX33_shared_0 rfl) rfl (xcP (xok_bipush dX33_shared_1 rfl) rfl (xcP (xok_iconst dX33_shared_3 rfl) rfl (xcP (xok_aload_n dX33_shared_4 rfl) rfl (xcP (xok_iconst dX33_shared_5 rfl) rfl (xcC0 (xokc_list (List.forall_mem_cons.mpr ⟨xokc_V (r := (RX31, TX31, 7)) xm261 (List.mem_of_getElem? (i := 28) rfl) (by decide) rfl dX33_shared_6 q1369 q1370 q1371 q176 q1372 (by decide +kernel), fun _ h => nomatch h⟩)) rfl (xcC0 (xokc_list (List.forall_mem_cons.mpr ⟨xokc_V (r := (RX33, TX33, 6)) xm276 (List.mem_of_getElem? (i := 30) rfl) (by decide) rfl dX33_shared_9 q1279 q1280 q1281 q179 q1282 (by decide +kernel), fun _ h => nomatch h⟩)) rfl (xcP (xok_pop dX33_shared_12) rfl (xcP (xok_aload_n dX33_shared_13 rfl) rfl (xcP (xok_bipush dX33_shared_14 rfl) rfl (xcP (xok_aload_n dX33_shared_16 rfl) rfl (xcP (xok_iconst dX33_shared_17 rfl) rfl (xcC0 (xokc_list (List.forall_mem_cons.mpr ⟨xokc_V (r := (RX31, TX31, 7)) xm261 (List.mem_of_getElem? (i := 28) rfl) (by decide) rfl dX33_shared_18 q1369 q1370 q1371 q176 q1372 (by decide +kernel), fun _ h => nomatch h⟩)) rfl (xcP (xok_iconst dX33_shared_21 rfl) rfl (xcC0 (xokc_list (List.forall_mem_cons.mpr ⟨xokc_V (r := (RX33, TX33, 6)) xm276 (List.mem_of_getElem? (i := 30) rfl) (by decide) rfl dX33_shared_22 q1279 q1280 q1281 q179 q1282 (by decide +kernel), fun _ h => nomatch h⟩)) rfl (xcP (xok_istore dX33_shared_25) rfl (xcP (xok_aload_n dX33_shared_27 rfl) rfl (xcP (xok_iconst dX33_shared_28 rfl) rfl (xcP (xok_iconst dX33_shared_29 rfl) rfl (xcP (xok_iconst dX33_shared_30 rfl) rfl (xcC0 (xokc_list (List.forall_mem_cons.mpr ⟨xokc_V (r := (RX33, TX33, 6)) xm276 (List.mem_of_getElem? (i := 30) rfl) (by decide) rfl dX33_shared_31 q1279 q1280 q1281 q179 q1282 (by decide +kernel), fun _ h => nomatch h⟩)) rfl (xcP (xok_istore dX33_shared_34) rfl (xcP (xok_aload_n dX33_shared_36 rfl) rfl (xcP (xok_aload_n dX33_shared_37 rfl) rfl (xcP (xok_iload_n dX33_shared_38 rfl) rfl (xcP (xok_iload dX33_shared_39) rfl (xcP (xok_aload_n dX33_shared_41 rfl) rfl (xcP (xok_getfield (ref := "WaysAtlas$Lower") (Or.inl ⟨rfl, by decide⟩) dX33_shared_42 (Or.inl ⟨q1244, (Or.inl rfl)⟩) xh100) rfl (xcP (xok_bipush dX33_shared_45 rfl) rfl (xcP (xok_aload_n dX33_shared_47 rfl) rfl (xcP (xok_iconst dX33_shared_48 rfl) rfl (xcC0 (xokc_list (List.forall_mem_cons.mpr ⟨xokc_V (r := (RX31, TX31, 7)) xm261 (List.mem_of_getElem? (i := 28) rfl) (by decide) rfl dX33_shared_49 q1369 q1370 q1371 q176 q1372 (by decide +kernel), fun _ h => nomatch h⟩)) rfl (xcC0 (xokc_list (List.forall_mem_cons.mpr ⟨xokc_V (r := (RX33, TX33, 6)) xm282 (List.mem_of_getElem? (i := 30) rfl) (by decide) rfl dX33_shared_52 q1373 q1375 qs35 q179 q1376 (by decide +kernel), fun _ h => nomatch h⟩)) rfl (xcP (xok_aload_n dX33_shared_55 rfl) rfl (xcP (xok_bipush dX33_shared_56 rfl) rfl (xcP (xok_aload_n dX33_shared_58 rfl) rfl (xcP (xok_iconst dX33_shared_59 rfl) rfl (xcC0 (xokc_list (List.forall_mem_cons.mpr ⟨xokc_V (r := (RX31, TX31, 7)) xm261 (List.mem_of_getElem? (i := 28) rfl) (by decide) rfl dX33_shared_60 q1369 q1370 q1371 q176 q1372 (by decide +kernel), fun _ h => nomatch h⟩)) rfl (xcP (xok_iconst dX33_shared_63 rfl) rfl (xcC0 (xokc_list (List.forall_mem_cons.mpr ⟨xokc_V (r := (RX33, TX33, 6)) xm276 (List.mem_of_getElem? (i := 30) rfl) (by decide) rfl dX33_shared_64 q1279 q1280 q1281 q179 q1282 (by decide +kernel), fun _ h => nomatch h⟩)) rfl (xcP (xok_istore dX33_shared_67) rfl (xcP (xok_aload_n dX33_shared_69 rfl) rfl (xcP (xok_iload dX33_shared_70) rfl (xcP (xok_aload_n dX33_shared_72 rfl) rfl (xcP (xok_getfield (ref := "WaysAtlas$Lower") (Or.inl ⟨rfl, by decide⟩) dX33_shared_73 (Or.inl ⟨q1244, (Or.inl rfl)⟩) xh100) rfl (xcC0 (xokc_list (List.forall_mem_cons.mpr ⟨xokc_V (r := (RX33, TX33, 6)) xm284 (List.mem_of_getElem? (i := 30) rfl) (by decide) rfl dX33_shared_76 q1381 q1382 q1383 q179 q1384 (by decide +kernel), fun _ h => nomatch h⟩)) rfl (xcP (xok_aload_n dX33_shared_79 rfl) rfl (xcP (xok_aload_n dX33_shared_80 rfl) rfl (xcP (xok_aload_n dX33_shared_81 rfl) rfl (xcP (xok_getfield (ref := "WaysAtlas$Lower") (Or.inl ⟨rfl, by decide⟩) dX33_shared_82 (Or.inl ⟨q1244, (Or.inl rfl)⟩) xh100) rfl (xcC0 (xokc_list (List.forall_mem_cons.mpr ⟨xokc_V (r := (RX32, TX32, 8)) xm269 (List.mem_of_getElem? (i := 29) rfl) (by decide) rfl dX33_shared_85 q1389 q1390 q1391 q177 q1392 (by decide +kernel), fun _ h => nomatch h⟩)) rfl (xcP (xok_aload_n dX33_shared_88 rfl) rfl (xcP (xok_bipush dX33_shared_89 rfl) rfl (xcP (xok_aload_n dX33_shared_91 rfl) rfl (xcP (xok_getfield (ref := "WaysAtlas$Guard") (Or.inl ⟨rfl, by decide⟩) dX33_shared_92 (Or.inl ⟨q988, (Or.inr q971)⟩) xh82) rfl (xcP (xok_iconst dX33_shared_95 rfl) rfl (xcC0 (xokc_list (List.forall_mem_cons.mpr ⟨xokc_V (r := (RX33, TX33, 6)) xm276 (List.mem_of_getElem? (i := 30) rfl) (by decide) rfl dX33_shared_96 q1279 q1280 q1281 q179 q1282 (by decide +kernel), fun _ h => nomatch h⟩)) rfl (xcP (xok_pop dX33_shared_99) rfl (xcP (xok_aload_n dX33_shared_100 rfl) rfl (xcP (xok_aload_n dX33_shared_101 rfl) rfl (xcP (xok_iconst dX33_shared_102 rfl) rfl (xcC0 (xokc_list (List.forall_mem_cons.mpr ⟨xokc_V (r := (RX33, TX33, 6)) xm286 (List.mem_of_getElem? (i := 30) rfl) (by decide) rfl dX33_shared_103 q1394 q1396 qs38 q179 q1397 (by decide +kernel), fun _ h => nomatch h⟩)) rfl (xcP (xok_aload_n dX33_shared_106 rfl) rfl (xcP (xok_bipush dX33_shared_107 rfl) rfl (xcP (xok_iconst dX33_shared_109 rfl) rfl (xcP (xok_aload_n dX33_shared_110 rfl) rfl (xcP (xok_iconst dX33_shared_111 rfl) rfl (xcC0 (xokc_list (List.forall_mem_cons.mpr ⟨xokc_V (r := (RX31, TX31, 7)) xm261 (List.mem_of_getElem? (i := 28) rfl) (by decide) rfl dX33_shared_112 q1369 q1370 q1371 q176 q1372 (by decide +kernel), fun _ h => nomatch h⟩)) rfl (xcC0 (xokc_list (List.forall_mem_cons.mpr ⟨xokc_V (r := (RX33, TX33, 6)) xm276 (List.mem_of_getElem? (i := 30) rfl) (by decide) rfl dX33_shared_115 q1279 q1280 q1281 q179 q1282 (by decide +kernel), fun _ h => nomatch h⟩)) rfl (xcP (xok_pop dX33_shared_118) rfl (xcP (xok_aload_n dX33_shared_119 rfl) rfl (xcP (xok_iload dX33_shared_120) rfl (xcP (xok_aload_n dX33_shared_122 rfl) rfl (xcP (xok_getfield (ref := "WaysAtlas$Lower") (Or.inl ⟨rfl, by decide⟩) dX33_shared_123 (Or.inl ⟨q1244, (Or.inl rfl)⟩) xh100) rfl (xcC0 (xokc_list (List.forall_mem_cons.mpr ⟨xokc_V (r := (RX33, TX33, 6)) xm284 (List.mem_of_getElem? (i := 30) rfl) (by decide) rfl dX33_shared_126 q1381 q1382 q1383 q179 q1384 (by decide +kernel), fun _ h => nomatch h⟩)) rfl (xcP (xok_aload_n dX33_shared_129 rfl) rfl (xcP (xok_bipush dX33_shared_130 rfl) rfl (xcP (xok_iconst dX33_shared_132 rfl) rfl (xcP (xok_aload_n dX33_shared_133 rfl) rfl (xcP (xok_iconst dX33_shared_134 rfl) rfl (xcC0 (xokc_list (List.forall_mem_cons.mpr ⟨xokc_V (r := (RX31, TX31, 7)) xm261 (List.mem_of_getElem? (i := 28) rfl) (by decide) rfl dX33_shared_135 q1369 q1370 q1371 q176 q1372 (by decide +kernel), fun _ h => nomatch h⟩)) rfl (xcC0 (xokc_list (List.forall_mem_cons.mpr ⟨xokc_V (r := (RX33, TX33, 6)) xm276 (List.mem_of_getElem? (i := 30) rfl) (by decide) rfl dX33_shared_138 q1279 q1280 q1281 q179 q1282 (by decide +kernel), fun _ h => nomatch h⟩)) rfl (xcP (xok_pop dX33_shared_141) rfl (xcP (xok_aload_n dX33_shared_142 rfl) rfl (xcP (xok_iload dX33_shared_143) rfl (xcP (xok_aload_n dX33_shared_145 rfl) rfl (xcP (xok_getfield (ref := "WaysAtlas$Lower") (Or.inl ⟨rfl, by decide⟩) dX33_shared_146 (Or.inl ⟨q1244, (Or.inl rfl)⟩) xh100) rfl (xcC0 (xokc_list (List.forall_mem_cons.mpr ⟨xokc_V (r := (RX33, TX33, 6)) xm284 (List.mem_of_getElem? (i := 30) rfl) (by decide) rfl dX33_shared_149 q1381 q1382 q1383 q179 q1384 (by decide +kernel), fun _ h => nomatch h⟩)) rfl (xcR ⟨dX33_shared_152, rfl⟩))))))))))))))))))))))))))))))))))))))))))))))))))))))))))))))))))))))))))))))))))))))))
theorem okM_X33_shared : XOkM xms rX33_shared := xokM0 (List.forall_mem_cons.mpr ⟨⟨rfl, okX33_shared_0⟩, fun _ h => nomatch h⟩) (xokH0 rfl (fun _ _ => rfl)) (by decide +kernel) (by decide)
abbrev cX33_pending : ByteArray := prog_10_method_16_code
def dkwX33_pending_4 : List UInt8 := [182, 0, 98, 182, 0, 51, 87, 42, 21, 6, 42, 180, 0, 22, 182, 0, 102, 177]
abbrev dktX33_pending_4 : List UInt8 := dkwX33_pending_4 ++ []
def dkwX33_pending_3 : List UInt8 := [167, 0, 5, 16, 17, 3, 43, 4, 182, 0, 98, 182, 0, 51, 87, 42, 16, 15, 3, 43, 16, 7]
abbrev dktX33_pending_3 : List UInt8 := dkwX33_pending_3 ++ dktX33_pending_4
def dkwX33_pending_2 : List UInt8 := [42, 180, 0, 22, 16, 247, 43, 16, 7, 182, 0, 98, 182, 0, 127, 42, 28, 7, 160, 0, 8, 16, 16]
abbrev dktX33_pending_2 : List UInt8 := dkwX33_pending_2 ++ dktX33_pending_3
def dkwX33_pending_1 : List UInt8 := [182, 0, 124, 42, 180, 0, 22, 54, 5, 42, 8, 3, 3, 182, 0, 51, 54, 6, 42, 25, 4, 29, 21, 5]
abbrev dktX33_pending_1 : List UInt8 := dkwX33_pending_1 ++ dktX33_pending_2
def dkwX33_pending_0 : List UInt8 := [42, 180, 0, 22, 62, 42, 28, 43, 182, 0, 120, 58, 4, 42, 43, 180, 0, 105, 182, 0, 109, 42]
abbrev dktX33_pending_0 : List UInt8 := dkwX33_pending_0 ++ dktX33_pending_1
theorem dksX33_pending_0 : cX33_pending.data.toList.drop 0 = dktX33_pending_0 := by decide +kernel
theorem dksX33_pending_1 : cX33_pending.data.toList.drop 22 = dktX33_pending_1 := dk_seg dksX33_pending_0 22 rfl rfl
theorem dksX33_pending_2 : cX33_pending.data.toList.drop 46 = dktX33_pending_2 := dk_seg dksX33_pending_1 24 rfl rfl
theorem dksX33_pending_3 : cX33_pending.data.toList.drop 69 = dktX33_pending_3 := dk_seg dksX33_pending_2 23 rfl rfl
theorem dksX33_pending_4 : cX33_pending.data.toList.drop 91 = dktX33_pending_4 := dk_seg dksX33_pending_3 22 rfl rfl
theorem dX33_pending_0 : decode cX33_pending 0 = .ok (.aload_n 0, 1) := dk_42 (dk_at dksX33_pending_0 0 rfl rfl)
theorem dX33_pending_1 : decode cX33_pending 1 = .ok (.getfield 22, 3) := dk_180 0 22 (dk_at dksX33_pending_0 1 rfl rfl)
theorem dX33_pending_4 : decode cX33_pending 4 = .ok (.istore_n 3, 1) := dk_62 (dk_at dksX33_pending_0 4 rfl rfl)
theorem dX33_pending_5 : decode cX33_pending 5 = .ok (.aload_n 0, 1) := dk_42 (dk_at dksX33_pending_0 5 rfl rfl)
theorem dX33_pending_6 : decode cX33_pending 6 = .ok (.iload_n 2, 1) := dk_28 (dk_at dksX33_pending_0 6 rfl rfl)
theorem dX33_pending_7 : decode cX33_pending 7 = .ok (.aload_n 1, 1) := dk_43 (dk_at dksX33_pending_0 7 rfl rfl)
theorem dX33_pending_8 : decode cX33_pending 8 = .ok (.invokevirtual 120, 3) := dk_182 0 120 (dk_at dksX33_pending_0 8 rfl rfl)
theorem dX33_pending_11 : decode cX33_pending 11 = .ok (.astore 4, 2) := dk_58 4 (dk_at dksX33_pending_0 11 rfl rfl)
theorem dX33_pending_13 : decode cX33_pending 13 = .ok (.aload_n 0, 1) := dk_42 (dk_at dksX33_pending_0 13 rfl rfl)
theorem dX33_pending_14 : decode cX33_pending 14 = .ok (.aload_n 1, 1) := dk_43 (dk_at dksX33_pending_0 14 rfl rfl)
theorem dX33_pending_15 : decode cX33_pending 15 = .ok (.getfield 105, 3) := dk_180 0 105 (dk_at dksX33_pending_0 15 rfl rfl)
theorem dX33_pending_18 : decode cX33_pending 18 = .ok (.invokevirtual 109, 3) := dk_182 0 109 (dk_at dksX33_pending_0 18 rfl rfl)
theorem dX33_pending_21 : decode cX33_pending 21 = .ok (.aload_n 0, 1) := dk_42 (dk_at dksX33_pending_0 21 rfl rfl)
theorem dX33_pending_22 : decode cX33_pending 22 = .ok (.invokevirtual 124, 3) := dk_182 0 124 (dk_at dksX33_pending_1 0 rfl rfl)
theorem dX33_pending_25 : decode cX33_pending 25 = .ok (.aload_n 0, 1) := dk_42 (dk_at dksX33_pending_1 3 rfl rfl)
theorem dX33_pending_26 : decode cX33_pending 26 = .ok (.getfield 22, 3) := dk_180 0 22 (dk_at dksX33_pending_1 4 rfl rfl)
theorem dX33_pending_29 : decode cX33_pending 29 = .ok (.istore 5, 2) := dk_54 5 (dk_at dksX33_pending_1 7 rfl rfl)
theorem dX33_pending_31 : decode cX33_pending 31 = .ok (.aload_n 0, 1) := dk_42 (dk_at dksX33_pending_1 9 rfl rfl)
theorem dX33_pending_32 : decode cX33_pending 32 = .ok (.iconst 5, 1) := dk_8 (dk_at dksX33_pending_1 10 rfl rfl)
theorem dX33_pending_33 : decode cX33_pending 33 = .ok (.iconst 0, 1) := dk_3 (dk_at dksX33_pending_1 11 rfl rfl)
theorem dX33_pending_34 : decode cX33_pending 34 = .ok (.iconst 0, 1) := dk_3 (dk_at dksX33_pending_1 12 rfl rfl)
theorem dX33_pending_35 : decode cX33_pending 35 = .ok (.invokevirtual 51, 3) := dk_182 0 51 (dk_at dksX33_pending_1 13 rfl rfl)
theorem dX33_pending_38 : decode cX33_pending 38 = .ok (.istore 6, 2) := dk_54 6 (dk_at dksX33_pending_1 16 rfl rfl)
theorem dX33_pending_40 : decode cX33_pending 40 = .ok (.aload_n 0, 1) := dk_42 (dk_at dksX33_pending_1 18 rfl rfl)
theorem dX33_pending_41 : decode cX33_pending 41 = .ok (.aload 4, 2) := dk_25 4 (dk_at dksX33_pending_1 19 rfl rfl)
theorem dX33_pending_43 : decode cX33_pending 43 = .ok (.iload_n 3, 1) := dk_29 (dk_at dksX33_pending_1 21 rfl rfl)
theorem dX33_pending_44 : decode cX33_pending 44 = .ok (.iload 5, 2) := dk_21 5 (dk_at dksX33_pending_1 22 rfl rfl)
theorem dX33_pending_46 : decode cX33_pending 46 = .ok (.aload_n 0, 1) := dk_42 (dk_at dksX33_pending_2 0 rfl rfl)
theorem dX33_pending_47 : decode cX33_pending 47 = .ok (.getfield 22, 3) := dk_180 0 22 (dk_at dksX33_pending_2 1 rfl rfl)
theorem dX33_pending_50 : decode cX33_pending 50 = .ok (.bipush (-9), 2) := dk_16 247 (dk_at dksX33_pending_2 4 rfl rfl)
theorem dX33_pending_52 : decode cX33_pending 52 = .ok (.aload_n 1, 1) := dk_43 (dk_at dksX33_pending_2 6 rfl rfl)
theorem dX33_pending_53 : decode cX33_pending 53 = .ok (.bipush 7, 2) := dk_16 7 (dk_at dksX33_pending_2 7 rfl rfl)
theorem dX33_pending_55 : decode cX33_pending 55 = .ok (.invokevirtual 98, 3) := dk_182 0 98 (dk_at dksX33_pending_2 9 rfl rfl)
theorem dX33_pending_58 : decode cX33_pending 58 = .ok (.invokevirtual 127, 3) := dk_182 0 127 (dk_at dksX33_pending_2 12 rfl rfl)
theorem dX33_pending_61 : decode cX33_pending 61 = .ok (.aload_n 0, 1) := dk_42 (dk_at dksX33_pending_2 15 rfl rfl)
theorem dX33_pending_62 : decode cX33_pending 62 = .ok (.iload_n 2, 1) := dk_28 (dk_at dksX33_pending_2 16 rfl rfl)
theorem dX33_pending_63 : decode cX33_pending 63 = .ok (.iconst 4, 1) := dk_7 (dk_at dksX33_pending_2 17 rfl rfl)
theorem dX33_pending_64 : decode cX33_pending 64 = .ok (.if_icmp .ne 8, 3) := dk_160 0 8 (dk_at dksX33_pending_2 18 rfl rfl)
theorem dX33_pending_67 : decode cX33_pending 67 = .ok (.bipush 16, 2) := dk_16 16 (dk_at dksX33_pending_2 21 rfl rfl)
theorem dX33_pending_69 : decode cX33_pending 69 = .ok (.goto 5, 3) := dk_167 0 5 (dk_at dksX33_pending_3 0 rfl rfl)
theorem dX33_pending_72 : decode cX33_pending 72 = .ok (.bipush 17, 2) := dk_16 17 (dk_at dksX33_pending_3 3 rfl rfl)
theorem dX33_pending_74 : decode cX33_pending 74 = .ok (.iconst 0, 1) := dk_3 (dk_at dksX33_pending_3 5 rfl rfl)
theorem dX33_pending_75 : decode cX33_pending 75 = .ok (.aload_n 1, 1) := dk_43 (dk_at dksX33_pending_3 6 rfl rfl)
theorem dX33_pending_76 : decode cX33_pending 76 = .ok (.iconst 1, 1) := dk_4 (dk_at dksX33_pending_3 7 rfl rfl)
theorem dX33_pending_77 : decode cX33_pending 77 = .ok (.invokevirtual 98, 3) := dk_182 0 98 (dk_at dksX33_pending_3 8 rfl rfl)
theorem dX33_pending_80 : decode cX33_pending 80 = .ok (.invokevirtual 51, 3) := dk_182 0 51 (dk_at dksX33_pending_3 11 rfl rfl)
theorem dX33_pending_83 : decode cX33_pending 83 = .ok (.pop, 1) := dk_87 (dk_at dksX33_pending_3 14 rfl rfl)
theorem dX33_pending_84 : decode cX33_pending 84 = .ok (.aload_n 0, 1) := dk_42 (dk_at dksX33_pending_3 15 rfl rfl)
theorem dX33_pending_85 : decode cX33_pending 85 = .ok (.bipush 15, 2) := dk_16 15 (dk_at dksX33_pending_3 16 rfl rfl)
theorem dX33_pending_87 : decode cX33_pending 87 = .ok (.iconst 0, 1) := dk_3 (dk_at dksX33_pending_3 18 rfl rfl)
theorem dX33_pending_88 : decode cX33_pending 88 = .ok (.aload_n 1, 1) := dk_43 (dk_at dksX33_pending_3 19 rfl rfl)
theorem dX33_pending_89 : decode cX33_pending 89 = .ok (.bipush 7, 2) := dk_16 7 (dk_at dksX33_pending_3 20 rfl rfl)
theorem dX33_pending_91 : decode cX33_pending 91 = .ok (.invokevirtual 98, 3) := dk_182 0 98 (dk_at dksX33_pending_4 0 rfl rfl)
theorem dX33_pending_94 : decode cX33_pending 94 = .ok (.invokevirtual 51, 3) := dk_182 0 51 (dk_at dksX33_pending_4 3 rfl rfl)
theorem dX33_pending_97 : decode cX33_pending 97 = .ok (.pop, 1) := dk_87 (dk_at dksX33_pending_4 6 rfl rfl)
theorem dX33_pending_98 : decode cX33_pending 98 = .ok (.aload_n 0, 1) := dk_42 (dk_at dksX33_pending_4 7 rfl rfl)
theorem dX33_pending_99 : decode cX33_pending 99 = .ok (.iload 6, 2) := dk_21 6 (dk_at dksX33_pending_4 8 rfl rfl)
theorem dX33_pending_101 : decode cX33_pending 101 = .ok (.aload_n 0, 1) := dk_42 (dk_at dksX33_pending_4 10 rfl rfl)
theorem dX33_pending_102 : decode cX33_pending 102 = .ok (.getfield 22, 3) := dk_180 0 22 (dk_at dksX33_pending_4 11 rfl rfl)
theorem dX33_pending_105 : decode cX33_pending 105 = .ok (.invokevirtual 102, 3) := dk_182 0 102 (dk_at dksX33_pending_4 14 rfl rfl)
theorem dX33_pending_108 : decode cX33_pending 108 = .ok (.return_, 1) := dk_177 (dk_at dksX33_pending_4 17 rfl rfl)
theorem okX33_pending_0 : XOkL xms rX33_pending bX33_pending_0 := xcP (xok_aload_n dX33_pending_0 rfl) rfl (xcP (xok_getfield (ref := "WaysAtlas$Lower") (Or.inl ⟨rfl, by decide⟩) dX33_pending_1 (Or.inl ⟨q1244, (Or.inl rfl)⟩) xh100) rfl (xcP (xok_istore_n dX33_pending_4 rfl) rfl (xcP (xok_aload_n dX33_pending_5 rfl) rfl (xcP (xok_iload_n dX33_pending_6 rfl) rfl (xcP (xok_aload_n dX33_pending_7 rfl) rfl (xcC0 (xokc_list (List.forall_mem_cons.mpr ⟨xokc_V (r := (RX33, TX33, 6)) xm280 (List.mem_of_getElem? (i := 30) rfl) (by decide) rfl dX33_pending_8 q1324 q1325 q1326 q179 q1327 (by decide +kernel), fun _ h => nomatch h⟩)) rfl (xcP (xok_astore dX33_pending_11) rfl (xcP (xok_aload_n dX33_pending_13 rfl) rfl (xcP (xok_aload_n dX33_pending_14 rfl) rfl (xcP (xok_getfield (ref := "WaysAtlas$Guard") (Or.inr ⟨rfl, by decide⟩) dX33_pending_15 (Or.inr ⟨⟨"WaysAtlas", (List.mem_of_getElem? (i := 19) rfl)⟩, (Or.inl rfl)⟩) xh1138) rfl (xcC0 (xokc_list (List.forall_mem_cons.mpr ⟨xokc_V (r := (RX33, TX33, 6)) xm275 (List.mem_of_getElem? (i := 30) rfl) (by decide) rfl dX33_pending_18 q1274 q1275 q1276 q179 q1277 (by decide +kernel), fun _ h => nomatch h⟩)) rfl (xcP (xok_aload_n dX33_pending_21 rfl) rfl (xcC0 (xokc_list (List.forall_mem_cons.mpr ⟨xokc_V (r := (RX33, TX33, 6)) xm281 (List.mem_of_getElem? (i := 30) rfl) (by decide) rfl dX33_pending_22 q1365 q1366 q1367 q179 q1368 (by decide +kernel), fun _ h => nomatch h⟩)) rfl (xcP (xok_aload_n dX33_pending_25 rfl) rfl (xcP (xok_getfield (ref := "WaysAtlas$Lower") (Or.inl ⟨rfl, by decide⟩) dX33_pending_26 (Or.inl ⟨q1244, (Or.inl rfl)⟩) xh100) rfl (xcP (xok_istore dX33_pending_29) rfl (xcP (xok_aload_n dX33_pending_31 rfl) rfl (xcP (xok_iconst dX33_pending_32 rfl) rfl (xcP (xok_iconst dX33_pending_33 rfl) rfl (xcP (xok_iconst dX33_pending_34 rfl) rfl (xcC0 (xokc_list (List.forall_mem_cons.mpr ⟨xokc_V (r := (RX33, TX33, 6)) xm276 (List.mem_of_getElem? (i := 30) rfl) (by decide) rfl dX33_pending_35 q1279 q1280 q1281 q179 q1282 (by decide +kernel), fun _ h => nomatch h⟩)) rfl (xcP (xok_istore dX33_pending_38) rfl (xcP (xok_aload_n dX33_pending_40 rfl) rfl (xcP (xok_aload dX33_pending_41) rfl (xcP (xok_iload_n dX33_pending_43 rfl) rfl (xcP (xok_iload dX33_pending_44) rfl (xcP (xok_aload_n dX33_pending_46 rfl) rfl (xcP (xok_getfield (ref := "WaysAtlas$Lower") (Or.inl ⟨rfl, by decide⟩) dX33_pending_47 (Or.inl ⟨q1244, (Or.inl rfl)⟩) xh100) rfl (xcP (xok_bipush dX33_pending_50 rfl) rfl (xcP (xok_aload_n dX33_pending_52 rfl) rfl (xcP (xok_bipush dX33_pending_53 rfl) rfl (xcC0 (xokc_list (List.forall_mem_cons.mpr ⟨xokc_V (r := (RX31, TX31, 7)) xm261 (List.mem_of_getElem? (i := 28) rfl) (by decide) rfl dX33_pending_55 q1369 q1370 q1371 q176 q1372 (by decide +kernel), fun _ h => nomatch h⟩)) rfl (xcC0 (xokc_list (List.forall_mem_cons.mpr ⟨xokc_V (r := (RX33, TX33, 6)) xm282 (List.mem_of_getElem? (i := 30) rfl) (by decide) rfl dX33_pending_58 q1373 q1375 qs35 q179 q1376 (by decide +kernel), fun _ h => nomatch h⟩)) rfl (xcP (xok_aload_n dX33_pending_61 rfl) rfl (xcP (xok_iload_n dX33_pending_62 rfl) rfl (xcP (xok_iconst dX33_pending_63 rfl) rfl (xcP (xok_icmpne dX33_pending_64 (by decide)) rfl (xcP (xok_bipush dX33_pending_67 rfl) rfl (xcP (xok_goto dX33_pending_69 (by decide)) rfl trivial)))))))))))))))))))))))))))))))))))))))
theorem okX33_pending_72 : XOkL xms rX33_pending bX33_pending_72 := xcP (xok_bipush dX33_pending_72 rfl) rfl (xcP xok_fal rfl trivial)
theorem okX33_pending_74 : XOkL xms rX33_pending bX33_pending_74 := xcP (xok_iconst dX33_pending_74 rfl) rfl (xcP (xok_aload_n dX33_pending_75 rfl) rfl (xcP (xok_iconst dX33_pending_76 rfl) rfl (xcC0 (xokc_list (List.forall_mem_cons.mpr ⟨xokc_V (r := (RX31, TX31, 7)) xm261 (List.mem_of_getElem? (i := 28) rfl) (by decide) rfl dX33_pending_77 q1369 q1370 q1371 q176 q1372 (by decide +kernel), fun _ h => nomatch h⟩)) rfl (xcC0 (xokc_list (List.forall_mem_cons.mpr ⟨xokc_V (r := (RX33, TX33, 6)) xm276 (List.mem_of_getElem? (i := 30) rfl) (by decide) rfl dX33_pending_80 q1279 q1280 q1281 q179 q1282 (by decide +kernel), fun _ h => nomatch h⟩)) rfl (xcP (xok_pop dX33_pending_83) rfl (xcP (xok_aload_n dX33_pending_84 rfl) rfl (xcP (xok_bipush dX33_pending_85 rfl) rfl (xcP (xok_iconst dX33_pending_87 rfl) rfl (xcP (xok_aload_n dX33_pending_88 rfl) rfl (xcP (xok_bipush dX33_pending_89 rfl) rfl (xcC0 (xokc_list (List.forall_mem_cons.mpr ⟨xokc_V (r := (RX31, TX31, 7)) xm261 (List.mem_of_getElem? (i := 28) rfl) (by decide) rfl dX33_pending_91 q1369 q1370 q1371 q176 q1372 (by decide +kernel), fun _ h => nomatch h⟩)) rfl (xcC0 (xokc_list (List.forall_mem_cons.mpr ⟨xokc_V (r := (RX33, TX33, 6)) xm276 (List.mem_of_getElem? (i := 30) rfl) (by decide) rfl dX33_pending_94 q1279 q1280 q1281 q179 q1282 (by decide +kernel), fun _ h => nomatch h⟩)) rfl (xcP (xok_pop dX33_pending_97) rfl (xcP (xok_aload_n dX33_pending_98 rfl) rfl (xcP (xok_iload dX33_pending_99) rfl (xcP (xok_aload_n dX33_pending_101 rfl) rfl (xcP (xok_getfield (ref := "WaysAtlas$Lower") (Or.inl ⟨rfl, by decide⟩) dX33_pending_102 (Or.inl ⟨q1244, (Or.inl rfl)⟩) xh100) rfl (xcC0 (xokc_list (List.forall_mem_cons.mpr ⟨xokc_V (r := (RX33, TX33, 6)) xm284 (List.mem_of_getElem? (i := 30) rfl) (by decide) rfl dX33_pending_105 q1381 q1382 q1383 q179 q1384 (by decide +kernel), fun _ h => nomatch h⟩)) rfl (xcR ⟨dX33_pending_108, rfl⟩)))))))))))))))))))
theorem okM_X33_pending : XOkM xms rX33_pending := xokM0 (List.forall_mem_cons.mpr ⟨⟨rfl, okX33_pending_0⟩, List.forall_mem_cons.mpr ⟨⟨rfl, okX33_pending_72⟩, List.forall_mem_cons.mpr ⟨⟨rfl, okX33_pending_74⟩, fun _ h => nomatch h⟩⟩⟩) (xokH0 rfl (fun _ _ => rfl)) (by decide +kernel) (by decide)
abbrev cX33_copied : ByteArray := prog_10_method_15_code
def dkwX33_copied_3 : List UInt8 := [182, 0, 98, 182, 0, 51, 87, 42, 21, 5, 42, 180, 0, 22, 182, 0, 102, 177]
abbrev dktX33_copied_3 : List UInt8 := dkwX33_copied_3 ++ []
def dkwX33_copied_2 : List UInt8 := [42, 16, 12, 43, 180, 0, 119, 3, 182, 0, 51, 87, 42, 43, 7, 182, 0, 154, 42, 16, 15, 3, 43, 4]
abbrev dktX33_copied_2 : List UInt8 := dkwX33_copied_2 ++ dktX33_copied_3
def dkwX33_copied_1 : List UInt8 := [182, 0, 51, 54, 5, 42, 44, 29, 21, 4, 42, 180, 0, 22, 16, 247, 43, 4, 182, 0, 98, 182, 0, 127]
abbrev dktX33_copied_1 : List UInt8 := dkwX33_copied_1 ++ dktX33_copied_2
def dkwX33_copied_0 : List UInt8 := [42, 16, 12, 43, 180, 0, 119, 3, 182, 0, 51, 87, 42, 43, 180, 0, 105, 182, 0, 109, 42, 8, 3, 3]
abbrev dktX33_copied_0 : List UInt8 := dkwX33_copied_0 ++ dktX33_copied_1
theorem dksX33_copied_0 : cX33_copied.data.toList.drop 0 = dktX33_copied_0 := by decide +kernel
theorem dksX33_copied_1 : cX33_copied.data.toList.drop 24 = dktX33_copied_1 := dk_seg dksX33_copied_0 24 rfl rfl
theorem dksX33_copied_2 : cX33_copied.data.toList.drop 48 = dktX33_copied_2 := dk_seg dksX33_copied_1 24 rfl rfl
theorem dksX33_copied_3 : cX33_copied.data.toList.drop 72 = dktX33_copied_3 := dk_seg dksX33_copied_2 24 rfl rfl
theorem dX33_copied_0 : decode cX33_copied 0 = .ok (.aload_n 0, 1) := dk_42 (dk_at dksX33_copied_0 0 rfl rfl)
theorem dX33_copied_1 : decode cX33_copied 1 = .ok (.bipush 12, 2) := dk_16 12 (dk_at dksX33_copied_0 1 rfl rfl)
theorem dX33_copied_3 : decode cX33_copied 3 = .ok (.aload_n 1, 1) := dk_43 (dk_at dksX33_copied_0 3 rfl rfl)
theorem dX33_copied_4 : decode cX33_copied 4 = .ok (.getfield 119, 3) := dk_180 0 119 (dk_at dksX33_copied_0 4 rfl rfl)
theorem dX33_copied_7 : decode cX33_copied 7 = .ok (.iconst 0, 1) := dk_3 (dk_at dksX33_copied_0 7 rfl rfl)
theorem dX33_copied_8 : decode cX33_copied 8 = .ok (.invokevirtual 51, 3) := dk_182 0 51 (dk_at dksX33_copied_0 8 rfl rfl)
theorem dX33_copied_11 : decode cX33_copied 11 = .ok (.pop, 1) := dk_87 (dk_at dksX33_copied_0 11 rfl rfl)
theorem dX33_copied_12 : decode cX33_copied 12 = .ok (.aload_n 0, 1) := dk_42 (dk_at dksX33_copied_0 12 rfl rfl)
theorem dX33_copied_13 : decode cX33_copied 13 = .ok (.aload_n 1, 1) := dk_43 (dk_at dksX33_copied_0 13 rfl rfl)
theorem dX33_copied_14 : decode cX33_copied 14 = .ok (.getfield 105, 3) := dk_180 0 105 (dk_at dksX33_copied_0 14 rfl rfl)
theorem dX33_copied_17 : decode cX33_copied 17 = .ok (.invokevirtual 109, 3) := dk_182 0 109 (dk_at dksX33_copied_0 17 rfl rfl)
theorem dX33_copied_20 : decode cX33_copied 20 = .ok (.aload_n 0, 1) := dk_42 (dk_at dksX33_copied_0 20 rfl rfl)
theorem dX33_copied_21 : decode cX33_copied 21 = .ok (.iconst 5, 1) := dk_8 (dk_at dksX33_copied_0 21 rfl rfl)
theorem dX33_copied_22 : decode cX33_copied 22 = .ok (.iconst 0, 1) := dk_3 (dk_at dksX33_copied_0 22 rfl rfl)
theorem dX33_copied_23 : decode cX33_copied 23 = .ok (.iconst 0, 1) := dk_3 (dk_at dksX33_copied_0 23 rfl rfl)
theorem dX33_copied_24 : decode cX33_copied 24 = .ok (.invokevirtual 51, 3) := dk_182 0 51 (dk_at dksX33_copied_1 0 rfl rfl)
theorem dX33_copied_27 : decode cX33_copied 27 = .ok (.istore 5, 2) := dk_54 5 (dk_at dksX33_copied_1 3 rfl rfl)
theorem dX33_copied_29 : decode cX33_copied 29 = .ok (.aload_n 0, 1) := dk_42 (dk_at dksX33_copied_1 5 rfl rfl)
theorem dX33_copied_30 : decode cX33_copied 30 = .ok (.aload_n 2, 1) := dk_44 (dk_at dksX33_copied_1 6 rfl rfl)
theorem dX33_copied_31 : decode cX33_copied 31 = .ok (.iload_n 3, 1) := dk_29 (dk_at dksX33_copied_1 7 rfl rfl)
theorem dX33_copied_32 : decode cX33_copied 32 = .ok (.iload 4, 2) := dk_21 4 (dk_at dksX33_copied_1 8 rfl rfl)
theorem dX33_copied_34 : decode cX33_copied 34 = .ok (.aload_n 0, 1) := dk_42 (dk_at dksX33_copied_1 10 rfl rfl)
theorem dX33_copied_35 : decode cX33_copied 35 = .ok (.getfield 22, 3) := dk_180 0 22 (dk_at dksX33_copied_1 11 rfl rfl)
theorem dX33_copied_38 : decode cX33_copied 38 = .ok (.bipush (-9), 2) := dk_16 247 (dk_at dksX33_copied_1 14 rfl rfl)
theorem dX33_copied_40 : decode cX33_copied 40 = .ok (.aload_n 1, 1) := dk_43 (dk_at dksX33_copied_1 16 rfl rfl)
theorem dX33_copied_41 : decode cX33_copied 41 = .ok (.iconst 1, 1) := dk_4 (dk_at dksX33_copied_1 17 rfl rfl)
theorem dX33_copied_42 : decode cX33_copied 42 = .ok (.invokevirtual 98, 3) := dk_182 0 98 (dk_at dksX33_copied_1 18 rfl rfl)
theorem dX33_copied_45 : decode cX33_copied 45 = .ok (.invokevirtual 127, 3) := dk_182 0 127 (dk_at dksX33_copied_1 21 rfl rfl)
theorem dX33_copied_48 : decode cX33_copied 48 = .ok (.aload_n 0, 1) := dk_42 (dk_at dksX33_copied_2 0 rfl rfl)
theorem dX33_copied_49 : decode cX33_copied 49 = .ok (.bipush 12, 2) := dk_16 12 (dk_at dksX33_copied_2 1 rfl rfl)
theorem dX33_copied_51 : decode cX33_copied 51 = .ok (.aload_n 1, 1) := dk_43 (dk_at dksX33_copied_2 3 rfl rfl)
theorem dX33_copied_52 : decode cX33_copied 52 = .ok (.getfield 119, 3) := dk_180 0 119 (dk_at dksX33_copied_2 4 rfl rfl)
theorem dX33_copied_55 : decode cX33_copied 55 = .ok (.iconst 0, 1) := dk_3 (dk_at dksX33_copied_2 7 rfl rfl)
theorem dX33_copied_56 : decode cX33_copied 56 = .ok (.invokevirtual 51, 3) := dk_182 0 51 (dk_at dksX33_copied_2 8 rfl rfl)
theorem dX33_copied_59 : decode cX33_copied 59 = .ok (.pop, 1) := dk_87 (dk_at dksX33_copied_2 11 rfl rfl)
theorem dX33_copied_60 : decode cX33_copied 60 = .ok (.aload_n 0, 1) := dk_42 (dk_at dksX33_copied_2 12 rfl rfl)
theorem dX33_copied_61 : decode cX33_copied 61 = .ok (.aload_n 1, 1) := dk_43 (dk_at dksX33_copied_2 13 rfl rfl)
theorem dX33_copied_62 : decode cX33_copied 62 = .ok (.iconst 4, 1) := dk_7 (dk_at dksX33_copied_2 14 rfl rfl)
theorem dX33_copied_63 : decode cX33_copied 63 = .ok (.invokevirtual 154, 3) := dk_182 0 154 (dk_at dksX33_copied_2 15 rfl rfl)
theorem dX33_copied_66 : decode cX33_copied 66 = .ok (.aload_n 0, 1) := dk_42 (dk_at dksX33_copied_2 18 rfl rfl)
theorem dX33_copied_67 : decode cX33_copied 67 = .ok (.bipush 15, 2) := dk_16 15 (dk_at dksX33_copied_2 19 rfl rfl)
theorem dX33_copied_69 : decode cX33_copied 69 = .ok (.iconst 0, 1) := dk_3 (dk_at dksX33_copied_2 21 rfl rfl)
theorem dX33_copied_70 : decode cX33_copied 70 = .ok (.aload_n 1, 1) := dk_43 (dk_at dksX33_copied_2 22 rfl rfl)
theorem dX33_copied_71 : decode cX33_copied 71 = .ok (.iconst 1, 1) := dk_4 (dk_at dksX33_copied_2 23 rfl rfl)
theorem dX33_copied_72 : decode cX33_copied 72 = .ok (.invokevirtual 98, 3) := dk_182 0 98 (dk_at dksX33_copied_3 0 rfl rfl)
theorem dX33_copied_75 : decode cX33_copied 75 = .ok (.invokevirtual 51, 3) := dk_182 0 51 (dk_at dksX33_copied_3 3 rfl rfl)
theorem dX33_copied_78 : decode cX33_copied 78 = .ok (.pop, 1) := dk_87 (dk_at dksX33_copied_3 6 rfl rfl)
theorem dX33_copied_79 : decode cX33_copied 79 = .ok (.aload_n 0, 1) := dk_42 (dk_at dksX33_copied_3 7 rfl rfl)
theorem dX33_copied_80 : decode cX33_copied 80 = .ok (.iload 5, 2) := dk_21 5 (dk_at dksX33_copied_3 8 rfl rfl)
theorem dX33_copied_82 : decode cX33_copied 82 = .ok (.aload_n 0, 1) := dk_42 (dk_at dksX33_copied_3 10 rfl rfl)
theorem dX33_copied_83 : decode cX33_copied 83 = .ok (.getfield 22, 3) := dk_180 0 22 (dk_at dksX33_copied_3 11 rfl rfl)
theorem dX33_copied_86 : decode cX33_copied 86 = .ok (.invokevirtual 102, 3) := dk_182 0 102 (dk_at dksX33_copied_3 14 rfl rfl)
theorem dX33_copied_89 : decode cX33_copied 89 = .ok (.return_, 1) := dk_177 (dk_at dksX33_copied_3 17 rfl rfl)
theorem okX33_copied_0 : XOkL xms rX33_copied bX33_copied_0 := xcP (xok_aload_n dX33_copied_0 rfl) rfl (xcP (xok_bipush dX33_copied_1 rfl) rfl (xcP (xok_aload_n dX33_copied_3 rfl) rfl (xcP (xok_getfield (ref := "WaysAtlas$Guard") (Or.inl ⟨rfl, by decide⟩) dX33_copied_4 (Or.inl ⟨q988, (Or.inr q971)⟩) xh82) rfl (xcP (xok_iconst dX33_copied_7 rfl) rfl (xcC0 (xokc_list (List.forall_mem_cons.mpr ⟨xokc_V (r := (RX33, TX33, 6)) xm276 (List.mem_of_getElem? (i := 30) rfl) (by decide) rfl dX33_copied_8 q1279 q1280 q1281 q179 q1282 (by decide +kernel), fun _ h => nomatch h⟩)) rfl (xcP (xok_pop dX33_copied_11) rfl (xcP (xok_aload_n dX33_copied_12 rfl) rfl (xcP (xok_aload_n dX33_copied_13 rfl) rfl (xcP (xok_getfield (ref := "WaysAtlas$Guard") (Or.inr ⟨rfl, by decide⟩) dX33_copied_14 (Or.inr ⟨⟨"WaysAtlas", (List.mem_of_getElem? (i := 19) rfl)⟩, (Or.inl rfl)⟩) xh1138) rfl (xcC0 (xokc_list (List.forall_mem_cons.mpr ⟨xokc_V (r := (RX33, TX33, 6)) xm275 (List.mem_of_getElem? (i := 30) rfl) (by decide) rfl dX33_copied_17 q1274 q1275 q1276 q179 q1277 (by decide +kernel), fun _ h => nomatch h⟩)) rfl (xcP (xok_aload_n dX33_copied_20 rfl) rfl (xcP (xok_iconst dX33_copied_21 rfl) rfl (xcP (xok_iconst dX33_copied_22 rfl) rfl (xcP (xok_iconst dX33_copied_23 rfl) rfl (xcC0 (xokc_list (List.forall_mem_cons.mpr ⟨xokc_V (r := (RX33, TX33, 6)) xm276 (List.mem_of_getElem? (i := 30) rfl) (by decide) rfl dX33_copied_24 q1279 q1280 q1281 q179 q1282 (by decide +kernel), fun _ h => nomatch h⟩)) rfl (xcP (xok_istore dX33_copied_27) rfl (xcP (xok_aload_n dX33_copied_29 rfl) rfl (xcP (xok_aload_n dX33_copied_30 rfl) rfl (xcP (xok_iload_n dX33_copied_31 rfl) rfl (xcP (xok_iload dX33_copied_32) rfl (xcP (xok_aload_n dX33_copied_34 rfl) rfl (xcP (xok_getfield (ref := "WaysAtlas$Lower") (Or.inl ⟨rfl, by decide⟩) dX33_copied_35 (Or.inl ⟨q1244, (Or.inl rfl)⟩) xh100) rfl (xcP (xok_bipush dX33_copied_38 rfl) rfl (xcP (xok_aload_n dX33_copied_40 rfl) rfl (xcP (xok_iconst dX33_copied_41 rfl) rfl (xcC0 (xokc_list (List.forall_mem_cons.mpr ⟨xokc_V (r := (RX31, TX31, 7)) xm261 (List.mem_of_getElem? (i := 28) rfl) (by decide) rfl dX33_copied_42 q1369 q1370 q1371 q176 q1372 (by decide +kernel), fun _ h => nomatch h⟩)) rfl (xcC0 (xokc_list (List.forall_mem_cons.mpr ⟨xokc_V (r := (RX33, TX33, 6)) xm282 (List.mem_of_getElem? (i := 30) rfl) (by decide) rfl dX33_copied_45 q1373 q1375 qs35 q179 q1376 (by decide +kernel), fun _ h => nomatch h⟩)) rfl (xcP (xok_aload_n dX33_copied_48 rfl) rfl (xcP (xok_bipush dX33_copied_49 rfl) rfl (xcP (xok_aload_n dX33_copied_51 rfl) rfl (xcP (xok_getfield (ref := "WaysAtlas$Guard") (Or.inl ⟨rfl, by decide⟩) dX33_copied_52 (Or.inl ⟨q988, (Or.inr q971)⟩) xh82) rfl (xcP (xok_iconst dX33_copied_55 rfl) rfl (xcC0 (xokc_list (List.forall_mem_cons.mpr ⟨xokc_V (r := (RX33, TX33, 6)) xm276 (List.mem_of_getElem? (i := 30) rfl) (by decide) rfl dX33_copied_56 q1279 q1280 q1281 q179 q1282 (by decide +kernel), fun _ h => nomatch h⟩)) rfl (xcP (xok_pop dX33_copied_59) rfl (xcP (xok_aload_n dX33_copied_60 rfl) rfl (xcP (xok_aload_n dX33_copied_61 rfl) rfl (xcP (xok_iconst dX33_copied_62 rfl) rfl (xcC0 (xokc_list (List.forall_mem_cons.mpr ⟨xokc_V (r := (RX33, TX33, 6)) xm286 (List.mem_of_getElem? (i := 30) rfl) (by decide) rfl dX33_copied_63 q1394 q1396 qs38 q179 q1397 (by decide +kernel), fun _ h => nomatch h⟩)) rfl (xcP (xok_aload_n dX33_copied_66 rfl) rfl (xcP (xok_bipush dX33_copied_67 rfl) rfl (xcP (xok_iconst dX33_copied_69 rfl) rfl (xcP (xok_aload_n dX33_copied_70 rfl) rfl (xcP (xok_iconst dX33_copied_71 rfl) rfl (xcC0 (xokc_list (List.forall_mem_cons.mpr ⟨xokc_V (r := (RX31, TX31, 7)) xm261 (List.mem_of_getElem? (i := 28) rfl) (by decide) rfl dX33_copied_72 q1369 q1370 q1371 q176 q1372 (by decide +kernel), fun _ h => nomatch h⟩)) rfl (xcC0 (xokc_list (List.forall_mem_cons.mpr ⟨xokc_V (r := (RX33, TX33, 6)) xm276 (List.mem_of_getElem? (i := 30) rfl) (by decide) rfl dX33_copied_75 q1279 q1280 q1281 q179 q1282 (by decide +kernel), fun _ h => nomatch h⟩)) rfl (xcP (xok_pop dX33_copied_78) rfl (xcP (xok_aload_n dX33_copied_79 rfl) rfl (xcP (xok_iload dX33_copied_80) rfl (xcP (xok_aload_n dX33_copied_82 rfl) rfl (xcP (xok_getfield (ref := "WaysAtlas$Lower") (Or.inl ⟨rfl, by decide⟩) dX33_copied_83 (Or.inl ⟨q1244, (Or.inl rfl)⟩) xh100) rfl (xcC0 (xokc_list (List.forall_mem_cons.mpr ⟨xokc_V (r := (RX33, TX33, 6)) xm284 (List.mem_of_getElem? (i := 30) rfl) (by decide) rfl dX33_copied_86 q1381 q1382 q1383 q179 q1384 (by decide +kernel), fun _ h => nomatch h⟩)) rfl (xcR ⟨dX33_copied_89, rfl⟩))))))))))))))))))))))))))))))))))))))))))))))))))))
theorem okM_X33_copied : XOkM xms rX33_copied := xokM0 (List.forall_mem_cons.mpr ⟨⟨rfl, okX33_copied_0⟩, fun _ h => nomatch h⟩) (xokH0 rfl (fun _ _ => rfl)) (by decide +kernel) (by decide)
abbrev cX33_leaves : ByteArray := prog_10_method_10_code
def dkwX33_leaves_9 : List UInt8 := [167, 255, 225, 42, 44, 181, 0, 32, 177]
abbrev dktX33_leaves_9 : List UInt8 := dkwX33_leaves_9 ++ []
def dkwX33_leaves_8 : List UInt8 := [25, 5, 21, 8, 46, 42, 180, 0, 22, 182, 0, 88, 25, 7, 180, 0, 39, 58, 7, 132, 8, 1]
abbrev dktX33_leaves_8 : List UInt8 := dkwX33_leaves_8 ++ dktX33_leaves_9
def dkwX33_leaves_7 : List UInt8 := [8, 3, 3, 182, 0, 51, 182, 0, 84, 44, 58, 7, 3, 54, 8, 21, 8, 21, 6, 162, 0, 30, 25, 7]
abbrev dktX33_leaves_7 : List UInt8 := dkwX33_leaves_7 ++ dktX33_leaves_8
def dkwX33_leaves_6 : List UInt8 := [17, 0, 200, 161, 0, 18, 42, 8, 3, 25, 4, 180, 0, 81, 182, 0, 51, 87, 167, 0, 15, 25, 4, 42]
abbrev dktX33_leaves_6 : List UInt8 := dkwX33_leaves_6 ++ dktX33_leaves_7
def dkwX33_leaves_5 : List UInt8 := [58, 4, 167, 255, 187, 27, 4, 160, 0, 15, 42, 16, 22, 3, 3, 182, 0, 51, 87, 167, 0, 37, 27]
abbrev dktX33_leaves_5 : List UInt8 := dkwX33_leaves_5 ++ dktX33_leaves_6
def dkwX33_leaves_4 : List UInt8 := [132, 6, 1, 42, 25, 4, 180, 0, 39, 181, 0, 32, 42, 25, 4, 27, 182, 0, 77, 25, 4, 180, 0, 39]
abbrev dktX33_leaves_4 : List UInt8 := dkwX33_leaves_4 ++ dktX33_leaves_5
def dkwX33_leaves_3 : List UInt8 := [25, 4, 180, 0, 74, 154, 0, 7, 4, 167, 0, 4, 3, 100, 62, 25, 5, 21, 6, 42, 180, 0, 22, 79]
abbrev dktX33_leaves_3 : List UInt8 := dkwX33_leaves_3 ++ dktX33_leaves_4
def dkwX33_leaves_2 : List UInt8 := [58, 5, 3, 54, 6, 25, 4, 198, 0, 70, 25, 4, 180, 0, 74, 154, 0, 8, 29, 4, 159, 0, 57, 29]
abbrev dktX33_leaves_2 : List UInt8 := dkwX33_leaves_2 ++ dktX33_leaves_3
def dkwX33_leaves_1 : List UInt8 := [161, 0, 10, 27, 16, 100, 100, 167, 0, 5, 16, 80, 62, 42, 180, 0, 32, 58, 4, 16, 40, 188, 10]
abbrev dktX33_leaves_1 : List UInt8 := dkwX33_leaves_1 ++ dktX33_leaves_2
def dkwX33_leaves_0 : List UInt8 := [42, 180, 0, 32, 77, 27, 17, 0, 200, 161, 0, 11, 27, 17, 0, 200, 100, 167, 0, 18, 27, 16, 100]
abbrev dktX33_leaves_0 : List UInt8 := dkwX33_leaves_0 ++ dktX33_leaves_1
theorem dksX33_leaves_0 : cX33_leaves.data.toList.drop 0 = dktX33_leaves_0 := by decide +kernel
theorem dksX33_leaves_1 : cX33_leaves.data.toList.drop 23 = dktX33_leaves_1 := dk_seg dksX33_leaves_0 23 rfl rfl
theorem dksX33_leaves_2 : cX33_leaves.data.toList.drop 46 = dktX33_leaves_2 := dk_seg dksX33_leaves_1 23 rfl rfl
theorem dksX33_leaves_3 : cX33_leaves.data.toList.drop 70 = dktX33_leaves_3 := dk_seg dksX33_leaves_2 24 rfl rfl
theorem dksX33_leaves_4 : cX33_leaves.data.toList.drop 94 = dktX33_leaves_4 := dk_seg dksX33_leaves_3 24 rfl rfl
theorem dksX33_leaves_5 : cX33_leaves.data.toList.drop 118 = dktX33_leaves_5 := dk_seg dksX33_leaves_4 24 rfl rfl
theorem dksX33_leaves_6 : cX33_leaves.data.toList.drop 141 = dktX33_leaves_6 := dk_seg dksX33_leaves_5 23 rfl rfl
theorem dksX33_leaves_7 : cX33_leaves.data.toList.drop 165 = dktX33_leaves_7 := dk_seg dksX33_leaves_6 24 rfl rfl
theorem dksX33_leaves_8 : cX33_leaves.data.toList.drop 189 = dktX33_leaves_8 := dk_seg dksX33_leaves_7 24 rfl rfl
theorem dksX33_leaves_9 : cX33_leaves.data.toList.drop 211 = dktX33_leaves_9 := dk_seg dksX33_leaves_8 22 rfl rfl
theorem dX33_leaves_0 : decode cX33_leaves 0 = .ok (.aload_n 0, 1) := dk_42 (dk_at dksX33_leaves_0 0 rfl rfl)
theorem dX33_leaves_1 : decode cX33_leaves 1 = .ok (.getfield 32, 3) := dk_180 0 32 (dk_at dksX33_leaves_0 1 rfl rfl)
theorem dX33_leaves_4 : decode cX33_leaves 4 = .ok (.astore_n 2, 1) := dk_77 (dk_at dksX33_leaves_0 4 rfl rfl)
theorem dX33_leaves_5 : decode cX33_leaves 5 = .ok (.iload_n 1, 1) := dk_27 (dk_at dksX33_leaves_0 5 rfl rfl)
theorem dX33_leaves_6 : decode cX33_leaves 6 = .ok (.sipush 200, 3) := dk_17 0 200 (dk_at dksX33_leaves_0 6 rfl rfl)
theorem dX33_leaves_9 : decode cX33_leaves 9 = .ok (.if_icmp .lt 11, 3) := dk_161 0 11 (dk_at dksX33_leaves_0 9 rfl rfl)
theorem dX33_leaves_12 : decode cX33_leaves 12 = .ok (.iload_n 1, 1) := dk_27 (dk_at dksX33_leaves_0 12 rfl rfl)
theorem dX33_leaves_13 : decode cX33_leaves 13 = .ok (.sipush 200, 3) := dk_17 0 200 (dk_at dksX33_leaves_0 13 rfl rfl)
theorem dX33_leaves_16 : decode cX33_leaves 16 = .ok (.isub, 1) := dk_100 (dk_at dksX33_leaves_0 16 rfl rfl)
theorem dX33_leaves_17 : decode cX33_leaves 17 = .ok (.goto 18, 3) := dk_167 0 18 (dk_at dksX33_leaves_0 17 rfl rfl)
theorem dX33_leaves_20 : decode cX33_leaves 20 = .ok (.iload_n 1, 1) := dk_27 (dk_at dksX33_leaves_0 20 rfl rfl)
theorem dX33_leaves_21 : decode cX33_leaves 21 = .ok (.bipush 100, 2) := dk_16 100 (dk_at dksX33_leaves_0 21 rfl rfl)
theorem dX33_leaves_23 : decode cX33_leaves 23 = .ok (.if_icmp .lt 10, 3) := dk_161 0 10 (dk_at dksX33_leaves_1 0 rfl rfl)
theorem dX33_leaves_26 : decode cX33_leaves 26 = .ok (.iload_n 1, 1) := dk_27 (dk_at dksX33_leaves_1 3 rfl rfl)
theorem dX33_leaves_27 : decode cX33_leaves 27 = .ok (.bipush 100, 2) := dk_16 100 (dk_at dksX33_leaves_1 4 rfl rfl)
theorem dX33_leaves_29 : decode cX33_leaves 29 = .ok (.isub, 1) := dk_100 (dk_at dksX33_leaves_1 6 rfl rfl)
theorem dX33_leaves_30 : decode cX33_leaves 30 = .ok (.goto 5, 3) := dk_167 0 5 (dk_at dksX33_leaves_1 7 rfl rfl)
theorem dX33_leaves_33 : decode cX33_leaves 33 = .ok (.bipush 80, 2) := dk_16 80 (dk_at dksX33_leaves_1 10 rfl rfl)
theorem dX33_leaves_35 : decode cX33_leaves 35 = .ok (.istore_n 3, 1) := dk_62 (dk_at dksX33_leaves_1 12 rfl rfl)
theorem dX33_leaves_36 : decode cX33_leaves 36 = .ok (.aload_n 0, 1) := dk_42 (dk_at dksX33_leaves_1 13 rfl rfl)
theorem dX33_leaves_37 : decode cX33_leaves 37 = .ok (.getfield 32, 3) := dk_180 0 32 (dk_at dksX33_leaves_1 14 rfl rfl)
theorem dX33_leaves_40 : decode cX33_leaves 40 = .ok (.astore 4, 2) := dk_58 4 (dk_at dksX33_leaves_1 17 rfl rfl)
theorem dX33_leaves_42 : decode cX33_leaves 42 = .ok (.bipush 40, 2) := dk_16 40 (dk_at dksX33_leaves_1 19 rfl rfl)
theorem dX33_leaves_44 : decode cX33_leaves 44 = .ok (.newarray .int, 2) := dk_188_10 (dk_at dksX33_leaves_1 21 rfl rfl)
theorem dX33_leaves_46 : decode cX33_leaves 46 = .ok (.astore 5, 2) := dk_58 5 (dk_at dksX33_leaves_2 0 rfl rfl)
theorem dX33_leaves_48 : decode cX33_leaves 48 = .ok (.iconst 0, 1) := dk_3 (dk_at dksX33_leaves_2 2 rfl rfl)
theorem dX33_leaves_49 : decode cX33_leaves 49 = .ok (.istore 6, 2) := dk_54 6 (dk_at dksX33_leaves_2 3 rfl rfl)
theorem dX33_leaves_51 : decode cX33_leaves 51 = .ok (.aload 4, 2) := dk_25 4 (dk_at dksX33_leaves_2 5 rfl rfl)
theorem dX33_leaves_53 : decode cX33_leaves 53 = .ok (.ifnull 70, 3) := dk_198 0 70 (dk_at dksX33_leaves_2 7 rfl rfl)
theorem dX33_leaves_56 : decode cX33_leaves 56 = .ok (.aload 4, 2) := dk_25 4 (dk_at dksX33_leaves_2 10 rfl rfl)
theorem dX33_leaves_58 : decode cX33_leaves 58 = .ok (.getfield 74, 3) := dk_180 0 74 (dk_at dksX33_leaves_2 12 rfl rfl)
theorem dX33_leaves_61 : decode cX33_leaves 61 = .ok (.ifCond .ne 8, 3) := dk_154 0 8 (dk_at dksX33_leaves_2 15 rfl rfl)
theorem dX33_leaves_64 : decode cX33_leaves 64 = .ok (.iload_n 3, 1) := dk_29 (dk_at dksX33_leaves_2 18 rfl rfl)
theorem dX33_leaves_65 : decode cX33_leaves 65 = .ok (.iconst 1, 1) := dk_4 (dk_at dksX33_leaves_2 19 rfl rfl)
theorem dX33_leaves_66 : decode cX33_leaves 66 = .ok (.if_icmp .eq 57, 3) := dk_159 0 57 (dk_at dksX33_leaves_2 20 rfl rfl)
theorem dX33_leaves_69 : decode cX33_leaves 69 = .ok (.iload_n 3, 1) := dk_29 (dk_at dksX33_leaves_2 23 rfl rfl)
theorem dX33_leaves_70 : decode cX33_leaves 70 = .ok (.aload 4, 2) := dk_25 4 (dk_at dksX33_leaves_3 0 rfl rfl)
theorem dX33_leaves_72 : decode cX33_leaves 72 = .ok (.getfield 74, 3) := dk_180 0 74 (dk_at dksX33_leaves_3 2 rfl rfl)
theorem dX33_leaves_75 : decode cX33_leaves 75 = .ok (.ifCond .ne 7, 3) := dk_154 0 7 (dk_at dksX33_leaves_3 5 rfl rfl)
theorem dX33_leaves_78 : decode cX33_leaves 78 = .ok (.iconst 1, 1) := dk_4 (dk_at dksX33_leaves_3 8 rfl rfl)
theorem dX33_leaves_79 : decode cX33_leaves 79 = .ok (.goto 4, 3) := dk_167 0 4 (dk_at dksX33_leaves_3 9 rfl rfl)
theorem dX33_leaves_82 : decode cX33_leaves 82 = .ok (.iconst 0, 1) := dk_3 (dk_at dksX33_leaves_3 12 rfl rfl)
theorem dX33_leaves_83 : decode cX33_leaves 83 = .ok (.isub, 1) := dk_100 (dk_at dksX33_leaves_3 13 rfl rfl)
theorem dX33_leaves_84 : decode cX33_leaves 84 = .ok (.istore_n 3, 1) := dk_62 (dk_at dksX33_leaves_3 14 rfl rfl)
theorem dX33_leaves_85 : decode cX33_leaves 85 = .ok (.aload 5, 2) := dk_25 5 (dk_at dksX33_leaves_3 15 rfl rfl)
theorem dX33_leaves_87 : decode cX33_leaves 87 = .ok (.iload 6, 2) := dk_21 6 (dk_at dksX33_leaves_3 17 rfl rfl)
theorem dX33_leaves_89 : decode cX33_leaves 89 = .ok (.aload_n 0, 1) := dk_42 (dk_at dksX33_leaves_3 19 rfl rfl)
theorem dX33_leaves_90 : decode cX33_leaves 90 = .ok (.getfield 22, 3) := dk_180 0 22 (dk_at dksX33_leaves_3 20 rfl rfl)
theorem dX33_leaves_93 : decode cX33_leaves 93 = .ok (.iastore, 1) := dk_79 (dk_at dksX33_leaves_3 23 rfl rfl)
theorem dX33_leaves_94 : decode cX33_leaves 94 = .ok (.iinc 6 1, 3) := dk_132 6 1 (dk_at dksX33_leaves_4 0 rfl rfl)
theorem dX33_leaves_97 : decode cX33_leaves 97 = .ok (.aload_n 0, 1) := dk_42 (dk_at dksX33_leaves_4 3 rfl rfl)
theorem dX33_leaves_98 : decode cX33_leaves 98 = .ok (.aload 4, 2) := dk_25 4 (dk_at dksX33_leaves_4 4 rfl rfl)
theorem dX33_leaves_100 : decode cX33_leaves 100 = .ok (.getfield 39, 3) := dk_180 0 39 (dk_at dksX33_leaves_4 6 rfl rfl)
theorem dX33_leaves_103 : decode cX33_leaves 103 = .ok (.putfield 32, 3) := dk_181 0 32 (dk_at dksX33_leaves_4 9 rfl rfl)
theorem dX33_leaves_106 : decode cX33_leaves 106 = .ok (.aload_n 0, 1) := dk_42 (dk_at dksX33_leaves_4 12 rfl rfl)
theorem dX33_leaves_107 : decode cX33_leaves 107 = .ok (.aload 4, 2) := dk_25 4 (dk_at dksX33_leaves_4 13 rfl rfl)
theorem dX33_leaves_109 : decode cX33_leaves 109 = .ok (.iload_n 1, 1) := dk_27 (dk_at dksX33_leaves_4 15 rfl rfl)
theorem dX33_leaves_110 : decode cX33_leaves 110 = .ok (.invokevirtual 77, 3) := dk_182 0 77 (dk_at dksX33_leaves_4 16 rfl rfl)
theorem dX33_leaves_113 : decode cX33_leaves 113 = .ok (.aload 4, 2) := dk_25 4 (dk_at dksX33_leaves_4 19 rfl rfl)
theorem dX33_leaves_115 : decode cX33_leaves 115 = .ok (.getfield 39, 3) := dk_180 0 39 (dk_at dksX33_leaves_4 21 rfl rfl)
theorem dX33_leaves_118 : decode cX33_leaves 118 = .ok (.astore 4, 2) := dk_58 4 (dk_at dksX33_leaves_5 0 rfl rfl)
theorem dX33_leaves_120 : decode cX33_leaves 120 = .ok (.goto (-69), 3) := dk_167 255 187 (dk_at dksX33_leaves_5 2 rfl rfl)
theorem dX33_leaves_123 : decode cX33_leaves 123 = .ok (.iload_n 1, 1) := dk_27 (dk_at dksX33_leaves_5 5 rfl rfl)
theorem dX33_leaves_124 : decode cX33_leaves 124 = .ok (.iconst 1, 1) := dk_4 (dk_at dksX33_leaves_5 6 rfl rfl)
theorem dX33_leaves_125 : decode cX33_leaves 125 = .ok (.if_icmp .ne 15, 3) := dk_160 0 15 (dk_at dksX33_leaves_5 7 rfl rfl)
theorem dX33_leaves_128 : decode cX33_leaves 128 = .ok (.aload_n 0, 1) := dk_42 (dk_at dksX33_leaves_5 10 rfl rfl)
theorem dX33_leaves_129 : decode cX33_leaves 129 = .ok (.bipush 22, 2) := dk_16 22 (dk_at dksX33_leaves_5 11 rfl rfl)
theorem dX33_leaves_131 : decode cX33_leaves 131 = .ok (.iconst 0, 1) := dk_3 (dk_at dksX33_leaves_5 13 rfl rfl)
theorem dX33_leaves_132 : decode cX33_leaves 132 = .ok (.iconst 0, 1) := dk_3 (dk_at dksX33_leaves_5 14 rfl rfl)
theorem dX33_leaves_133 : decode cX33_leaves 133 = .ok (.invokevirtual 51, 3) := dk_182 0 51 (dk_at dksX33_leaves_5 15 rfl rfl)
theorem dX33_leaves_136 : decode cX33_leaves 136 = .ok (.pop, 1) := dk_87 (dk_at dksX33_leaves_5 18 rfl rfl)
theorem dX33_leaves_137 : decode cX33_leaves 137 = .ok (.goto 37, 3) := dk_167 0 37 (dk_at dksX33_leaves_5 19 rfl rfl)
theorem dX33_leaves_140 : decode cX33_leaves 140 = .ok (.iload_n 1, 1) := dk_27 (dk_at dksX33_leaves_5 22 rfl rfl)
theorem dX33_leaves_141 : decode cX33_leaves 141 = .ok (.sipush 200, 3) := dk_17 0 200 (dk_at dksX33_leaves_6 0 rfl rfl)
theorem dX33_leaves_144 : decode cX33_leaves 144 = .ok (.if_icmp .lt 18, 3) := dk_161 0 18 (dk_at dksX33_leaves_6 3 rfl rfl)
theorem dX33_leaves_147 : decode cX33_leaves 147 = .ok (.aload_n 0, 1) := dk_42 (dk_at dksX33_leaves_6 6 rfl rfl)
theorem dX33_leaves_148 : decode cX33_leaves 148 = .ok (.iconst 5, 1) := dk_8 (dk_at dksX33_leaves_6 7 rfl rfl)
theorem dX33_leaves_149 : decode cX33_leaves 149 = .ok (.iconst 0, 1) := dk_3 (dk_at dksX33_leaves_6 8 rfl rfl)
theorem dX33_leaves_150 : decode cX33_leaves 150 = .ok (.aload 4, 2) := dk_25 4 (dk_at dksX33_leaves_6 9 rfl rfl)
theorem dX33_leaves_152 : decode cX33_leaves 152 = .ok (.getfield 81, 3) := dk_180 0 81 (dk_at dksX33_leaves_6 11 rfl rfl)
theorem dX33_leaves_155 : decode cX33_leaves 155 = .ok (.invokevirtual 51, 3) := dk_182 0 51 (dk_at dksX33_leaves_6 14 rfl rfl)
theorem dX33_leaves_158 : decode cX33_leaves 158 = .ok (.pop, 1) := dk_87 (dk_at dksX33_leaves_6 17 rfl rfl)
theorem dX33_leaves_159 : decode cX33_leaves 159 = .ok (.goto 15, 3) := dk_167 0 15 (dk_at dksX33_leaves_6 18 rfl rfl)
theorem dX33_leaves_162 : decode cX33_leaves 162 = .ok (.aload 4, 2) := dk_25 4 (dk_at dksX33_leaves_6 21 rfl rfl)
theorem dX33_leaves_164 : decode cX33_leaves 164 = .ok (.aload_n 0, 1) := dk_42 (dk_at dksX33_leaves_6 23 rfl rfl)
theorem dX33_leaves_165 : decode cX33_leaves 165 = .ok (.iconst 5, 1) := dk_8 (dk_at dksX33_leaves_7 0 rfl rfl)
theorem dX33_leaves_166 : decode cX33_leaves 166 = .ok (.iconst 0, 1) := dk_3 (dk_at dksX33_leaves_7 1 rfl rfl)
theorem dX33_leaves_167 : decode cX33_leaves 167 = .ok (.iconst 0, 1) := dk_3 (dk_at dksX33_leaves_7 2 rfl rfl)
theorem dX33_leaves_168 : decode cX33_leaves 168 = .ok (.invokevirtual 51, 3) := dk_182 0 51 (dk_at dksX33_leaves_7 3 rfl rfl)
theorem dX33_leaves_171 : decode cX33_leaves 171 = .ok (.invokevirtual 84, 3) := dk_182 0 84 (dk_at dksX33_leaves_7 6 rfl rfl)
theorem dX33_leaves_174 : decode cX33_leaves 174 = .ok (.aload_n 2, 1) := dk_44 (dk_at dksX33_leaves_7 9 rfl rfl)
theorem dX33_leaves_175 : decode cX33_leaves 175 = .ok (.astore 7, 2) := dk_58 7 (dk_at dksX33_leaves_7 10 rfl rfl)
theorem dX33_leaves_177 : decode cX33_leaves 177 = .ok (.iconst 0, 1) := dk_3 (dk_at dksX33_leaves_7 12 rfl rfl)
theorem dX33_leaves_178 : decode cX33_leaves 178 = .ok (.istore 8, 2) := dk_54 8 (dk_at dksX33_leaves_7 13 rfl rfl)
theorem dX33_leaves_180 : decode cX33_leaves 180 = .ok (.iload 8, 2) := dk_21 8 (dk_at dksX33_leaves_7 15 rfl rfl)
theorem dX33_leaves_182 : decode cX33_leaves 182 = .ok (.iload 6, 2) := dk_21 6 (dk_at dksX33_leaves_7 17 rfl rfl)
theorem dX33_leaves_184 : decode cX33_leaves 184 = .ok (.if_icmp .ge 30, 3) := dk_162 0 30 (dk_at dksX33_leaves_7 19 rfl rfl)
theorem dX33_leaves_187 : decode cX33_leaves 187 = .ok (.aload 7, 2) := dk_25 7 (dk_at dksX33_leaves_7 22 rfl rfl)
theorem dX33_leaves_189 : decode cX33_leaves 189 = .ok (.aload 5, 2) := dk_25 5 (dk_at dksX33_leaves_8 0 rfl rfl)
theorem dX33_leaves_191 : decode cX33_leaves 191 = .ok (.iload 8, 2) := dk_21 8 (dk_at dksX33_leaves_8 2 rfl rfl)
theorem dX33_leaves_193 : decode cX33_leaves 193 = .ok (.iaload, 1) := dk_46 (dk_at dksX33_leaves_8 4 rfl rfl)
theorem dX33_leaves_194 : decode cX33_leaves 194 = .ok (.aload_n 0, 1) := dk_42 (dk_at dksX33_leaves_8 5 rfl rfl)
theorem dX33_leaves_195 : decode cX33_leaves 195 = .ok (.getfield 22, 3) := dk_180 0 22 (dk_at dksX33_leaves_8 6 rfl rfl)
theorem dX33_leaves_198 : decode cX33_leaves 198 = .ok (.invokevirtual 88, 3) := dk_182 0 88 (dk_at dksX33_leaves_8 9 rfl rfl)
theorem dX33_leaves_201 : decode cX33_leaves 201 = .ok (.aload 7, 2) := dk_25 7 (dk_at dksX33_leaves_8 12 rfl rfl)
theorem dX33_leaves_203 : decode cX33_leaves 203 = .ok (.getfield 39, 3) := dk_180 0 39 (dk_at dksX33_leaves_8 14 rfl rfl)
theorem dX33_leaves_206 : decode cX33_leaves 206 = .ok (.astore 7, 2) := dk_58 7 (dk_at dksX33_leaves_8 17 rfl rfl)
theorem dX33_leaves_208 : decode cX33_leaves 208 = .ok (.iinc 8 1, 3) := dk_132 8 1 (dk_at dksX33_leaves_8 19 rfl rfl)
theorem dX33_leaves_211 : decode cX33_leaves 211 = .ok (.goto (-31), 3) := dk_167 255 225 (dk_at dksX33_leaves_9 0 rfl rfl)
theorem dX33_leaves_214 : decode cX33_leaves 214 = .ok (.aload_n 0, 1) := dk_42 (dk_at dksX33_leaves_9 3 rfl rfl)
theorem dX33_leaves_215 : decode cX33_leaves 215 = .ok (.aload_n 2, 1) := dk_44 (dk_at dksX33_leaves_9 4 rfl rfl)
theorem dX33_leaves_216 : decode cX33_leaves 216 = .ok (.putfield 32, 3) := dk_181 0 32 (dk_at dksX33_leaves_9 5 rfl rfl)
theorem dX33_leaves_219 : decode cX33_leaves 219 = .ok (.return_, 1) := dk_177 (dk_at dksX33_leaves_9 8 rfl rfl)
theorem okX33_leaves_0 : XOkL xms rX33_leaves bX33_leaves_0 := xcP (xok_aload_n dX33_leaves_0 rfl) rfl (xcP (xok_getfield (ref := "WaysAtlas$Lower") (Or.inr ⟨rfl, by decide⟩) dX33_leaves_1 (Or.inl ⟨q1252, (Or.inl rfl)⟩) xh1145) rfl (xcP (xok_astore_n dX33_leaves_4 rfl) rfl (xcP (xok_iload_n dX33_leaves_5 rfl) rfl (xcP (xok_sipush dX33_leaves_6 rfl) rfl (xcP (xok_icmplt dX33_leaves_9 (by decide)) rfl (xcP (xok_iload_n dX33_leaves_12 rfl) rfl (xcP (xok_sipush dX33_leaves_13 rfl) rfl (xcP (xok_isub dX33_leaves_16) rfl (xcP (xok_goto dX33_leaves_17 (by decide)) rfl trivial)))))))))
theorem okX33_leaves_20 : XOkL xms rX33_leaves bX33_leaves_20 := xcP (xok_iload_n dX33_leaves_20 rfl) rfl (xcP (xok_bipush dX33_leaves_21 rfl) rfl (xcP (xok_icmplt dX33_leaves_23 (by decide)) rfl (xcP (xok_iload_n dX33_leaves_26 rfl) rfl (xcP (xok_bipush dX33_leaves_27 rfl) rfl (xcP (xok_isub dX33_leaves_29) rfl (xcP (xok_goto dX33_leaves_30 (by decide)) rfl trivial))))))
theorem okX33_leaves_33 : XOkL xms rX33_leaves bX33_leaves_33 := xcP (xok_bipush dX33_leaves_33 rfl) rfl (xcP xok_fal rfl trivial)
theorem okX33_leaves_35 : XOkL xms rX33_leaves bX33_leaves_35 := xcP (xok_istore_n dX33_leaves_35 rfl) rfl (xcP (xok_aload_n dX33_leaves_36 rfl) rfl (xcP (xok_getfield (ref := "WaysAtlas$Lower") (Or.inr ⟨rfl, by decide⟩) dX33_leaves_37 (Or.inl ⟨q1252, (Or.inl rfl)⟩) xh1145) rfl (xcP (xok_astore dX33_leaves_40) rfl (xcP (xok_bipush dX33_leaves_42 rfl) rfl (xcP (xok_newarray (atype := .int) (by decide) rfl dX33_leaves_44 q222) rfl (xcP (xok_astore dX33_leaves_46) rfl (xcP (xok_iconst dX33_leaves_48 rfl) rfl (xcP (xok_istore dX33_leaves_49) rfl (xcP xok_fal rfl trivial)))))))))
theorem okX33_leaves_51 : XOkL xms rX33_leaves bX33_leaves_51 := xcP (xok_aload dX33_leaves_51) rfl (xcP (xok_ifnull dX33_leaves_53 (by decide)) rfl (xcP (xok_aload dX33_leaves_56) rfl (xcP (xok_getfield (ref := "WaysAtlas$Scope") (Or.inl ⟨rfl, by decide⟩) dX33_leaves_58 (Or.inr ⟨⟨"WaysAtlas", (List.mem_of_getElem? (i := 29) rfl)⟩, (Or.inl rfl)⟩) xh96) rfl (xcP (xok_ifne dX33_leaves_61 (by decide)) rfl (xcP (xok_iload_n dX33_leaves_64 rfl) rfl (xcP (xok_iconst dX33_leaves_65 rfl) rfl (xcP (xok_icmpeq dX33_leaves_66 (by decide)) rfl (xcP xok_fal rfl trivial))))))))
theorem okX33_leaves_69 : XOkL xms rX33_leaves bX33_leaves_69 := xcP (xok_iload_n dX33_leaves_69 rfl) rfl (xcP (xok_aload dX33_leaves_70) rfl (xcP (xok_getfield (ref := "WaysAtlas$Scope") (Or.inl ⟨rfl, by decide⟩) dX33_leaves_72 (Or.inr ⟨⟨"WaysAtlas", (List.mem_of_getElem? (i := 29) rfl)⟩, (Or.inl rfl)⟩) xh96) rfl (xcP (xok_ifne dX33_leaves_75 (by decide)) rfl (xcP (xok_iconst dX33_leaves_78 rfl) rfl (xcP (xok_goto dX33_leaves_79 (by decide)) rfl trivial)))))
theorem okX33_leaves_82 : XOkL xms rX33_leaves bX33_leaves_82 := xcP (xok_iconst dX33_leaves_82 rfl) rfl (xcP xok_fal rfl trivial)
theorem okX33_leaves_83 : XOkL xms rX33_leaves bX33_leaves_83 := xcP (xok_isub dX33_leaves_83) rfl (xcP (xok_istore_n dX33_leaves_84 rfl) rfl (xcP (xok_aload dX33_leaves_85) rfl (xcP (xok_iload dX33_leaves_87) rfl (xcP (xok_aload_n dX33_leaves_89 rfl) rfl (xcP (xok_getfield (ref := "WaysAtlas$Lower") (Or.inl ⟨rfl, by decide⟩) dX33_leaves_90 (Or.inl ⟨q1244, (Or.inl rfl)⟩) xh100) rfl (xcP (xok_iastore dX33_leaves_93) rfl (xcP (xok_iinc dX33_leaves_94 rfl) rfl (xcP (xok_aload_n dX33_leaves_97 rfl) rfl (xcP (xok_aload dX33_leaves_98) rfl (xcP (xok_getfield (ref := "WaysAtlas$Scope") (Or.inr ⟨rfl, by decide⟩) dX33_leaves_100 (Or.inr ⟨⟨"WaysAtlas", (List.mem_of_getElem? (i := 26) rfl)⟩, (Or.inl rfl)⟩) xh1140) rfl (xcP (xok_putfield (ref := "WaysAtlas$Lower") (Or.inr (Or.inr ⟨rfl, by decide, rfl⟩)) dX33_leaves_103 (Or.inl ⟨q1252, (Or.inl rfl)⟩) (Or.inl rfl) xh1145) rfl (xcP (xok_aload_n dX33_leaves_106 rfl) rfl (xcP (xok_aload dX33_leaves_107) rfl (xcP (xok_iload_n dX33_leaves_109 rfl) rfl (xcC0 (xokc_list (List.forall_mem_cons.mpr ⟨xokc_V (r := (RX33, TX33, 6)) xm289 (List.mem_of_getElem? (i := 30) rfl) (by decide) rfl dX33_leaves_110 q1421 q1423 qs40 q179 q1424 (by decide +kernel), fun _ h => nomatch h⟩)) rfl (xcP (xok_aload dX33_leaves_113) rfl (xcP (xok_getfield (ref := "WaysAtlas$Scope") (Or.inr ⟨rfl, by decide⟩) dX33_leaves_115 (Or.inr ⟨⟨"WaysAtlas", (List.mem_of_getElem? (i := 26) rfl)⟩, (Or.inl rfl)⟩) xh1140) rfl (xcP (xok_astore dX33_leaves_118) rfl (xcP (xok_goto dX33_leaves_120 (by decide)) rfl trivial)))))))))))))))))))
theorem okX33_leaves_123 : XOkL xms rX33_leaves bX33_leaves_123 := xcP (xok_iload_n dX33_leaves_123 rfl) rfl (xcP (xok_iconst dX33_leaves_124 rfl) rfl (xcP (xok_icmpne dX33_leaves_125 (by decide)) rfl (xcP (xok_aload_n dX33_leaves_128 rfl) rfl (xcP (xok_bipush dX33_leaves_129 rfl) rfl (xcP (xok_iconst dX33_leaves_131 rfl) rfl (xcP (xok_iconst dX33_leaves_132 rfl) rfl (xcC0 (xokc_list (List.forall_mem_cons.mpr ⟨xokc_V (r := (RX33, TX33, 6)) xm276 (List.mem_of_getElem? (i := 30) rfl) (by decide) rfl dX33_leaves_133 q1279 q1280 q1281 q179 q1282 (by decide +kernel), fun _ h => nomatch h⟩)) rfl (xcP (xok_pop dX33_leaves_136) rfl (xcP (xok_goto dX33_leaves_137 (by decide)) rfl trivial)))))))))
theorem okX33_leaves_140 : XOkL xms rX33_leaves bX33_leaves_140 := xcP (xok_iload_n dX33_leaves_140 rfl) rfl (xcP (xok_sipush dX33_leaves_141 rfl) rfl (xcP (xok_icmplt dX33_leaves_144 (by decide)) rfl (xcP (xok_aload_n dX33_leaves_147 rfl) rfl (xcP (xok_iconst dX33_leaves_148 rfl) rfl (xcP (xok_iconst dX33_leaves_149 rfl) rfl (xcP (xok_aload dX33_leaves_150) rfl (xcP (xok_getfield (ref := "WaysAtlas$Scope") (Or.inl ⟨rfl, by decide⟩) dX33_leaves_152 (Or.inr ⟨⟨"WaysAtlas", (List.mem_of_getElem? (i := 30) rfl)⟩, (Or.inl rfl)⟩) xh99) rfl (xcC0 (xokc_list (List.forall_mem_cons.mpr ⟨xokc_V (r := (RX33, TX33, 6)) xm276 (List.mem_of_getElem? (i := 30) rfl) (by decide) rfl dX33_leaves_155 q1279 q1280 q1281 q179 q1282 (by decide +kernel), fun _ h => nomatch h⟩)) rfl (xcP (xok_pop dX33_leaves_158) rfl (xcP (xok_goto dX33_leaves_159 (by decide)) rfl trivial))))))))))
theorem okX33_leaves_162 : XOkL xms rX33_leaves bX33_leaves_162 := xcP (xok_aload dX33_leaves_162) rfl (xcP (xok_aload_n dX33_leaves_164 rfl) rfl (xcP (xok_iconst dX33_leaves_165 rfl) rfl (xcP (xok_iconst dX33_leaves_166 rfl) rfl (xcP (xok_iconst dX33_leaves_167 rfl) rfl (xcC0 (xokc_list (List.forall_mem_cons.mpr ⟨xokc_V (r := (RX33, TX33, 6)) xm276 (List.mem_of_getElem? (i := 30) rfl) (by decide) rfl dX33_leaves_168 q1279 q1280 q1281 q179 q1282 (by decide +kernel), fun _ h => nomatch h⟩)) rfl (xcC0 (xokc_list (List.forall_mem_cons.mpr ⟨xokc_V (r := (RX32, TX32, 8)) xm270 (List.mem_of_getElem? (i := 29) rfl) (by decide) rfl dX33_leaves_171 q1426 q1427 q1428 q177 q1429 (by decide +kernel), fun _ h => nomatch h⟩)) rfl (xcP xok_fal rfl trivial)))))))
theorem okX33_leaves_174 : XOkL xms rX33_leaves bX33_leaves_174 := xcP (xok_aload_n dX33_leaves_174 rfl) rfl (xcP (xok_astore dX33_leaves_175) rfl (xcP (xok_iconst dX33_leaves_177 rfl) rfl (xcP (xok_istore dX33_leaves_178) rfl (xcP xok_fal rfl trivial))))
theorem okX33_leaves_180 : XOkL xms rX33_leaves bX33_leaves_180 := xcP (xok_iload dX33_leaves_180) rfl (xcP (xok_iload dX33_leaves_182) rfl (xcP (xok_icmpge dX33_leaves_184 (by decide)) rfl (xcP (xok_aload dX33_leaves_187) rfl (xcP (xok_aload dX33_leaves_189) rfl (xcP (xok_iload dX33_leaves_191) rfl (xcP (xok_iaload dX33_leaves_193) rfl (xcP (xok_aload_n dX33_leaves_194 rfl) rfl (xcP (xok_getfield (ref := "WaysAtlas$Lower") (Or.inl ⟨rfl, by decide⟩) dX33_leaves_195 (Or.inl ⟨q1244, (Or.inl rfl)⟩) xh100) rfl (xcC0 (xokc_list (List.forall_mem_cons.mpr ⟨xokc_V (r := (RX32, TX32, 8)) xm271 (List.mem_of_getElem? (i := 29) rfl) (by decide) rfl dX33_leaves_198 q1431 q1432 q1433 q177 q1434 (by decide +kernel), fun _ h => nomatch h⟩)) rfl (xcP (xok_aload dX33_leaves_201) rfl (xcP (xok_getfield (ref := "WaysAtlas$Scope") (Or.inr ⟨rfl, by decide⟩) dX33_leaves_203 (Or.inr ⟨⟨"WaysAtlas", (List.mem_of_getElem? (i := 26) rfl)⟩, (Or.inl rfl)⟩) xh1140) rfl (xcP (xok_astore dX33_leaves_206) rfl (xcP (xok_iinc dX33_leaves_208 rfl) rfl (xcP (xok_goto dX33_leaves_211 (by decide)) rfl trivial))))))))))))))
theorem okX33_leaves_214 : XOkL xms rX33_leaves bX33_leaves_214 := xcP (xok_aload_n dX33_leaves_214 rfl) rfl (xcP (xok_aload_n dX33_leaves_215 rfl) rfl (xcP (xok_putfield (ref := "WaysAtlas$Lower") (Or.inr (Or.inr ⟨rfl, by decide, rfl⟩)) dX33_leaves_216 (Or.inl ⟨q1252, (Or.inl rfl)⟩) (Or.inl rfl) xh1145) rfl (xcR ⟨dX33_leaves_219, rfl⟩)))
theorem okM_X33_leaves : XOkM xms rX33_leaves := xokM0 (List.forall_mem_cons.mpr ⟨⟨rfl, okX33_leaves_0⟩, List.forall_mem_cons.mpr ⟨⟨rfl, okX33_leaves_20⟩, List.forall_mem_cons.mpr ⟨⟨rfl, okX33_leaves_33⟩, List.forall_mem_cons.mpr ⟨⟨rfl, okX33_leaves_35⟩, List.forall_mem_cons.mpr ⟨⟨rfl, okX33_leaves_51⟩, List.forall_mem_cons.mpr ⟨⟨rfl, okX33_leaves_69⟩, List.forall_mem_cons.mpr ⟨⟨rfl, okX33_leaves_82⟩, List.forall_mem_cons.mpr ⟨⟨rfl, okX33_leaves_83⟩, List.forall_mem_cons.mpr ⟨⟨rfl, okX33_leaves_123⟩, List.forall_mem_cons.mpr ⟨⟨rfl, okX33_leaves_140⟩, List.forall_mem_cons.mpr ⟨⟨rfl, okX33_leaves_162⟩, List.forall_mem_cons.mpr ⟨⟨rfl, okX33_leaves_174⟩, List.forall_mem_cons.mpr ⟨⟨rfl, okX33_leaves_180⟩, List.forall_mem_cons.mpr ⟨⟨rfl, okX33_leaves_214⟩, fun _ h => nomatch h⟩⟩⟩⟩⟩⟩⟩⟩⟩⟩⟩⟩⟩⟩) (xokH0 rfl (fun _ _ => rfl)) (by decide +kernel) (by decide)
abbrev cX33_passes : ByteArray := prog_10_method_11_code
def dkwX33_passes_9 : List UInt8 := [5, 182, 0, 98, 182, 0, 51, 87, 177]
abbrev dktX33_passes_9 : List UInt8 := dkwX33_passes_9 ++ []
def dkwX33_passes_8 : List UInt8 := [182, 0, 51, 87, 42, 25, 4, 180, 0, 105, 182, 0, 109, 28, 4, 160, 0, 17, 42, 16, 14, 3, 25, 4]
abbrev dktX33_passes_8 : List UInt8 := dkwX33_passes_8 ++ dktX33_passes_9
def dkwX33_passes_7 : List UInt8 := [182, 0, 51, 182, 0, 84, 42, 21, 5, 42, 180, 0, 22, 182, 0, 102, 167, 0, 21, 42, 16, 12, 29, 3]
abbrev dktX33_passes_7 : List UInt8 := dkwX33_passes_7 ++ dktX33_passes_8
def dkwX33_passes_6 : List UInt8 := [182, 0, 51, 87, 42, 16, 19, 25, 4, 6, 182, 0, 98, 3, 182, 0, 51, 54, 5, 43, 42, 8, 3, 3]
abbrev dktX33_passes_6 : List UInt8 := dkwX33_passes_6 ++ dktX33_passes_7
def dkwX33_passes_5 : List UInt8 := [182, 0, 98, 182, 0, 51, 87, 42, 180, 0, 18, 153, 0, 56, 42, 16, 18, 3, 25, 4, 4, 182, 0, 98]
abbrev dktX33_passes_5 : List UInt8 := dkwX33_passes_5 ++ dktX33_passes_6
def dkwX33_passes_4 : List UInt8 := [160, 0, 128, 43, 180, 0, 92, 192, 0, 96, 58, 4, 28, 4, 160, 0, 17, 42, 16, 13, 3, 25, 4, 5]
abbrev dktX33_passes_4 : List UInt8 := dkwX33_passes_4 ++ dktX33_passes_5
def dkwX33_passes_3 : List UInt8 := [180, 0, 92, 192, 0, 96, 4, 182, 0, 98, 182, 0, 51, 87, 167, 0, 136, 43, 180, 0, 74, 6]
abbrev dktX33_passes_3 : List UInt8 := dkwX33_passes_3 ++ dktX33_passes_4
def dkwX33_passes_2 : List UInt8 := [16, 16, 3, 3, 182, 0, 51, 87, 167, 0, 166, 43, 180, 0, 74, 8, 160, 0, 25, 42, 16, 17, 3, 43]
abbrev dktX33_passes_2 : List UInt8 := dkwX33_passes_2 ++ dktX33_passes_3
def dkwX33_passes_1 : List UInt8 := [160, 0, 15, 42, 16, 10, 29, 3, 182, 0, 51, 87, 167, 0, 186, 43, 180, 0, 74, 7, 160, 0, 15, 42]
abbrev dktX33_passes_1 : List UInt8 := dkwX33_passes_1 ++ dktX33_passes_2
def dkwX33_passes_0 : List UInt8 := [43, 180, 0, 92, 199, 0, 7, 3, 167, 0, 10, 43, 180, 0, 92, 180, 0, 46, 62, 43, 180, 0, 74, 4]
abbrev dktX33_passes_0 : List UInt8 := dkwX33_passes_0 ++ dktX33_passes_1
theorem dksX33_passes_0 : cX33_passes.data.toList.drop 0 = dktX33_passes_0 := by decide +kernel
theorem dksX33_passes_1 : cX33_passes.data.toList.drop 24 = dktX33_passes_1 := dk_seg dksX33_passes_0 24 rfl rfl
theorem dksX33_passes_2 : cX33_passes.data.toList.drop 48 = dktX33_passes_2 := dk_seg dksX33_passes_1 24 rfl rfl
theorem dksX33_passes_3 : cX33_passes.data.toList.drop 72 = dktX33_passes_3 := dk_seg dksX33_passes_2 24 rfl rfl
theorem dksX33_passes_4 : cX33_passes.data.toList.drop 94 = dktX33_passes_4 := dk_seg dksX33_passes_3 22 rfl rfl
theorem dksX33_passes_5 : cX33_passes.data.toList.drop 118 = dktX33_passes_5 := dk_seg dksX33_passes_4 24 rfl rfl
theorem dksX33_passes_6 : cX33_passes.data.toList.drop 142 = dktX33_passes_6 := dk_seg dksX33_passes_5 24 rfl rfl
theorem dksX33_passes_7 : cX33_passes.data.toList.drop 166 = dktX33_passes_7 := dk_seg dksX33_passes_6 24 rfl rfl
theorem dksX33_passes_8 : cX33_passes.data.toList.drop 190 = dktX33_passes_8 := dk_seg dksX33_passes_7 24 rfl rfl
theorem dksX33_passes_9 : cX33_passes.data.toList.drop 214 = dktX33_passes_9 := dk_seg dksX33_passes_8 24 rfl rfl
theorem dX33_passes_0 : decode cX33_passes 0 = .ok (.aload_n 1, 1) := dk_43 (dk_at dksX33_passes_0 0 rfl rfl)
theorem dX33_passes_1 : decode cX33_passes 1 = .ok (.getfield 92, 3) := dk_180 0 92 (dk_at dksX33_passes_0 1 rfl rfl)
theorem dX33_passes_4 : decode cX33_passes 4 = .ok (.ifnonnull 7, 3) := dk_199 0 7 (dk_at dksX33_passes_0 4 rfl rfl)
theorem dX33_passes_7 : decode cX33_passes 7 = .ok (.iconst 0, 1) := dk_3 (dk_at dksX33_passes_0 7 rfl rfl)
theorem dX33_passes_8 : decode cX33_passes 8 = .ok (.goto 10, 3) := dk_167 0 10 (dk_at dksX33_passes_0 8 rfl rfl)
theorem dX33_passes_11 : decode cX33_passes 11 = .ok (.aload_n 1, 1) := dk_43 (dk_at dksX33_passes_0 11 rfl rfl)
theorem dX33_passes_12 : decode cX33_passes 12 = .ok (.getfield 92, 3) := dk_180 0 92 (dk_at dksX33_passes_0 12 rfl rfl)
theorem dX33_passes_15 : decode cX33_passes 15 = .ok (.getfield 46, 3) := dk_180 0 46 (dk_at dksX33_passes_0 15 rfl rfl)
theorem dX33_passes_18 : decode cX33_passes 18 = .ok (.istore_n 3, 1) := dk_62 (dk_at dksX33_passes_0 18 rfl rfl)
theorem dX33_passes_19 : decode cX33_passes 19 = .ok (.aload_n 1, 1) := dk_43 (dk_at dksX33_passes_0 19 rfl rfl)
theorem dX33_passes_20 : decode cX33_passes 20 = .ok (.getfield 74, 3) := dk_180 0 74 (dk_at dksX33_passes_0 20 rfl rfl)
theorem dX33_passes_23 : decode cX33_passes 23 = .ok (.iconst 1, 1) := dk_4 (dk_at dksX33_passes_0 23 rfl rfl)
theorem dX33_passes_24 : decode cX33_passes 24 = .ok (.if_icmp .ne 15, 3) := dk_160 0 15 (dk_at dksX33_passes_1 0 rfl rfl)
theorem dX33_passes_27 : decode cX33_passes 27 = .ok (.aload_n 0, 1) := dk_42 (dk_at dksX33_passes_1 3 rfl rfl)
theorem dX33_passes_28 : decode cX33_passes 28 = .ok (.bipush 10, 2) := dk_16 10 (dk_at dksX33_passes_1 4 rfl rfl)
theorem dX33_passes_30 : decode cX33_passes 30 = .ok (.iload_n 3, 1) := dk_29 (dk_at dksX33_passes_1 6 rfl rfl)
theorem dX33_passes_31 : decode cX33_passes 31 = .ok (.iconst 0, 1) := dk_3 (dk_at dksX33_passes_1 7 rfl rfl)
theorem dX33_passes_32 : decode cX33_passes 32 = .ok (.invokevirtual 51, 3) := dk_182 0 51 (dk_at dksX33_passes_1 8 rfl rfl)
theorem dX33_passes_35 : decode cX33_passes 35 = .ok (.pop, 1) := dk_87 (dk_at dksX33_passes_1 11 rfl rfl)
theorem dX33_passes_36 : decode cX33_passes 36 = .ok (.goto 186, 3) := dk_167 0 186 (dk_at dksX33_passes_1 12 rfl rfl)
theorem dX33_passes_39 : decode cX33_passes 39 = .ok (.aload_n 1, 1) := dk_43 (dk_at dksX33_passes_1 15 rfl rfl)
theorem dX33_passes_40 : decode cX33_passes 40 = .ok (.getfield 74, 3) := dk_180 0 74 (dk_at dksX33_passes_1 16 rfl rfl)
theorem dX33_passes_43 : decode cX33_passes 43 = .ok (.iconst 4, 1) := dk_7 (dk_at dksX33_passes_1 19 rfl rfl)
theorem dX33_passes_44 : decode cX33_passes 44 = .ok (.if_icmp .ne 15, 3) := dk_160 0 15 (dk_at dksX33_passes_1 20 rfl rfl)
theorem dX33_passes_47 : decode cX33_passes 47 = .ok (.aload_n 0, 1) := dk_42 (dk_at dksX33_passes_1 23 rfl rfl)
theorem dX33_passes_48 : decode cX33_passes 48 = .ok (.bipush 16, 2) := dk_16 16 (dk_at dksX33_passes_2 0 rfl rfl)
theorem dX33_passes_50 : decode cX33_passes 50 = .ok (.iconst 0, 1) := dk_3 (dk_at dksX33_passes_2 2 rfl rfl)
theorem dX33_passes_51 : decode cX33_passes 51 = .ok (.iconst 0, 1) := dk_3 (dk_at dksX33_passes_2 3 rfl rfl)
theorem dX33_passes_52 : decode cX33_passes 52 = .ok (.invokevirtual 51, 3) := dk_182 0 51 (dk_at dksX33_passes_2 4 rfl rfl)
theorem dX33_passes_55 : decode cX33_passes 55 = .ok (.pop, 1) := dk_87 (dk_at dksX33_passes_2 7 rfl rfl)
theorem dX33_passes_56 : decode cX33_passes 56 = .ok (.goto 166, 3) := dk_167 0 166 (dk_at dksX33_passes_2 8 rfl rfl)
theorem dX33_passes_59 : decode cX33_passes 59 = .ok (.aload_n 1, 1) := dk_43 (dk_at dksX33_passes_2 11 rfl rfl)
theorem dX33_passes_60 : decode cX33_passes 60 = .ok (.getfield 74, 3) := dk_180 0 74 (dk_at dksX33_passes_2 12 rfl rfl)
theorem dX33_passes_63 : decode cX33_passes 63 = .ok (.iconst 5, 1) := dk_8 (dk_at dksX33_passes_2 15 rfl rfl)
theorem dX33_passes_64 : decode cX33_passes 64 = .ok (.if_icmp .ne 25, 3) := dk_160 0 25 (dk_at dksX33_passes_2 16 rfl rfl)
theorem dX33_passes_67 : decode cX33_passes 67 = .ok (.aload_n 0, 1) := dk_42 (dk_at dksX33_passes_2 19 rfl rfl)
theorem dX33_passes_68 : decode cX33_passes 68 = .ok (.bipush 17, 2) := dk_16 17 (dk_at dksX33_passes_2 20 rfl rfl)
theorem dX33_passes_70 : decode cX33_passes 70 = .ok (.iconst 0, 1) := dk_3 (dk_at dksX33_passes_2 22 rfl rfl)
theorem dX33_passes_71 : decode cX33_passes 71 = .ok (.aload_n 1, 1) := dk_43 (dk_at dksX33_passes_2 23 rfl rfl)
theorem dX33_passes_72 : decode cX33_passes 72 = .ok (.getfield 92, 3) := dk_180 0 92 (dk_at dksX33_passes_3 0 rfl rfl)
theorem dX33_passes_75 : decode cX33_passes 75 = .ok (.checkcast 96, 3) := dk_192 0 96 (dk_at dksX33_passes_3 3 rfl rfl)
theorem dX33_passes_78 : decode cX33_passes 78 = .ok (.iconst 1, 1) := dk_4 (dk_at dksX33_passes_3 6 rfl rfl)
theorem dX33_passes_79 : decode cX33_passes 79 = .ok (.invokevirtual 98, 3) := dk_182 0 98 (dk_at dksX33_passes_3 7 rfl rfl)
theorem dX33_passes_82 : decode cX33_passes 82 = .ok (.invokevirtual 51, 3) := dk_182 0 51 (dk_at dksX33_passes_3 10 rfl rfl)
theorem dX33_passes_85 : decode cX33_passes 85 = .ok (.pop, 1) := dk_87 (dk_at dksX33_passes_3 13 rfl rfl)
theorem dX33_passes_86 : decode cX33_passes 86 = .ok (.goto 136, 3) := dk_167 0 136 (dk_at dksX33_passes_3 14 rfl rfl)
theorem dX33_passes_89 : decode cX33_passes 89 = .ok (.aload_n 1, 1) := dk_43 (dk_at dksX33_passes_3 17 rfl rfl)
theorem dX33_passes_90 : decode cX33_passes 90 = .ok (.getfield 74, 3) := dk_180 0 74 (dk_at dksX33_passes_3 18 rfl rfl)
theorem dX33_passes_93 : decode cX33_passes 93 = .ok (.iconst 3, 1) := dk_6 (dk_at dksX33_passes_3 21 rfl rfl)
theorem dX33_passes_94 : decode cX33_passes 94 = .ok (.if_icmp .ne 128, 3) := dk_160 0 128 (dk_at dksX33_passes_4 0 rfl rfl)
theorem dX33_passes_97 : decode cX33_passes 97 = .ok (.aload_n 1, 1) := dk_43 (dk_at dksX33_passes_4 3 rfl rfl)
theorem dX33_passes_98 : decode cX33_passes 98 = .ok (.getfield 92, 3) := dk_180 0 92 (dk_at dksX33_passes_4 4 rfl rfl)
theorem dX33_passes_101 : decode cX33_passes 101 = .ok (.checkcast 96, 3) := dk_192 0 96 (dk_at dksX33_passes_4 7 rfl rfl)
theorem dX33_passes_104 : decode cX33_passes 104 = .ok (.astore 4, 2) := dk_58 4 (dk_at dksX33_passes_4 10 rfl rfl)
theorem dX33_passes_106 : decode cX33_passes 106 = .ok (.iload_n 2, 1) := dk_28 (dk_at dksX33_passes_4 12 rfl rfl)
theorem dX33_passes_107 : decode cX33_passes 107 = .ok (.iconst 1, 1) := dk_4 (dk_at dksX33_passes_4 13 rfl rfl)
theorem dX33_passes_108 : decode cX33_passes 108 = .ok (.if_icmp .ne 17, 3) := dk_160 0 17 (dk_at dksX33_passes_4 14 rfl rfl)
theorem dX33_passes_111 : decode cX33_passes 111 = .ok (.aload_n 0, 1) := dk_42 (dk_at dksX33_passes_4 17 rfl rfl)
theorem dX33_passes_112 : decode cX33_passes 112 = .ok (.bipush 13, 2) := dk_16 13 (dk_at dksX33_passes_4 18 rfl rfl)
theorem dX33_passes_114 : decode cX33_passes 114 = .ok (.iconst 0, 1) := dk_3 (dk_at dksX33_passes_4 20 rfl rfl)
theorem dX33_passes_115 : decode cX33_passes 115 = .ok (.aload 4, 2) := dk_25 4 (dk_at dksX33_passes_4 21 rfl rfl)
theorem dX33_passes_117 : decode cX33_passes 117 = .ok (.iconst 2, 1) := dk_5 (dk_at dksX33_passes_4 23 rfl rfl)
theorem dX33_passes_118 : decode cX33_passes 118 = .ok (.invokevirtual 98, 3) := dk_182 0 98 (dk_at dksX33_passes_5 0 rfl rfl)
theorem dX33_passes_121 : decode cX33_passes 121 = .ok (.invokevirtual 51, 3) := dk_182 0 51 (dk_at dksX33_passes_5 3 rfl rfl)
theorem dX33_passes_124 : decode cX33_passes 124 = .ok (.pop, 1) := dk_87 (dk_at dksX33_passes_5 6 rfl rfl)
theorem dX33_passes_125 : decode cX33_passes 125 = .ok (.aload_n 0, 1) := dk_42 (dk_at dksX33_passes_5 7 rfl rfl)
theorem dX33_passes_126 : decode cX33_passes 126 = .ok (.getfield 18, 3) := dk_180 0 18 (dk_at dksX33_passes_5 8 rfl rfl)
theorem dX33_passes_129 : decode cX33_passes 129 = .ok (.ifCond .eq 56, 3) := dk_153 0 56 (dk_at dksX33_passes_5 11 rfl rfl)
theorem dX33_passes_132 : decode cX33_passes 132 = .ok (.aload_n 0, 1) := dk_42 (dk_at dksX33_passes_5 14 rfl rfl)
theorem dX33_passes_133 : decode cX33_passes 133 = .ok (.bipush 18, 2) := dk_16 18 (dk_at dksX33_passes_5 15 rfl rfl)
theorem dX33_passes_135 : decode cX33_passes 135 = .ok (.iconst 0, 1) := dk_3 (dk_at dksX33_passes_5 17 rfl rfl)
theorem dX33_passes_136 : decode cX33_passes 136 = .ok (.aload 4, 2) := dk_25 4 (dk_at dksX33_passes_5 18 rfl rfl)
theorem dX33_passes_138 : decode cX33_passes 138 = .ok (.iconst 1, 1) := dk_4 (dk_at dksX33_passes_5 20 rfl rfl)
theorem dX33_passes_139 : decode cX33_passes 139 = .ok (.invokevirtual 98, 3) := dk_182 0 98 (dk_at dksX33_passes_5 21 rfl rfl)
theorem dX33_passes_142 : decode cX33_passes 142 = .ok (.invokevirtual 51, 3) := dk_182 0 51 (dk_at dksX33_passes_6 0 rfl rfl)
theorem dX33_passes_145 : decode cX33_passes 145 = .ok (.pop, 1) := dk_87 (dk_at dksX33_passes_6 3 rfl rfl)
theorem dX33_passes_146 : decode cX33_passes 146 = .ok (.aload_n 0, 1) := dk_42 (dk_at dksX33_passes_6 4 rfl rfl)
theorem dX33_passes_147 : decode cX33_passes 147 = .ok (.bipush 19, 2) := dk_16 19 (dk_at dksX33_passes_6 5 rfl rfl)
theorem dX33_passes_149 : decode cX33_passes 149 = .ok (.aload 4, 2) := dk_25 4 (dk_at dksX33_passes_6 7 rfl rfl)
theorem dX33_passes_151 : decode cX33_passes 151 = .ok (.iconst 3, 1) := dk_6 (dk_at dksX33_passes_6 9 rfl rfl)
theorem dX33_passes_152 : decode cX33_passes 152 = .ok (.invokevirtual 98, 3) := dk_182 0 98 (dk_at dksX33_passes_6 10 rfl rfl)
theorem dX33_passes_155 : decode cX33_passes 155 = .ok (.iconst 0, 1) := dk_3 (dk_at dksX33_passes_6 13 rfl rfl)
theorem dX33_passes_156 : decode cX33_passes 156 = .ok (.invokevirtual 51, 3) := dk_182 0 51 (dk_at dksX33_passes_6 14 rfl rfl)
theorem dX33_passes_159 : decode cX33_passes 159 = .ok (.istore 5, 2) := dk_54 5 (dk_at dksX33_passes_6 17 rfl rfl)
theorem dX33_passes_161 : decode cX33_passes 161 = .ok (.aload_n 1, 1) := dk_43 (dk_at dksX33_passes_6 19 rfl rfl)
theorem dX33_passes_162 : decode cX33_passes 162 = .ok (.aload_n 0, 1) := dk_42 (dk_at dksX33_passes_6 20 rfl rfl)
theorem dX33_passes_163 : decode cX33_passes 163 = .ok (.iconst 5, 1) := dk_8 (dk_at dksX33_passes_6 21 rfl rfl)
theorem dX33_passes_164 : decode cX33_passes 164 = .ok (.iconst 0, 1) := dk_3 (dk_at dksX33_passes_6 22 rfl rfl)
theorem dX33_passes_165 : decode cX33_passes 165 = .ok (.iconst 0, 1) := dk_3 (dk_at dksX33_passes_6 23 rfl rfl)
theorem dX33_passes_166 : decode cX33_passes 166 = .ok (.invokevirtual 51, 3) := dk_182 0 51 (dk_at dksX33_passes_7 0 rfl rfl)
theorem dX33_passes_169 : decode cX33_passes 169 = .ok (.invokevirtual 84, 3) := dk_182 0 84 (dk_at dksX33_passes_7 3 rfl rfl)
theorem dX33_passes_172 : decode cX33_passes 172 = .ok (.aload_n 0, 1) := dk_42 (dk_at dksX33_passes_7 6 rfl rfl)
theorem dX33_passes_173 : decode cX33_passes 173 = .ok (.iload 5, 2) := dk_21 5 (dk_at dksX33_passes_7 7 rfl rfl)
theorem dX33_passes_175 : decode cX33_passes 175 = .ok (.aload_n 0, 1) := dk_42 (dk_at dksX33_passes_7 9 rfl rfl)
theorem dX33_passes_176 : decode cX33_passes 176 = .ok (.getfield 22, 3) := dk_180 0 22 (dk_at dksX33_passes_7 10 rfl rfl)
theorem dX33_passes_179 : decode cX33_passes 179 = .ok (.invokevirtual 102, 3) := dk_182 0 102 (dk_at dksX33_passes_7 13 rfl rfl)
theorem dX33_passes_182 : decode cX33_passes 182 = .ok (.goto 21, 3) := dk_167 0 21 (dk_at dksX33_passes_7 16 rfl rfl)
theorem dX33_passes_185 : decode cX33_passes 185 = .ok (.aload_n 0, 1) := dk_42 (dk_at dksX33_passes_7 19 rfl rfl)
theorem dX33_passes_186 : decode cX33_passes 186 = .ok (.bipush 12, 2) := dk_16 12 (dk_at dksX33_passes_7 20 rfl rfl)
theorem dX33_passes_188 : decode cX33_passes 188 = .ok (.iload_n 3, 1) := dk_29 (dk_at dksX33_passes_7 22 rfl rfl)
theorem dX33_passes_189 : decode cX33_passes 189 = .ok (.iconst 0, 1) := dk_3 (dk_at dksX33_passes_7 23 rfl rfl)
theorem dX33_passes_190 : decode cX33_passes 190 = .ok (.invokevirtual 51, 3) := dk_182 0 51 (dk_at dksX33_passes_8 0 rfl rfl)
theorem dX33_passes_193 : decode cX33_passes 193 = .ok (.pop, 1) := dk_87 (dk_at dksX33_passes_8 3 rfl rfl)
theorem dX33_passes_194 : decode cX33_passes 194 = .ok (.aload_n 0, 1) := dk_42 (dk_at dksX33_passes_8 4 rfl rfl)
theorem dX33_passes_195 : decode cX33_passes 195 = .ok (.aload 4, 2) := dk_25 4 (dk_at dksX33_passes_8 5 rfl rfl)
theorem dX33_passes_197 : decode cX33_passes 197 = .ok (.getfield 105, 3) := dk_180 0 105 (dk_at dksX33_passes_8 7 rfl rfl)
theorem dX33_passes_200 : decode cX33_passes 200 = .ok (.invokevirtual 109, 3) := dk_182 0 109 (dk_at dksX33_passes_8 10 rfl rfl)
theorem dX33_passes_203 : decode cX33_passes 203 = .ok (.iload_n 2, 1) := dk_28 (dk_at dksX33_passes_8 13 rfl rfl)
theorem dX33_passes_204 : decode cX33_passes 204 = .ok (.iconst 1, 1) := dk_4 (dk_at dksX33_passes_8 14 rfl rfl)
theorem dX33_passes_205 : decode cX33_passes 205 = .ok (.if_icmp .ne 17, 3) := dk_160 0 17 (dk_at dksX33_passes_8 15 rfl rfl)
theorem dX33_passes_208 : decode cX33_passes 208 = .ok (.aload_n 0, 1) := dk_42 (dk_at dksX33_passes_8 18 rfl rfl)
theorem dX33_passes_209 : decode cX33_passes 209 = .ok (.bipush 14, 2) := dk_16 14 (dk_at dksX33_passes_8 19 rfl rfl)
theorem dX33_passes_211 : decode cX33_passes 211 = .ok (.iconst 0, 1) := dk_3 (dk_at dksX33_passes_8 21 rfl rfl)
theorem dX33_passes_212 : decode cX33_passes 212 = .ok (.aload 4, 2) := dk_25 4 (dk_at dksX33_passes_8 22 rfl rfl)
theorem dX33_passes_214 : decode cX33_passes 214 = .ok (.iconst 2, 1) := dk_5 (dk_at dksX33_passes_9 0 rfl rfl)
theorem dX33_passes_215 : decode cX33_passes 215 = .ok (.invokevirtual 98, 3) := dk_182 0 98 (dk_at dksX33_passes_9 1 rfl rfl)
theorem dX33_passes_218 : decode cX33_passes 218 = .ok (.invokevirtual 51, 3) := dk_182 0 51 (dk_at dksX33_passes_9 4 rfl rfl)
theorem dX33_passes_221 : decode cX33_passes 221 = .ok (.pop, 1) := dk_87 (dk_at dksX33_passes_9 7 rfl rfl)
theorem dX33_passes_222 : decode cX33_passes 222 = .ok (.return_, 1) := dk_177 (dk_at dksX33_passes_9 8 rfl rfl)
theorem okX33_passes_0 : XOkL xms rX33_passes bX33_passes_0 := xcP (xok_aload_n dX33_passes_0 rfl) rfl (xcP (xok_getfield (ref := "WaysAtlas$Scope") (Or.inr ⟨rfl, by decide⟩) dX33_passes_1 (Or.inr ⟨⟨"WaysAtlas", (List.mem_of_getElem? (i := 31) rfl)⟩, (Or.inl rfl)⟩) xh1139) rfl (xcP (xok_ifnonnull dX33_passes_4 (by decide)) rfl (xcP (xok_iconst dX33_passes_7 rfl) rfl (xcP (xok_goto dX33_passes_8 (by decide)) rfl trivial))))
theorem okX33_passes_11 : XOkL xms rX33_passes bX33_passes_11 := xcP (xok_aload_n dX33_passes_11 rfl) rfl (xcP (xok_getfield (ref := "WaysAtlas$Scope") (Or.inr ⟨rfl, by decide⟩) dX33_passes_12 (Or.inr ⟨⟨"WaysAtlas", (List.mem_of_getElem? (i := 31) rfl)⟩, (Or.inl rfl)⟩) xh1139) rfl (xcP (xok_getfield (ref := "WaysAtlas$Statement") (Or.inl ⟨rfl, by decide⟩) dX33_passes_15 (Or.inl ⟨q987, (Or.inl rfl)⟩) xh82) rfl (xcP xok_fal rfl trivial)))
theorem okX33_passes_18 : XOkL xms rX33_passes bX33_passes_18 := xcP (xok_istore_n dX33_passes_18 rfl) rfl (xcP (xok_aload_n dX33_passes_19 rfl) rfl (xcP (xok_getfield (ref := "WaysAtlas$Scope") (Or.inl ⟨rfl, by decide⟩) dX33_passes_20 (Or.inr ⟨⟨"WaysAtlas", (List.mem_of_getElem? (i := 29) rfl)⟩, (Or.inl rfl)⟩) xh96) rfl (xcP (xok_iconst dX33_passes_23 rfl) rfl (xcP (xok_icmpne dX33_passes_24 (by decide)) rfl (xcP (xok_aload_n dX33_passes_27 rfl) rfl (xcP (xok_bipush dX33_passes_28 rfl) rfl (xcP (xok_iload_n dX33_passes_30 rfl) rfl (xcP (xok_iconst dX33_passes_31 rfl) rfl (xcC0 (xokc_list (List.forall_mem_cons.mpr ⟨xokc_V (r := (RX33, TX33, 6)) xm276 (List.mem_of_getElem? (i := 30) rfl) (by decide) rfl dX33_passes_32 q1279 q1280 q1281 q179 q1282 (by decide +kernel), fun _ h => nomatch h⟩)) rfl (xcP (xok_pop dX33_passes_35) rfl (xcP (xok_goto dX33_passes_36 (by decide)) rfl trivial)))))))))))
theorem okX33_passes_39 : XOkL xms rX33_passes bX33_passes_39 := xcP (xok_aload_n dX33_passes_39 rfl) rfl (xcP (xok_getfield (ref := "WaysAtlas$Scope") (Or.inl ⟨rfl, by decide⟩) dX33_passes_40 (Or.inr ⟨⟨"WaysAtlas", (List.mem_of_getElem? (i := 29) rfl)⟩, (Or.inl rfl)⟩) xh96) rfl (xcP (xok_iconst dX33_passes_43 rfl) rfl (xcP (xok_icmpne dX33_passes_44 (by decide)) rfl (xcP (xok_aload_n dX33_passes_47 rfl) rfl (xcP (xok_bipush dX33_passes_48 rfl) rfl (xcP (xok_iconst dX33_passes_50 rfl) rfl (xcP (xok_iconst dX33_passes_51 rfl) rfl (xcC0 (xokc_list (List.forall_mem_cons.mpr ⟨xokc_V (r := (RX33, TX33, 6)) xm276 (List.mem_of_getElem? (i := 30) rfl) (by decide) rfl dX33_passes_52 q1279 q1280 q1281 q179 q1282 (by decide +kernel), fun _ h => nomatch h⟩)) rfl (xcP (xok_pop dX33_passes_55) rfl (xcP (xok_goto dX33_passes_56 (by decide)) rfl trivial))))))))))
theorem okX33_passes_59 : XOkL xms rX33_passes bX33_passes_59 := xcP (xok_aload_n dX33_passes_59 rfl) rfl (xcP (xok_getfield (ref := "WaysAtlas$Scope") (Or.inl ⟨rfl, by decide⟩) dX33_passes_60 (Or.inr ⟨⟨"WaysAtlas", (List.mem_of_getElem? (i := 29) rfl)⟩, (Or.inl rfl)⟩) xh96) rfl (xcP (xok_iconst dX33_passes_63 rfl) rfl (xcP (xok_icmpne dX33_passes_64 (by decide)) rfl (xcP (xok_aload_n dX33_passes_67 rfl) rfl (xcP (xok_bipush dX33_passes_68 rfl) rfl (xcP (xok_iconst dX33_passes_70 rfl) rfl (xcP (xok_aload_n dX33_passes_71 rfl) rfl (xcP (xok_getfield (ref := "WaysAtlas$Scope") (Or.inr ⟨rfl, by decide⟩) dX33_passes_72 (Or.inr ⟨⟨"WaysAtlas", (List.mem_of_getElem? (i := 31) rfl)⟩, (Or.inl rfl)⟩) xh1139) rfl (xcP (xok_checkcast (E := "WaysAtlas$Guard") dX33_passes_75 q1425 xfc_Guard) rfl (xcP (xok_iconst dX33_passes_78 rfl) rfl (xcC0 (xokc_list (List.forall_mem_cons.mpr ⟨xokc_V (r := (RX31, TX31, 7)) xm261 (List.mem_of_getElem? (i := 28) rfl) (by decide) rfl dX33_passes_79 q1369 q1370 q1371 q176 q1372 (by decide +kernel), fun _ h => nomatch h⟩)) rfl (xcC0 (xokc_list (List.forall_mem_cons.mpr ⟨xokc_V (r := (RX33, TX33, 6)) xm276 (List.mem_of_getElem? (i := 30) rfl) (by decide) rfl dX33_passes_82 q1279 q1280 q1281 q179 q1282 (by decide +kernel), fun _ h => nomatch h⟩)) rfl (xcP (xok_pop dX33_passes_85) rfl (xcP (xok_goto dX33_passes_86 (by decide)) rfl trivial))))))))))))))
theorem okX33_passes_89 : XOkL xms rX33_passes bX33_passes_89 := xcP (xok_aload_n dX33_passes_89 rfl) rfl (xcP (xok_getfield (ref := "WaysAtlas$Scope") (Or.inl ⟨rfl, by decide⟩) dX33_passes_90 (Or.inr ⟨⟨"WaysAtlas", (List.mem_of_getElem? (i := 29) rfl)⟩, (Or.inl rfl)⟩) xh96) rfl (xcP (xok_iconst dX33_passes_93 rfl) rfl (xcP (xok_icmpne dX33_passes_94 (by decide)) rfl (xcP (xok_aload_n dX33_passes_97 rfl) rfl (xcP (xok_getfield (ref := "WaysAtlas$Scope") (Or.inr ⟨rfl, by decide⟩) dX33_passes_98 (Or.inr ⟨⟨"WaysAtlas", (List.mem_of_getElem? (i := 31) rfl)⟩, (Or.inl rfl)⟩) xh1139) rfl (xcP (xok_checkcast (E := "WaysAtlas$Guard") dX33_passes_101 q1425 xfc_Guard) rfl (xcP (xok_astore dX33_passes_104) rfl (xcP (xok_iload_n dX33_passes_106 rfl) rfl (xcP (xok_iconst dX33_passes_107 rfl) rfl (xcP (xok_icmpne dX33_passes_108 (by decide)) rfl (xcP (xok_aload_n dX33_passes_111 rfl) rfl (xcP (xok_bipush dX33_passes_112 rfl) rfl (xcP (xok_iconst dX33_passes_114 rfl) rfl (xcP (xok_aload dX33_passes_115) rfl (xcP (xok_iconst dX33_passes_117 rfl) rfl (xcC0 (xokc_list (List.forall_mem_cons.mpr ⟨xokc_V (r := (RX31, TX31, 7)) xm261 (List.mem_of_getElem? (i := 28) rfl) (by decide) rfl dX33_passes_118 q1369 q1370 q1371 q176 q1372 (by decide +kernel), fun _ h => nomatch h⟩)) rfl (xcC0 (xokc_list (List.forall_mem_cons.mpr ⟨xokc_V (r := (RX33, TX33, 6)) xm276 (List.mem_of_getElem? (i := 30) rfl) (by decide) rfl dX33_passes_121 q1279 q1280 q1281 q179 q1282 (by decide +kernel), fun _ h => nomatch h⟩)) rfl (xcP (xok_pop dX33_passes_124) rfl (xcP xok_fal rfl trivial)))))))))))))))))))
theorem okX33_passes_125 : XOkL xms rX33_passes bX33_passes_125 := xcP (xok_aload_n dX33_passes_125 rfl) rfl (xcP (xok_getfield (ref := "WaysAtlas$Lower") (Or.inl ⟨rfl, by decide⟩) dX33_passes_126 (Or.inl ⟨q1251, (Or.inl rfl)⟩) xh102) rfl (xcP (xok_ifeq dX33_passes_129 (by decide)) rfl (xcP (xok_aload_n dX33_passes_132 rfl) rfl (xcP (xok_bipush dX33_passes_133 rfl) rfl (xcP (xok_iconst dX33_passes_135 rfl) rfl (xcP (xok_aload dX33_passes_136) rfl (xcP (xok_iconst dX33_passes_138 rfl) rfl (xcC0 (xokc_list (List.forall_mem_cons.mpr ⟨xokc_V (r := (RX31, TX31, 7)) xm261 (List.mem_of_getElem? (i := 28) rfl) (by decide) rfl dX33_passes_139 q1369 q1370 q1371 q176 q1372 (by decide +kernel), fun _ h => nomatch h⟩)) rfl (xcC0 (xokc_list (List.forall_mem_cons.mpr ⟨xokc_V (r := (RX33, TX33, 6)) xm276 (List.mem_of_getElem? (i := 30) rfl) (by decide) rfl dX33_passes_142 q1279 q1280 q1281 q179 q1282 (by decide +kernel), fun _ h => nomatch h⟩)) rfl (xcP (xok_pop dX33_passes_145) rfl (xcP (xok_aload_n dX33_passes_146 rfl) rfl (xcP (xok_bipush dX33_passes_147 rfl) rfl (xcP (xok_aload dX33_passes_149) rfl (xcP (xok_iconst dX33_passes_151 rfl) rfl (xcC0 (xokc_list (List.forall_mem_cons.mpr ⟨xokc_V (r := (RX31, TX31, 7)) xm261 (List.mem_of_getElem? (i := 28) rfl) (by decide) rfl dX33_passes_152 q1369 q1370 q1371 q176 q1372 (by decide +kernel), fun _ h => nomatch h⟩)) rfl (xcP (xok_iconst dX33_passes_155 rfl) rfl (xcC0 (xokc_list (List.forall_mem_cons.mpr ⟨xokc_V (r := (RX33, TX33, 6)) xm276 (List.mem_of_getElem? (i := 30) rfl) (by decide) rfl dX33_passes_156 q1279 q1280 q1281 q179 q1282 (by decide +kernel), fun _ h => nomatch h⟩)) rfl (xcP (xok_istore dX33_passes_159) rfl (xcP (xok_aload_n dX33_passes_161 rfl) rfl (xcP (xok_aload_n dX33_passes_162 rfl) rfl (xcP (xok_iconst dX33_passes_163 rfl) rfl (xcP (xok_iconst dX33_passes_164 rfl) rfl (xcP (xok_iconst dX33_passes_165 rfl) rfl (xcC0 (xokc_list (List.forall_mem_cons.mpr ⟨xokc_V (r := (RX33, TX33, 6)) xm276 (List.mem_of_getElem? (i := 30) rfl) (by decide) rfl dX33_passes_166 q1279 q1280 q1281 q179 q1282 (by decide +kernel), fun _ h => nomatch h⟩)) rfl (xcC0 (xokc_list (List.forall_mem_cons.mpr ⟨xokc_V (r := (RX32, TX32, 8)) xm270 (List.mem_of_getElem? (i := 29) rfl) (by decide) rfl dX33_passes_169 q1426 q1427 q1428 q177 q1429 (by decide +kernel), fun _ h => nomatch h⟩)) rfl (xcP (xok_aload_n dX33_passes_172 rfl) rfl (xcP (xok_iload dX33_passes_173) rfl (xcP (xok_aload_n dX33_passes_175 rfl) rfl (xcP (xok_getfield (ref := "WaysAtlas$Lower") (Or.inl ⟨rfl, by decide⟩) dX33_passes_176 (Or.inl ⟨q1244, (Or.inl rfl)⟩) xh100) rfl (xcC0 (xokc_list (List.forall_mem_cons.mpr ⟨xokc_V (r := (RX33, TX33, 6)) xm284 (List.mem_of_getElem? (i := 30) rfl) (by decide) rfl dX33_passes_179 q1381 q1382 q1383 q179 q1384 (by decide +kernel), fun _ h => nomatch h⟩)) rfl (xcP (xok_goto dX33_passes_182 (by decide)) rfl trivial)))))))))))))))))))))))))))))))
theorem okX33_passes_185 : XOkL xms rX33_passes bX33_passes_185 := xcP (xok_aload_n dX33_passes_185 rfl) rfl (xcP (xok_bipush dX33_passes_186 rfl) rfl (xcP (xok_iload_n dX33_passes_188 rfl) rfl (xcP (xok_iconst dX33_passes_189 rfl) rfl (xcC0 (xokc_list (List.forall_mem_cons.mpr ⟨xokc_V (r := (RX33, TX33, 6)) xm276 (List.mem_of_getElem? (i := 30) rfl) (by decide) rfl dX33_passes_190 q1279 q1280 q1281 q179 q1282 (by decide +kernel), fun _ h => nomatch h⟩)) rfl (xcP (xok_pop dX33_passes_193) rfl (xcP (xok_aload_n dX33_passes_194 rfl) rfl (xcP (xok_aload dX33_passes_195) rfl (xcP (xok_getfield (ref := "WaysAtlas$Guard") (Or.inr ⟨rfl, by decide⟩) dX33_passes_197 (Or.inr ⟨⟨"WaysAtlas", (List.mem_of_getElem? (i := 19) rfl)⟩, (Or.inl rfl)⟩) xh1138) rfl (xcC0 (xokc_list (List.forall_mem_cons.mpr ⟨xokc_V (r := (RX33, TX33, 6)) xm275 (List.mem_of_getElem? (i := 30) rfl) (by decide) rfl dX33_passes_200 q1274 q1275 q1276 q179 q1277 (by decide +kernel), fun _ h => nomatch h⟩)) rfl (xcP xok_fal rfl trivial))))))))))
theorem okX33_passes_203 : XOkL xms rX33_passes bX33_passes_203 := xcP (xok_iload_n dX33_passes_203 rfl) rfl (xcP (xok_iconst dX33_passes_204 rfl) rfl (xcP (xok_icmpne dX33_passes_205 (by decide)) rfl (xcP (xok_aload_n dX33_passes_208 rfl) rfl (xcP (xok_bipush dX33_passes_209 rfl) rfl (xcP (xok_iconst dX33_passes_211 rfl) rfl (xcP (xok_aload dX33_passes_212) rfl (xcP (xok_iconst dX33_passes_214 rfl) rfl (xcC0 (xokc_list (List.forall_mem_cons.mpr ⟨xokc_V (r := (RX31, TX31, 7)) xm261 (List.mem_of_getElem? (i := 28) rfl) (by decide) rfl dX33_passes_215 q1369 q1370 q1371 q176 q1372 (by decide +kernel), fun _ h => nomatch h⟩)) rfl (xcC0 (xokc_list (List.forall_mem_cons.mpr ⟨xokc_V (r := (RX33, TX33, 6)) xm276 (List.mem_of_getElem? (i := 30) rfl) (by decide) rfl dX33_passes_218 q1279 q1280 q1281 q179 q1282 (by decide +kernel), fun _ h => nomatch h⟩)) rfl (xcP (xok_pop dX33_passes_221) rfl (xcP xok_fal rfl trivial)))))))))))
theorem okX33_passes_222 : XOkL xms rX33_passes bX33_passes_222 := xcR ⟨dX33_passes_222, rfl⟩
theorem okM_X33_passes : XOkM xms rX33_passes := xokM0 (List.forall_mem_cons.mpr ⟨⟨rfl, okX33_passes_0⟩, List.forall_mem_cons.mpr ⟨⟨rfl, okX33_passes_11⟩, List.forall_mem_cons.mpr ⟨⟨rfl, okX33_passes_18⟩, List.forall_mem_cons.mpr ⟨⟨rfl, okX33_passes_39⟩, List.forall_mem_cons.mpr ⟨⟨rfl, okX33_passes_59⟩, List.forall_mem_cons.mpr ⟨⟨rfl, okX33_passes_89⟩, List.forall_mem_cons.mpr ⟨⟨rfl, okX33_passes_125⟩, List.forall_mem_cons.mpr ⟨⟨rfl, okX33_passes_185⟩, List.forall_mem_cons.mpr ⟨⟨rfl, okX33_passes_203⟩, List.forall_mem_cons.mpr ⟨⟨rfl, okX33_passes_222⟩, fun _ h => nomatch h⟩⟩⟩⟩⟩⟩⟩⟩⟩⟩) (xokH0 rfl (fun _ _ => rfl)) (by decide +kernel) (by decide)
abbrev cJ0_init : ByteArray := prog_43_method_1_code
def dkwJ0_init_1 : List UInt8 := [182, 0, 27, 87, 177]
abbrev dktJ0_init_1 : List UInt8 := dkwJ0_init_1 ++ []
def dkwJ0_init_0 : List UInt8 := [42, 183, 0, 1, 42, 42, 181, 0, 7, 42, 178, 0, 13, 181, 0, 17, 42, 178, 0, 20, 181, 0, 24, 42]
abbrev dktJ0_init_0 : List UInt8 := dkwJ0_init_0 ++ dktJ0_init_1
theorem dksJ0_init_0 : cJ0_init.data.toList.drop 0 = dktJ0_init_0 := by decide +kernel
theorem dksJ0_init_1 : cJ0_init.data.toList.drop 24 = dktJ0_init_1 := dk_seg dksJ0_init_0 24 rfl rfl
theorem dJ0_init_0 : decode cJ0_init 0 = .ok (.aload_n 0, 1) := dk_42 (dk_at dksJ0_init_0 0 rfl rfl)
theorem dJ0_init_1 : decode cJ0_init 1 = .ok (.invokespecial 1, 3) := dk_183 0 1 (dk_at dksJ0_init_0 1 rfl rfl)
theorem dJ0_init_4 : decode cJ0_init 4 = .ok (.aload_n 0, 1) := dk_42 (dk_at dksJ0_init_0 4 rfl rfl)
theorem dJ0_init_5 : decode cJ0_init 5 = .ok (.aload_n 0, 1) := dk_42 (dk_at dksJ0_init_0 5 rfl rfl)
theorem dJ0_init_6 : decode cJ0_init 6 = .ok (.putfield 7, 3) := dk_181 0 7 (dk_at dksJ0_init_0 6 rfl rfl)
theorem dJ0_init_9 : decode cJ0_init 9 = .ok (.aload_n 0, 1) := dk_42 (dk_at dksJ0_init_0 9 rfl rfl)
theorem dJ0_init_10 : decode cJ0_init 10 = .ok (.getstatic 13, 3) := dk_178 0 13 (dk_at dksJ0_init_0 10 rfl rfl)
theorem dJ0_init_13 : decode cJ0_init 13 = .ok (.putfield 17, 3) := dk_181 0 17 (dk_at dksJ0_init_0 13 rfl rfl)
theorem dJ0_init_16 : decode cJ0_init 16 = .ok (.aload_n 0, 1) := dk_42 (dk_at dksJ0_init_0 16 rfl rfl)
theorem dJ0_init_17 : decode cJ0_init 17 = .ok (.getstatic 20, 3) := dk_178 0 20 (dk_at dksJ0_init_0 17 rfl rfl)
theorem dJ0_init_20 : decode cJ0_init 20 = .ok (.putfield 24, 3) := dk_181 0 24 (dk_at dksJ0_init_0 20 rfl rfl)
theorem dJ0_init_23 : decode cJ0_init 23 = .ok (.aload_n 0, 1) := dk_42 (dk_at dksJ0_init_0 23 rfl rfl)
theorem dJ0_init_24 : decode cJ0_init 24 = .ok (.invokevirtual 27, 3) := dk_182 0 27 (dk_at dksJ0_init_1 0 rfl rfl)
theorem dJ0_init_27 : decode cJ0_init 27 = .ok (.pop, 1) := dk_87 (dk_at dksJ0_init_1 3 rfl rfl)
theorem dJ0_init_28 : decode cJ0_init 28 = .ok (.return_, 1) := dk_177 (dk_at dksJ0_init_1 4 rfl rfl)
theorem okJ0_init_0 : XOkL xms rJ0_init bJ0_init_0 := xcP (xok_aload_n dJ0_init_0 rfl) rfl (xcP (xok_objInit dJ0_init_1 q387 q186 q187) rfl (xcP (xok_aload_n dJ0_init_4 rfl) rfl (xcP (xok_aload_n dJ0_init_5 rfl) rfl (xcP (xok_putfield (ref := "java/lang/Throwable") (Or.inr (Or.inr ⟨rfl, by decide, rfl⟩)) dJ0_init_6 (Or.inl ⟨q418, (Or.inl rfl)⟩) (Or.inl rfl) xh1048) rfl (xcP (xok_aload_n dJ0_init_9 rfl) rfl (xcP (xok_gets (C := "java/lang/Throwable") (n := "UNASSIGNED_STACK") (t := "[Ljava/lang/StackTraceElement;") dJ0_init_10 (List.mem_of_getElem? (i := 1) rfl) q388) rfl (xcP (xok_putfield (ref := "java/lang/Throwable") (Or.inr (Or.inr ⟨rfl, by decide, rfl⟩)) dJ0_init_13 (Or.inl ⟨q419, (Or.inl rfl)⟩) (Or.inl rfl) xh1049) rfl (xcP (xok_aload_n dJ0_init_16 rfl) rfl (xcP (xok_gets (C := "java/lang/Throwable") (n := "SUPPRESSED_SENTINEL") (t := "Ljava/util/List;") dJ0_init_17 (List.mem_of_getElem? (i := 2) rfl) q390) rfl (xcP (xok_putfield (ref := "java/lang/Throwable") (Or.inr (Or.inr ⟨rfl, by decide, rfl⟩)) dJ0_init_20 (Or.inl ⟨q420, (Or.inl rfl)⟩) (Or.inl rfl) xh1050) rfl (xcP (xok_aload_n dJ0_init_23 rfl) rfl (xcP xok_bad rfl (xcP (xok_pop dJ0_init_27) rfl (xcR ⟨dJ0_init_28, rfl⟩))))))))))))))
theorem okM_J0_init : XOkM xms rJ0_init := xokM0 (List.forall_mem_cons.mpr ⟨⟨rfl, okJ0_init_0⟩, fun _ h => nomatch h⟩) (xokH0 rfl (fun _ _ => rfl)) (by decide +kernel) (by decide)
abbrev cJ0_init_2 : ByteArray := prog_43_method_5_code
def dkwJ0_init_2_2 : List UInt8 := [44, 181, 0, 7, 29, 154, 0, 8, 42, 1, 181, 0, 24, 177]
abbrev dktJ0_init_2_2 : List UInt8 := dkwJ0_init_2_2 ++ []
def dkwJ0_init_2_1 : List UInt8 := [21, 4, 153, 0, 11, 42, 182, 0, 27, 87, 167, 0, 8, 42, 1, 181, 0, 17, 42, 43, 181, 0, 31, 42]
abbrev dktJ0_init_2_1 : List UInt8 := dkwJ0_init_2_1 ++ dktJ0_init_2_2
def dkwJ0_init_2_0 : List UInt8 := [42, 183, 0, 1, 42, 42, 181, 0, 7, 42, 178, 0, 13, 181, 0, 17, 42, 178, 0, 20, 181, 0, 24]
abbrev dktJ0_init_2_0 : List UInt8 := dkwJ0_init_2_0 ++ dktJ0_init_2_1
theorem dksJ0_init_2_0 : cJ0_init_2.data.toList.drop 0 = dktJ0_init_2_0 := by decide +kernel
theorem dksJ0_init_2_1 : cJ0_init_2.data.toList.drop 23 = dktJ0_init_2_1 := dk_seg dksJ0_init_2_0 23 rfl rfl
theorem dksJ0_init_2_2 : cJ0_init_2.data.toList.drop 47 = dktJ0_init_2_2 := dk_seg dksJ0_init_2_1 24 rfl rfl
theorem dJ0_init_2_0 : decode cJ0_init_2 0 = .ok (.aload_n 0, 1) := dk_42 (dk_at dksJ0_init_2_0 0 rfl rfl)
theorem dJ0_init_2_1 : decode cJ0_init_2 1 = .ok (.invokespecial 1, 3) := dk_183 0 1 (dk_at dksJ0_init_2_0 1 rfl rfl)
theorem dJ0_init_2_4 : decode cJ0_init_2 4 = .ok (.aload_n 0, 1) := dk_42 (dk_at dksJ0_init_2_0 4 rfl rfl)
theorem dJ0_init_2_5 : decode cJ0_init_2 5 = .ok (.aload_n 0, 1) := dk_42 (dk_at dksJ0_init_2_0 5 rfl rfl)
theorem dJ0_init_2_6 : decode cJ0_init_2 6 = .ok (.putfield 7, 3) := dk_181 0 7 (dk_at dksJ0_init_2_0 6 rfl rfl)
theorem dJ0_init_2_9 : decode cJ0_init_2 9 = .ok (.aload_n 0, 1) := dk_42 (dk_at dksJ0_init_2_0 9 rfl rfl)
theorem dJ0_init_2_10 : decode cJ0_init_2 10 = .ok (.getstatic 13, 3) := dk_178 0 13 (dk_at dksJ0_init_2_0 10 rfl rfl)
theorem dJ0_init_2_13 : decode cJ0_init_2 13 = .ok (.putfield 17, 3) := dk_181 0 17 (dk_at dksJ0_init_2_0 13 rfl rfl)
theorem dJ0_init_2_16 : decode cJ0_init_2 16 = .ok (.aload_n 0, 1) := dk_42 (dk_at dksJ0_init_2_0 16 rfl rfl)
theorem dJ0_init_2_17 : decode cJ0_init_2 17 = .ok (.getstatic 20, 3) := dk_178 0 20 (dk_at dksJ0_init_2_0 17 rfl rfl)
theorem dJ0_init_2_20 : decode cJ0_init_2 20 = .ok (.putfield 24, 3) := dk_181 0 24 (dk_at dksJ0_init_2_0 20 rfl rfl)
theorem dJ0_init_2_23 : decode cJ0_init_2 23 = .ok (.iload 4, 2) := dk_21 4 (dk_at dksJ0_init_2_1 0 rfl rfl)
theorem dJ0_init_2_25 : decode cJ0_init_2 25 = .ok (.ifCond .eq 11, 3) := dk_153 0 11 (dk_at dksJ0_init_2_1 2 rfl rfl)
theorem dJ0_init_2_28 : decode cJ0_init_2 28 = .ok (.aload_n 0, 1) := dk_42 (dk_at dksJ0_init_2_1 5 rfl rfl)
theorem dJ0_init_2_29 : decode cJ0_init_2 29 = .ok (.invokevirtual 27, 3) := dk_182 0 27 (dk_at dksJ0_init_2_1 6 rfl rfl)
theorem dJ0_init_2_32 : decode cJ0_init_2 32 = .ok (.pop, 1) := dk_87 (dk_at dksJ0_init_2_1 9 rfl rfl)
theorem dJ0_init_2_33 : decode cJ0_init_2 33 = .ok (.goto 8, 3) := dk_167 0 8 (dk_at dksJ0_init_2_1 10 rfl rfl)
theorem dJ0_init_2_36 : decode cJ0_init_2 36 = .ok (.aload_n 0, 1) := dk_42 (dk_at dksJ0_init_2_1 13 rfl rfl)
theorem dJ0_init_2_37 : decode cJ0_init_2 37 = .ok (.aconst_null, 1) := dk_1 (dk_at dksJ0_init_2_1 14 rfl rfl)
theorem dJ0_init_2_38 : decode cJ0_init_2 38 = .ok (.putfield 17, 3) := dk_181 0 17 (dk_at dksJ0_init_2_1 15 rfl rfl)
theorem dJ0_init_2_41 : decode cJ0_init_2 41 = .ok (.aload_n 0, 1) := dk_42 (dk_at dksJ0_init_2_1 18 rfl rfl)
theorem dJ0_init_2_42 : decode cJ0_init_2 42 = .ok (.aload_n 1, 1) := dk_43 (dk_at dksJ0_init_2_1 19 rfl rfl)
theorem dJ0_init_2_43 : decode cJ0_init_2 43 = .ok (.putfield 31, 3) := dk_181 0 31 (dk_at dksJ0_init_2_1 20 rfl rfl)
theorem dJ0_init_2_46 : decode cJ0_init_2 46 = .ok (.aload_n 0, 1) := dk_42 (dk_at dksJ0_init_2_1 23 rfl rfl)
theorem dJ0_init_2_47 : decode cJ0_init_2 47 = .ok (.aload_n 2, 1) := dk_44 (dk_at dksJ0_init_2_2 0 rfl rfl)
theorem dJ0_init_2_48 : decode cJ0_init_2 48 = .ok (.putfield 7, 3) := dk_181 0 7 (dk_at dksJ0_init_2_2 1 rfl rfl)
theorem dJ0_init_2_51 : decode cJ0_init_2 51 = .ok (.iload_n 3, 1) := dk_29 (dk_at dksJ0_init_2_2 4 rfl rfl)
theorem dJ0_init_2_52 : decode cJ0_init_2 52 = .ok (.ifCond .ne 8, 3) := dk_154 0 8 (dk_at dksJ0_init_2_2 5 rfl rfl)
theorem dJ0_init_2_55 : decode cJ0_init_2 55 = .ok (.aload_n 0, 1) := dk_42 (dk_at dksJ0_init_2_2 8 rfl rfl)
theorem dJ0_init_2_56 : decode cJ0_init_2 56 = .ok (.aconst_null, 1) := dk_1 (dk_at dksJ0_init_2_2 9 rfl rfl)
theorem dJ0_init_2_57 : decode cJ0_init_2 57 = .ok (.putfield 24, 3) := dk_181 0 24 (dk_at dksJ0_init_2_2 10 rfl rfl)
theorem dJ0_init_2_60 : decode cJ0_init_2 60 = .ok (.return_, 1) := dk_177 (dk_at dksJ0_init_2_2 13 rfl rfl)
theorem okJ0_init_2_0 : XOkL xms rJ0_init_2 bJ0_init_2_0 := xcP (xok_aload_n dJ0_init_2_0 rfl) rfl (xcP (xok_objInit dJ0_init_2_1 q387 q186 q187) rfl (xcP (xok_aload_n dJ0_init_2_4 rfl) rfl (xcP (xok_aload_n dJ0_init_2_5 rfl) rfl (xcP (xok_putfield (ref := "java/lang/Throwable") (Or.inr (Or.inr ⟨rfl, by decide, rfl⟩)) dJ0_init_2_6 (Or.inl ⟨q418, (Or.inl rfl)⟩) (Or.inl rfl) xh1048) rfl (xcP (xok_aload_n dJ0_init_2_9 rfl) rfl (xcP (xok_gets (C := "java/lang/Throwable") (n := "UNASSIGNED_STACK") (t := "[Ljava/lang/StackTraceElement;") dJ0_init_2_10 (List.mem_of_getElem? (i := 1) rfl) q388) rfl (xcP (xok_putfield (ref := "java/lang/Throwable") (Or.inr (Or.inr ⟨rfl, by decide, rfl⟩)) dJ0_init_2_13 (Or.inl ⟨q419, (Or.inl rfl)⟩) (Or.inl rfl) xh1049) rfl (xcP (xok_aload_n dJ0_init_2_16 rfl) rfl (xcP (xok_gets (C := "java/lang/Throwable") (n := "SUPPRESSED_SENTINEL") (t := "Ljava/util/List;") dJ0_init_2_17 (List.mem_of_getElem? (i := 2) rfl) q390) rfl (xcP (xok_putfield (ref := "java/lang/Throwable") (Or.inr (Or.inr ⟨rfl, by decide, rfl⟩)) dJ0_init_2_20 (Or.inl ⟨q420, (Or.inl rfl)⟩) (Or.inl rfl) xh1050) rfl (xcP (xok_iload dJ0_init_2_23) rfl (xcP (xok_ifeq dJ0_init_2_25 (by decide)) rfl (xcP (xok_aload_n dJ0_init_2_28 rfl) rfl (xcP xok_bad rfl (xcP (xok_pop dJ0_init_2_32) rfl (xcP (xok_goto dJ0_init_2_33 (by decide)) rfl trivial))))))))))))))))
theorem okJ0_init_2_36 : XOkL xms rJ0_init_2 bJ0_init_2_36 := xcP (xok_aload_n dJ0_init_2_36 rfl) rfl (xcP (xok_null dJ0_init_2_37) rfl (xcP (xok_putfield (ref := "java/lang/Throwable") (Or.inr (Or.inr ⟨rfl, by decide, rfl⟩)) dJ0_init_2_38 (Or.inl ⟨q419, (Or.inl rfl)⟩) (Or.inl rfl) xh1049) rfl (xcP xok_fal rfl trivial)))
theorem okJ0_init_2_41 : XOkL xms rJ0_init_2 bJ0_init_2_41 := xcP (xok_aload_n dJ0_init_2_41 rfl) rfl (xcP (xok_aload_n dJ0_init_2_42 rfl) rfl (xcP (xok_putfield (ref := "java/lang/Throwable") (Or.inr (Or.inr ⟨rfl, by decide, rfl⟩)) dJ0_init_2_43 (Or.inl ⟨q417, (Or.inl rfl)⟩) (Or.inl rfl) xh1051) rfl (xcP (xok_aload_n dJ0_init_2_46 rfl) rfl (xcP (xok_aload_n dJ0_init_2_47 rfl) rfl (xcP (xok_putfield (ref := "java/lang/Throwable") (Or.inr (Or.inr ⟨rfl, by decide, rfl⟩)) dJ0_init_2_48 (Or.inl ⟨q418, (Or.inl rfl)⟩) (Or.inl rfl) xh1048) rfl (xcP (xok_iload_n dJ0_init_2_51 rfl) rfl (xcP (xok_ifne dJ0_init_2_52 (by decide)) rfl (xcP (xok_aload_n dJ0_init_2_55 rfl) rfl (xcP (xok_null dJ0_init_2_56) rfl (xcP (xok_putfield (ref := "java/lang/Throwable") (Or.inr (Or.inr ⟨rfl, by decide, rfl⟩)) dJ0_init_2_57 (Or.inl ⟨q420, (Or.inl rfl)⟩) (Or.inl rfl) xh1050) rfl (xcP xok_fal rfl trivial)))))))))))
theorem okJ0_init_2_60 : XOkL xms rJ0_init_2 bJ0_init_2_60 := xcR ⟨dJ0_init_2_60, rfl⟩
theorem okM_J0_init_2 : XOkM xms rJ0_init_2 := xokM0 (List.forall_mem_cons.mpr ⟨⟨rfl, okJ0_init_2_0⟩, List.forall_mem_cons.mpr ⟨⟨rfl, okJ0_init_2_36⟩, List.forall_mem_cons.mpr ⟨⟨rfl, okJ0_init_2_41⟩, List.forall_mem_cons.mpr ⟨⟨rfl, okJ0_init_2_60⟩, fun _ h => nomatch h⟩⟩⟩⟩) (xokH0 rfl (fun _ _ => rfl)) (by decide +kernel) (by decide)
abbrev cJ1_init : ByteArray := prog_37_method_5_code
def dkwJ1_init_0 : List UInt8 := [42, 43, 44, 29, 21, 4, 183, 0, 16, 177]
abbrev dktJ1_init_0 : List UInt8 := dkwJ1_init_0 ++ []
theorem dksJ1_init_0 : cJ1_init.data.toList.drop 0 = dktJ1_init_0 := by decide +kernel
theorem dJ1_init_0 : decode cJ1_init 0 = .ok (.aload_n 0, 1) := dk_42 (dk_at dksJ1_init_0 0 rfl rfl)
theorem dJ1_init_1 : decode cJ1_init 1 = .ok (.aload_n 1, 1) := dk_43 (dk_at dksJ1_init_0 1 rfl rfl)
theorem dJ1_init_2 : decode cJ1_init 2 = .ok (.aload_n 2, 1) := dk_44 (dk_at dksJ1_init_0 2 rfl rfl)
theorem dJ1_init_3 : decode cJ1_init 3 = .ok (.iload_n 3, 1) := dk_29 (dk_at dksJ1_init_0 3 rfl rfl)
theorem dJ1_init_4 : decode cJ1_init 4 = .ok (.iload 4, 2) := dk_21 4 (dk_at dksJ1_init_0 4 rfl rfl)
theorem dJ1_init_6 : decode cJ1_init 6 = .ok (.invokespecial 16, 3) := dk_183 0 16 (dk_at dksJ1_init_0 6 rfl rfl)
theorem dJ1_init_9 : decode cJ1_init 9 = .ok (.return_, 1) := dk_177 (dk_at dksJ1_init_0 9 rfl rfl)
theorem okJ1_init_0 : XOkL xms rJ1_init bJ1_init_0 := xcP (xok_aload_n dJ1_init_0 rfl) rfl (xcP (xok_aload_n dJ1_init_1 rfl) rfl (xcP (xok_aload_n dJ1_init_2 rfl) rfl (xcP (xok_iload_n dJ1_init_3 rfl) rfl (xcP (xok_iload dJ1_init_4) rfl (xcC0 (xokc_I xm291 rfl rfl dJ1_init_6 q410 q411 q144 q412 rfl (by decide +kernel)) rfl (xcR ⟨dJ1_init_9, rfl⟩))))))
theorem okM_J1_init : XOkM xms rJ1_init := xokM0 (List.forall_mem_cons.mpr ⟨⟨rfl, okJ1_init_0⟩, fun _ h => nomatch h⟩) (xokH0 rfl (fun _ _ => rfl)) (by decide +kernel) (by decide)
abbrev cJ6_min : ByteArray := prog_38_method_69_code
def dkwJ6_min_0 : List UInt8 := [26, 27, 163, 0, 7, 26, 167, 0, 4, 27, 172]
abbrev dktJ6_min_0 : List UInt8 := dkwJ6_min_0 ++ []
theorem dksJ6_min_0 : cJ6_min.data.toList.drop 0 = dktJ6_min_0 := by decide +kernel
theorem dJ6_min_0 : decode cJ6_min 0 = .ok (.iload_n 0, 1) := dk_26 (dk_at dksJ6_min_0 0 rfl rfl)
theorem dJ6_min_1 : decode cJ6_min 1 = .ok (.iload_n 1, 1) := dk_27 (dk_at dksJ6_min_0 1 rfl rfl)
theorem dJ6_min_2 : decode cJ6_min 2 = .ok (.if_icmp .gt 7, 3) := dk_163 0 7 (dk_at dksJ6_min_0 2 rfl rfl)
theorem dJ6_min_5 : decode cJ6_min 5 = .ok (.iload_n 0, 1) := dk_26 (dk_at dksJ6_min_0 5 rfl rfl)
theorem dJ6_min_6 : decode cJ6_min 6 = .ok (.goto 4, 3) := dk_167 0 4 (dk_at dksJ6_min_0 6 rfl rfl)
theorem dJ6_min_9 : decode cJ6_min 9 = .ok (.iload_n 1, 1) := dk_27 (dk_at dksJ6_min_0 9 rfl rfl)
theorem dJ6_min_10 : decode cJ6_min 10 = .ok (.ireturn, 1) := dk_172 (dk_at dksJ6_min_0 10 rfl rfl)
theorem okJ6_min_0 : XOkL xms rJ6_min bJ6_min_0 := xcP (xok_iload_n dJ6_min_0 rfl) rfl (xcP (xok_iload_n dJ6_min_1 rfl) rfl (xcP (xok_icmpgt dJ6_min_2 (by decide)) rfl (xcP (xok_iload_n dJ6_min_5 rfl) rfl (xcP (xok_goto dJ6_min_6 (by decide)) rfl trivial))))
theorem okJ6_min_9 : XOkL xms rJ6_min bJ6_min_9 := xcP (xok_iload_n dJ6_min_9 rfl) rfl (xcP xok_fal rfl trivial)
theorem okJ6_min_10 : XOkL xms rJ6_min bJ6_min_10 := xcR ⟨dJ6_min_10, rfl⟩
theorem okM_J6_min : XOkM xms rJ6_min := xokM0 (List.forall_mem_cons.mpr ⟨⟨rfl, okJ6_min_0⟩, List.forall_mem_cons.mpr ⟨⟨rfl, okJ6_min_9⟩, List.forall_mem_cons.mpr ⟨⟨rfl, okJ6_min_10⟩, fun _ h => nomatch h⟩⟩⟩) (xokH0 rfl (fun _ _ => rfl)) (by decide +kernel) (by decide)
abbrev cJ6_max : ByteArray := prog_38_method_65_code
def dkwJ6_max_0 : List UInt8 := [26, 27, 161, 0, 7, 26, 167, 0, 4, 27, 172]
abbrev dktJ6_max_0 : List UInt8 := dkwJ6_max_0 ++ []
theorem dksJ6_max_0 : cJ6_max.data.toList.drop 0 = dktJ6_max_0 := by decide +kernel
theorem dJ6_max_0 : decode cJ6_max 0 = .ok (.iload_n 0, 1) := dk_26 (dk_at dksJ6_max_0 0 rfl rfl)
theorem dJ6_max_1 : decode cJ6_max 1 = .ok (.iload_n 1, 1) := dk_27 (dk_at dksJ6_max_0 1 rfl rfl)
theorem dJ6_max_2 : decode cJ6_max 2 = .ok (.if_icmp .lt 7, 3) := dk_161 0 7 (dk_at dksJ6_max_0 2 rfl rfl)
theorem dJ6_max_5 : decode cJ6_max 5 = .ok (.iload_n 0, 1) := dk_26 (dk_at dksJ6_max_0 5 rfl rfl)
theorem dJ6_max_6 : decode cJ6_max 6 = .ok (.goto 4, 3) := dk_167 0 4 (dk_at dksJ6_max_0 6 rfl rfl)
theorem dJ6_max_9 : decode cJ6_max 9 = .ok (.iload_n 1, 1) := dk_27 (dk_at dksJ6_max_0 9 rfl rfl)
theorem dJ6_max_10 : decode cJ6_max 10 = .ok (.ireturn, 1) := dk_172 (dk_at dksJ6_max_0 10 rfl rfl)
theorem okJ6_max_0 : XOkL xms rJ6_max bJ6_max_0 := xcP (xok_iload_n dJ6_max_0 rfl) rfl (xcP (xok_iload_n dJ6_max_1 rfl) rfl (xcP (xok_icmplt dJ6_max_2 (by decide)) rfl (xcP (xok_iload_n dJ6_max_5 rfl) rfl (xcP (xok_goto dJ6_max_6 (by decide)) rfl trivial))))
theorem okJ6_max_9 : XOkL xms rJ6_max bJ6_max_9 := xcP (xok_iload_n dJ6_max_9 rfl) rfl (xcP xok_fal rfl trivial)
theorem okJ6_max_10 : XOkL xms rJ6_max bJ6_max_10 := xcR ⟨dJ6_max_10, rfl⟩
theorem okM_J6_max : XOkM xms rJ6_max := xokM0 (List.forall_mem_cons.mpr ⟨⟨rfl, okJ6_max_0⟩, List.forall_mem_cons.mpr ⟨⟨rfl, okJ6_max_9⟩, List.forall_mem_cons.mpr ⟨⟨rfl, okJ6_max_10⟩, fun _ h => nomatch h⟩⟩⟩) (xokH0 rfl (fun _ _ => rfl)) (by decide +kernel) (by decide)
