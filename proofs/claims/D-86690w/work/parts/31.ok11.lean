set_option maxRecDepth 100000
abbrev cX9_notesWay : ByteArray := prog_36_method_103_code
def dkwX9_notesWay_9 : List UInt8 := [4, 167, 0, 4, 3, 96, 181, 2, 107, 177]
abbrev dktX9_notesWay_9 : List UInt8 := dkwX9_notesWay_9 ++ []
def dkwX9_notesWay_8 : List UInt8 := [154, 0, 7, 4, 167, 0, 4, 3, 61, 132, 3, 1, 167, 255, 177, 42, 89, 180, 2, 107, 28, 153, 0, 7]
abbrev dktX9_notesWay_8 : List UInt8 := dkwX9_notesWay_8 ++ dktX9_notesWay_9
def dkwX9_notesWay_7 : List UInt8 := [160, 0, 7, 4, 167, 0, 4, 3, 54, 4, 132, 5, 1, 167, 255, 212, 28, 153, 0, 12, 21, 4]
abbrev dktX9_notesWay_7 : List UInt8 := dkwX9_notesWay_7 ++ dktX9_notesWay_8
def dkwX9_notesWay_6 : List UInt8 := [153, 0, 30, 42, 180, 0, 232, 7, 29, 104, 21, 5, 96, 46, 42, 180, 0, 232, 27, 21, 5, 96, 46]
abbrev dktX9_notesWay_6 : List UInt8 := dkwX9_notesWay_6 ++ dktX9_notesWay_7
def dkwX9_notesWay_5 : List UInt8 := [62, 29, 42, 180, 2, 107, 162, 0, 77, 4, 54, 4, 3, 54, 5, 21, 5, 7, 162, 0, 44, 21, 4]
abbrev dktX9_notesWay_5 : List UInt8 := dkwX9_notesWay_5 ++ dktX9_notesWay_6
def dkwX9_notesWay_4 : List UInt8 := [180, 0, 145, 17, 1, 154, 42, 180, 1, 219, 104, 42, 6, 182, 1, 237, 96, 4, 100, 46, 79, 4, 61, 3]
abbrev dktX9_notesWay_4 : List UInt8 := dkwX9_notesWay_4 ++ dktX9_notesWay_5
def dkwX9_notesWay_3 : List UInt8 := [79, 42, 180, 0, 232, 27, 6, 96, 42, 6, 182, 1, 237, 154, 0, 8, 16, 247, 167, 0, 24, 42]
abbrev dktX9_notesWay_3 : List UInt8 := dkwX9_notesWay_3 ++ dktX9_notesWay_4
def dkwX9_notesWay_2 : List UInt8 := [16, 247, 167, 0, 22, 42, 180, 0, 148, 17, 1, 164, 42, 180, 1, 219, 104, 42, 5, 182, 1, 237, 96, 46]
abbrev dktX9_notesWay_2 : List UInt8 := dkwX9_notesWay_2 ++ dktX9_notesWay_3
def dkwX9_notesWay_1 : List UInt8 := [96, 42, 4, 182, 1, 237, 79, 42, 180, 0, 232, 27, 5, 96, 42, 5, 182, 1, 237, 16, 247, 160, 0, 8]
abbrev dktX9_notesWay_1 : List UInt8 := dkwX9_notesWay_1 ++ dktX9_notesWay_2
def dkwX9_notesWay_0 : List UInt8 := [7, 42, 180, 2, 107, 104, 60, 42, 180, 0, 232, 27, 42, 3, 182, 1, 237, 79, 42, 180, 0, 232, 27, 4]
abbrev dktX9_notesWay_0 : List UInt8 := dkwX9_notesWay_0 ++ dktX9_notesWay_1
theorem dksX9_notesWay_0 : cX9_notesWay.data.toList.drop 0 = dktX9_notesWay_0 := by decide +kernel
theorem dksX9_notesWay_1 : cX9_notesWay.data.toList.drop 24 = dktX9_notesWay_1 := dk_seg dksX9_notesWay_0 24 rfl rfl
theorem dksX9_notesWay_2 : cX9_notesWay.data.toList.drop 48 = dktX9_notesWay_2 := dk_seg dksX9_notesWay_1 24 rfl rfl
theorem dksX9_notesWay_3 : cX9_notesWay.data.toList.drop 72 = dktX9_notesWay_3 := dk_seg dksX9_notesWay_2 24 rfl rfl
theorem dksX9_notesWay_4 : cX9_notesWay.data.toList.drop 94 = dktX9_notesWay_4 := dk_seg dksX9_notesWay_3 22 rfl rfl
theorem dksX9_notesWay_5 : cX9_notesWay.data.toList.drop 118 = dktX9_notesWay_5 := dk_seg dksX9_notesWay_4 24 rfl rfl
theorem dksX9_notesWay_6 : cX9_notesWay.data.toList.drop 141 = dktX9_notesWay_6 := dk_seg dksX9_notesWay_5 23 rfl rfl
theorem dksX9_notesWay_7 : cX9_notesWay.data.toList.drop 164 = dktX9_notesWay_7 := dk_seg dksX9_notesWay_6 23 rfl rfl
theorem dksX9_notesWay_8 : cX9_notesWay.data.toList.drop 186 = dktX9_notesWay_8 := dk_seg dksX9_notesWay_7 22 rfl rfl
theorem dksX9_notesWay_9 : cX9_notesWay.data.toList.drop 210 = dktX9_notesWay_9 := dk_seg dksX9_notesWay_8 24 rfl rfl
theorem dX9_notesWay_0 : decode cX9_notesWay 0 = .ok (.iconst 4, 1) := dk_7 (dk_at dksX9_notesWay_0 0 rfl rfl)
theorem dX9_notesWay_1 : decode cX9_notesWay 1 = .ok (.aload_n 0, 1) := dk_42 (dk_at dksX9_notesWay_0 1 rfl rfl)
theorem dX9_notesWay_2 : decode cX9_notesWay 2 = .ok (.getfield 619, 3) := dk_180 2 107 (dk_at dksX9_notesWay_0 2 rfl rfl)
theorem dX9_notesWay_5 : decode cX9_notesWay 5 = .ok (.imul, 1) := dk_104 (dk_at dksX9_notesWay_0 5 rfl rfl)
theorem dX9_notesWay_6 : decode cX9_notesWay 6 = .ok (.istore_n 1, 1) := dk_60 (dk_at dksX9_notesWay_0 6 rfl rfl)
theorem dX9_notesWay_7 : decode cX9_notesWay 7 = .ok (.aload_n 0, 1) := dk_42 (dk_at dksX9_notesWay_0 7 rfl rfl)
theorem dX9_notesWay_8 : decode cX9_notesWay 8 = .ok (.getfield 232, 3) := dk_180 0 232 (dk_at dksX9_notesWay_0 8 rfl rfl)
theorem dX9_notesWay_11 : decode cX9_notesWay 11 = .ok (.iload_n 1, 1) := dk_27 (dk_at dksX9_notesWay_0 11 rfl rfl)
theorem dX9_notesWay_12 : decode cX9_notesWay 12 = .ok (.aload_n 0, 1) := dk_42 (dk_at dksX9_notesWay_0 12 rfl rfl)
theorem dX9_notesWay_13 : decode cX9_notesWay 13 = .ok (.iconst 0, 1) := dk_3 (dk_at dksX9_notesWay_0 13 rfl rfl)
theorem dX9_notesWay_14 : decode cX9_notesWay 14 = .ok (.invokevirtual 493, 3) := dk_182 1 237 (dk_at dksX9_notesWay_0 14 rfl rfl)
theorem dX9_notesWay_17 : decode cX9_notesWay 17 = .ok (.iastore, 1) := dk_79 (dk_at dksX9_notesWay_0 17 rfl rfl)
theorem dX9_notesWay_18 : decode cX9_notesWay 18 = .ok (.aload_n 0, 1) := dk_42 (dk_at dksX9_notesWay_0 18 rfl rfl)
theorem dX9_notesWay_19 : decode cX9_notesWay 19 = .ok (.getfield 232, 3) := dk_180 0 232 (dk_at dksX9_notesWay_0 19 rfl rfl)
theorem dX9_notesWay_22 : decode cX9_notesWay 22 = .ok (.iload_n 1, 1) := dk_27 (dk_at dksX9_notesWay_0 22 rfl rfl)
theorem dX9_notesWay_23 : decode cX9_notesWay 23 = .ok (.iconst 1, 1) := dk_4 (dk_at dksX9_notesWay_0 23 rfl rfl)
theorem dX9_notesWay_24 : decode cX9_notesWay 24 = .ok (.iadd, 1) := dk_96 (dk_at dksX9_notesWay_1 0 rfl rfl)
theorem dX9_notesWay_25 : decode cX9_notesWay 25 = .ok (.aload_n 0, 1) := dk_42 (dk_at dksX9_notesWay_1 1 rfl rfl)
theorem dX9_notesWay_26 : decode cX9_notesWay 26 = .ok (.iconst 1, 1) := dk_4 (dk_at dksX9_notesWay_1 2 rfl rfl)
theorem dX9_notesWay_27 : decode cX9_notesWay 27 = .ok (.invokevirtual 493, 3) := dk_182 1 237 (dk_at dksX9_notesWay_1 3 rfl rfl)
theorem dX9_notesWay_30 : decode cX9_notesWay 30 = .ok (.iastore, 1) := dk_79 (dk_at dksX9_notesWay_1 6 rfl rfl)
theorem dX9_notesWay_31 : decode cX9_notesWay 31 = .ok (.aload_n 0, 1) := dk_42 (dk_at dksX9_notesWay_1 7 rfl rfl)
theorem dX9_notesWay_32 : decode cX9_notesWay 32 = .ok (.getfield 232, 3) := dk_180 0 232 (dk_at dksX9_notesWay_1 8 rfl rfl)
theorem dX9_notesWay_35 : decode cX9_notesWay 35 = .ok (.iload_n 1, 1) := dk_27 (dk_at dksX9_notesWay_1 11 rfl rfl)
theorem dX9_notesWay_36 : decode cX9_notesWay 36 = .ok (.iconst 2, 1) := dk_5 (dk_at dksX9_notesWay_1 12 rfl rfl)
theorem dX9_notesWay_37 : decode cX9_notesWay 37 = .ok (.iadd, 1) := dk_96 (dk_at dksX9_notesWay_1 13 rfl rfl)
theorem dX9_notesWay_38 : decode cX9_notesWay 38 = .ok (.aload_n 0, 1) := dk_42 (dk_at dksX9_notesWay_1 14 rfl rfl)
theorem dX9_notesWay_39 : decode cX9_notesWay 39 = .ok (.iconst 2, 1) := dk_5 (dk_at dksX9_notesWay_1 15 rfl rfl)
theorem dX9_notesWay_40 : decode cX9_notesWay 40 = .ok (.invokevirtual 493, 3) := dk_182 1 237 (dk_at dksX9_notesWay_1 16 rfl rfl)
theorem dX9_notesWay_43 : decode cX9_notesWay 43 = .ok (.bipush (-9), 2) := dk_16 247 (dk_at dksX9_notesWay_1 19 rfl rfl)
theorem dX9_notesWay_45 : decode cX9_notesWay 45 = .ok (.if_icmp .ne 8, 3) := dk_160 0 8 (dk_at dksX9_notesWay_1 21 rfl rfl)
theorem dX9_notesWay_48 : decode cX9_notesWay 48 = .ok (.bipush (-9), 2) := dk_16 247 (dk_at dksX9_notesWay_2 0 rfl rfl)
theorem dX9_notesWay_50 : decode cX9_notesWay 50 = .ok (.goto 22, 3) := dk_167 0 22 (dk_at dksX9_notesWay_2 2 rfl rfl)
theorem dX9_notesWay_53 : decode cX9_notesWay 53 = .ok (.aload_n 0, 1) := dk_42 (dk_at dksX9_notesWay_2 5 rfl rfl)
theorem dX9_notesWay_54 : decode cX9_notesWay 54 = .ok (.getfield 148, 3) := dk_180 0 148 (dk_at dksX9_notesWay_2 6 rfl rfl)
theorem dX9_notesWay_57 : decode cX9_notesWay 57 = .ok (.sipush 420, 3) := dk_17 1 164 (dk_at dksX9_notesWay_2 9 rfl rfl)
theorem dX9_notesWay_60 : decode cX9_notesWay 60 = .ok (.aload_n 0, 1) := dk_42 (dk_at dksX9_notesWay_2 12 rfl rfl)
theorem dX9_notesWay_61 : decode cX9_notesWay 61 = .ok (.getfield 475, 3) := dk_180 1 219 (dk_at dksX9_notesWay_2 13 rfl rfl)
theorem dX9_notesWay_64 : decode cX9_notesWay 64 = .ok (.imul, 1) := dk_104 (dk_at dksX9_notesWay_2 16 rfl rfl)
theorem dX9_notesWay_65 : decode cX9_notesWay 65 = .ok (.aload_n 0, 1) := dk_42 (dk_at dksX9_notesWay_2 17 rfl rfl)
theorem dX9_notesWay_66 : decode cX9_notesWay 66 = .ok (.iconst 2, 1) := dk_5 (dk_at dksX9_notesWay_2 18 rfl rfl)
theorem dX9_notesWay_67 : decode cX9_notesWay 67 = .ok (.invokevirtual 493, 3) := dk_182 1 237 (dk_at dksX9_notesWay_2 19 rfl rfl)
theorem dX9_notesWay_70 : decode cX9_notesWay 70 = .ok (.iadd, 1) := dk_96 (dk_at dksX9_notesWay_2 22 rfl rfl)
theorem dX9_notesWay_71 : decode cX9_notesWay 71 = .ok (.iaload, 1) := dk_46 (dk_at dksX9_notesWay_2 23 rfl rfl)
theorem dX9_notesWay_72 : decode cX9_notesWay 72 = .ok (.iastore, 1) := dk_79 (dk_at dksX9_notesWay_3 0 rfl rfl)
theorem dX9_notesWay_73 : decode cX9_notesWay 73 = .ok (.aload_n 0, 1) := dk_42 (dk_at dksX9_notesWay_3 1 rfl rfl)
theorem dX9_notesWay_74 : decode cX9_notesWay 74 = .ok (.getfield 232, 3) := dk_180 0 232 (dk_at dksX9_notesWay_3 2 rfl rfl)
theorem dX9_notesWay_77 : decode cX9_notesWay 77 = .ok (.iload_n 1, 1) := dk_27 (dk_at dksX9_notesWay_3 5 rfl rfl)
theorem dX9_notesWay_78 : decode cX9_notesWay 78 = .ok (.iconst 3, 1) := dk_6 (dk_at dksX9_notesWay_3 6 rfl rfl)
theorem dX9_notesWay_79 : decode cX9_notesWay 79 = .ok (.iadd, 1) := dk_96 (dk_at dksX9_notesWay_3 7 rfl rfl)
theorem dX9_notesWay_80 : decode cX9_notesWay 80 = .ok (.aload_n 0, 1) := dk_42 (dk_at dksX9_notesWay_3 8 rfl rfl)
theorem dX9_notesWay_81 : decode cX9_notesWay 81 = .ok (.iconst 3, 1) := dk_6 (dk_at dksX9_notesWay_3 9 rfl rfl)
theorem dX9_notesWay_82 : decode cX9_notesWay 82 = .ok (.invokevirtual 493, 3) := dk_182 1 237 (dk_at dksX9_notesWay_3 10 rfl rfl)
theorem dX9_notesWay_85 : decode cX9_notesWay 85 = .ok (.ifCond .ne 8, 3) := dk_154 0 8 (dk_at dksX9_notesWay_3 13 rfl rfl)
theorem dX9_notesWay_88 : decode cX9_notesWay 88 = .ok (.bipush (-9), 2) := dk_16 247 (dk_at dksX9_notesWay_3 16 rfl rfl)
theorem dX9_notesWay_90 : decode cX9_notesWay 90 = .ok (.goto 24, 3) := dk_167 0 24 (dk_at dksX9_notesWay_3 18 rfl rfl)
theorem dX9_notesWay_93 : decode cX9_notesWay 93 = .ok (.aload_n 0, 1) := dk_42 (dk_at dksX9_notesWay_3 21 rfl rfl)
theorem dX9_notesWay_94 : decode cX9_notesWay 94 = .ok (.getfield 145, 3) := dk_180 0 145 (dk_at dksX9_notesWay_4 0 rfl rfl)
theorem dX9_notesWay_97 : decode cX9_notesWay 97 = .ok (.sipush 410, 3) := dk_17 1 154 (dk_at dksX9_notesWay_4 3 rfl rfl)
theorem dX9_notesWay_100 : decode cX9_notesWay 100 = .ok (.aload_n 0, 1) := dk_42 (dk_at dksX9_notesWay_4 6 rfl rfl)
theorem dX9_notesWay_101 : decode cX9_notesWay 101 = .ok (.getfield 475, 3) := dk_180 1 219 (dk_at dksX9_notesWay_4 7 rfl rfl)
theorem dX9_notesWay_104 : decode cX9_notesWay 104 = .ok (.imul, 1) := dk_104 (dk_at dksX9_notesWay_4 10 rfl rfl)
theorem dX9_notesWay_105 : decode cX9_notesWay 105 = .ok (.aload_n 0, 1) := dk_42 (dk_at dksX9_notesWay_4 11 rfl rfl)
theorem dX9_notesWay_106 : decode cX9_notesWay 106 = .ok (.iconst 3, 1) := dk_6 (dk_at dksX9_notesWay_4 12 rfl rfl)
theorem dX9_notesWay_107 : decode cX9_notesWay 107 = .ok (.invokevirtual 493, 3) := dk_182 1 237 (dk_at dksX9_notesWay_4 13 rfl rfl)
theorem dX9_notesWay_110 : decode cX9_notesWay 110 = .ok (.iadd, 1) := dk_96 (dk_at dksX9_notesWay_4 16 rfl rfl)
theorem dX9_notesWay_111 : decode cX9_notesWay 111 = .ok (.iconst 1, 1) := dk_4 (dk_at dksX9_notesWay_4 17 rfl rfl)
theorem dX9_notesWay_112 : decode cX9_notesWay 112 = .ok (.isub, 1) := dk_100 (dk_at dksX9_notesWay_4 18 rfl rfl)
theorem dX9_notesWay_113 : decode cX9_notesWay 113 = .ok (.iaload, 1) := dk_46 (dk_at dksX9_notesWay_4 19 rfl rfl)
theorem dX9_notesWay_114 : decode cX9_notesWay 114 = .ok (.iastore, 1) := dk_79 (dk_at dksX9_notesWay_4 20 rfl rfl)
theorem dX9_notesWay_115 : decode cX9_notesWay 115 = .ok (.iconst 1, 1) := dk_4 (dk_at dksX9_notesWay_4 21 rfl rfl)
theorem dX9_notesWay_116 : decode cX9_notesWay 116 = .ok (.istore_n 2, 1) := dk_61 (dk_at dksX9_notesWay_4 22 rfl rfl)
theorem dX9_notesWay_117 : decode cX9_notesWay 117 = .ok (.iconst 0, 1) := dk_3 (dk_at dksX9_notesWay_4 23 rfl rfl)
theorem dX9_notesWay_118 : decode cX9_notesWay 118 = .ok (.istore_n 3, 1) := dk_62 (dk_at dksX9_notesWay_5 0 rfl rfl)
theorem dX9_notesWay_119 : decode cX9_notesWay 119 = .ok (.iload_n 3, 1) := dk_29 (dk_at dksX9_notesWay_5 1 rfl rfl)
theorem dX9_notesWay_120 : decode cX9_notesWay 120 = .ok (.aload_n 0, 1) := dk_42 (dk_at dksX9_notesWay_5 2 rfl rfl)
theorem dX9_notesWay_121 : decode cX9_notesWay 121 = .ok (.getfield 619, 3) := dk_180 2 107 (dk_at dksX9_notesWay_5 3 rfl rfl)
theorem dX9_notesWay_124 : decode cX9_notesWay 124 = .ok (.if_icmp .ge 77, 3) := dk_162 0 77 (dk_at dksX9_notesWay_5 6 rfl rfl)
theorem dX9_notesWay_127 : decode cX9_notesWay 127 = .ok (.iconst 1, 1) := dk_4 (dk_at dksX9_notesWay_5 9 rfl rfl)
theorem dX9_notesWay_128 : decode cX9_notesWay 128 = .ok (.istore 4, 2) := dk_54 4 (dk_at dksX9_notesWay_5 10 rfl rfl)
theorem dX9_notesWay_130 : decode cX9_notesWay 130 = .ok (.iconst 0, 1) := dk_3 (dk_at dksX9_notesWay_5 12 rfl rfl)
theorem dX9_notesWay_131 : decode cX9_notesWay 131 = .ok (.istore 5, 2) := dk_54 5 (dk_at dksX9_notesWay_5 13 rfl rfl)
theorem dX9_notesWay_133 : decode cX9_notesWay 133 = .ok (.iload 5, 2) := dk_21 5 (dk_at dksX9_notesWay_5 15 rfl rfl)
theorem dX9_notesWay_135 : decode cX9_notesWay 135 = .ok (.iconst 4, 1) := dk_7 (dk_at dksX9_notesWay_5 17 rfl rfl)
theorem dX9_notesWay_136 : decode cX9_notesWay 136 = .ok (.if_icmp .ge 44, 3) := dk_162 0 44 (dk_at dksX9_notesWay_5 18 rfl rfl)
theorem dX9_notesWay_139 : decode cX9_notesWay 139 = .ok (.iload 4, 2) := dk_21 4 (dk_at dksX9_notesWay_5 21 rfl rfl)
theorem dX9_notesWay_141 : decode cX9_notesWay 141 = .ok (.ifCond .eq 30, 3) := dk_153 0 30 (dk_at dksX9_notesWay_6 0 rfl rfl)
theorem dX9_notesWay_144 : decode cX9_notesWay 144 = .ok (.aload_n 0, 1) := dk_42 (dk_at dksX9_notesWay_6 3 rfl rfl)
theorem dX9_notesWay_145 : decode cX9_notesWay 145 = .ok (.getfield 232, 3) := dk_180 0 232 (dk_at dksX9_notesWay_6 4 rfl rfl)
theorem dX9_notesWay_148 : decode cX9_notesWay 148 = .ok (.iconst 4, 1) := dk_7 (dk_at dksX9_notesWay_6 7 rfl rfl)
theorem dX9_notesWay_149 : decode cX9_notesWay 149 = .ok (.iload_n 3, 1) := dk_29 (dk_at dksX9_notesWay_6 8 rfl rfl)
theorem dX9_notesWay_150 : decode cX9_notesWay 150 = .ok (.imul, 1) := dk_104 (dk_at dksX9_notesWay_6 9 rfl rfl)
theorem dX9_notesWay_151 : decode cX9_notesWay 151 = .ok (.iload 5, 2) := dk_21 5 (dk_at dksX9_notesWay_6 10 rfl rfl)
theorem dX9_notesWay_153 : decode cX9_notesWay 153 = .ok (.iadd, 1) := dk_96 (dk_at dksX9_notesWay_6 12 rfl rfl)
theorem dX9_notesWay_154 : decode cX9_notesWay 154 = .ok (.iaload, 1) := dk_46 (dk_at dksX9_notesWay_6 13 rfl rfl)
theorem dX9_notesWay_155 : decode cX9_notesWay 155 = .ok (.aload_n 0, 1) := dk_42 (dk_at dksX9_notesWay_6 14 rfl rfl)
theorem dX9_notesWay_156 : decode cX9_notesWay 156 = .ok (.getfield 232, 3) := dk_180 0 232 (dk_at dksX9_notesWay_6 15 rfl rfl)
theorem dX9_notesWay_159 : decode cX9_notesWay 159 = .ok (.iload_n 1, 1) := dk_27 (dk_at dksX9_notesWay_6 18 rfl rfl)
theorem dX9_notesWay_160 : decode cX9_notesWay 160 = .ok (.iload 5, 2) := dk_21 5 (dk_at dksX9_notesWay_6 19 rfl rfl)
theorem dX9_notesWay_162 : decode cX9_notesWay 162 = .ok (.iadd, 1) := dk_96 (dk_at dksX9_notesWay_6 21 rfl rfl)
theorem dX9_notesWay_163 : decode cX9_notesWay 163 = .ok (.iaload, 1) := dk_46 (dk_at dksX9_notesWay_6 22 rfl rfl)
theorem dX9_notesWay_164 : decode cX9_notesWay 164 = .ok (.if_icmp .ne 7, 3) := dk_160 0 7 (dk_at dksX9_notesWay_7 0 rfl rfl)
theorem dX9_notesWay_167 : decode cX9_notesWay 167 = .ok (.iconst 1, 1) := dk_4 (dk_at dksX9_notesWay_7 3 rfl rfl)
theorem dX9_notesWay_168 : decode cX9_notesWay 168 = .ok (.goto 4, 3) := dk_167 0 4 (dk_at dksX9_notesWay_7 4 rfl rfl)
theorem dX9_notesWay_171 : decode cX9_notesWay 171 = .ok (.iconst 0, 1) := dk_3 (dk_at dksX9_notesWay_7 7 rfl rfl)
theorem dX9_notesWay_172 : decode cX9_notesWay 172 = .ok (.istore 4, 2) := dk_54 4 (dk_at dksX9_notesWay_7 8 rfl rfl)
theorem dX9_notesWay_174 : decode cX9_notesWay 174 = .ok (.iinc 5 1, 3) := dk_132 5 1 (dk_at dksX9_notesWay_7 10 rfl rfl)
theorem dX9_notesWay_177 : decode cX9_notesWay 177 = .ok (.goto (-44), 3) := dk_167 255 212 (dk_at dksX9_notesWay_7 13 rfl rfl)
theorem dX9_notesWay_180 : decode cX9_notesWay 180 = .ok (.iload_n 2, 1) := dk_28 (dk_at dksX9_notesWay_7 16 rfl rfl)
theorem dX9_notesWay_181 : decode cX9_notesWay 181 = .ok (.ifCond .eq 12, 3) := dk_153 0 12 (dk_at dksX9_notesWay_7 17 rfl rfl)
theorem dX9_notesWay_184 : decode cX9_notesWay 184 = .ok (.iload 4, 2) := dk_21 4 (dk_at dksX9_notesWay_7 20 rfl rfl)
theorem dX9_notesWay_186 : decode cX9_notesWay 186 = .ok (.ifCond .ne 7, 3) := dk_154 0 7 (dk_at dksX9_notesWay_8 0 rfl rfl)
theorem dX9_notesWay_189 : decode cX9_notesWay 189 = .ok (.iconst 1, 1) := dk_4 (dk_at dksX9_notesWay_8 3 rfl rfl)
theorem dX9_notesWay_190 : decode cX9_notesWay 190 = .ok (.goto 4, 3) := dk_167 0 4 (dk_at dksX9_notesWay_8 4 rfl rfl)
theorem dX9_notesWay_193 : decode cX9_notesWay 193 = .ok (.iconst 0, 1) := dk_3 (dk_at dksX9_notesWay_8 7 rfl rfl)
theorem dX9_notesWay_194 : decode cX9_notesWay 194 = .ok (.istore_n 2, 1) := dk_61 (dk_at dksX9_notesWay_8 8 rfl rfl)
theorem dX9_notesWay_195 : decode cX9_notesWay 195 = .ok (.iinc 3 1, 3) := dk_132 3 1 (dk_at dksX9_notesWay_8 9 rfl rfl)
theorem dX9_notesWay_198 : decode cX9_notesWay 198 = .ok (.goto (-79), 3) := dk_167 255 177 (dk_at dksX9_notesWay_8 12 rfl rfl)
theorem dX9_notesWay_201 : decode cX9_notesWay 201 = .ok (.aload_n 0, 1) := dk_42 (dk_at dksX9_notesWay_8 15 rfl rfl)
theorem dX9_notesWay_202 : decode cX9_notesWay 202 = .ok (.dup, 1) := dk_89 (dk_at dksX9_notesWay_8 16 rfl rfl)
theorem dX9_notesWay_203 : decode cX9_notesWay 203 = .ok (.getfield 619, 3) := dk_180 2 107 (dk_at dksX9_notesWay_8 17 rfl rfl)
theorem dX9_notesWay_206 : decode cX9_notesWay 206 = .ok (.iload_n 2, 1) := dk_28 (dk_at dksX9_notesWay_8 20 rfl rfl)
theorem dX9_notesWay_207 : decode cX9_notesWay 207 = .ok (.ifCond .eq 7, 3) := dk_153 0 7 (dk_at dksX9_notesWay_8 21 rfl rfl)
theorem dX9_notesWay_210 : decode cX9_notesWay 210 = .ok (.iconst 1, 1) := dk_4 (dk_at dksX9_notesWay_9 0 rfl rfl)
theorem dX9_notesWay_211 : decode cX9_notesWay 211 = .ok (.goto 4, 3) := dk_167 0 4 (dk_at dksX9_notesWay_9 1 rfl rfl)
theorem dX9_notesWay_214 : decode cX9_notesWay 214 = .ok (.iconst 0, 1) := dk_3 (dk_at dksX9_notesWay_9 4 rfl rfl)
theorem dX9_notesWay_215 : decode cX9_notesWay 215 = .ok (.iadd, 1) := dk_96 (dk_at dksX9_notesWay_9 5 rfl rfl)
theorem dX9_notesWay_216 : decode cX9_notesWay 216 = .ok (.putfield 619, 3) := dk_181 2 107 (dk_at dksX9_notesWay_9 6 rfl rfl)
theorem dX9_notesWay_219 : decode cX9_notesWay 219 = .ok (.return_, 1) := dk_177 (dk_at dksX9_notesWay_9 9 rfl rfl)
theorem okX9_notesWay_0 : XOkL xms rX9_notesWay bX9_notesWay_0 := xcP (xok_iconst dX9_notesWay_0 rfl) rfl (xcP (xok_aload_n dX9_notesWay_1 rfl) rfl (xcP (xok_getfield (ref := "WaysAtlasModel") (Or.inl ⟨rfl, by decide⟩) dX9_notesWay_2 (Or.inl ⟨q2024, (Or.inl rfl)⟩) xh73) rfl (xcP (xok_imul dX9_notesWay_5) rfl (xcP (xok_istore_n dX9_notesWay_6 rfl) rfl (xcP (xok_aload_n dX9_notesWay_7 rfl) rfl (xcP (xok_getfield (ref := "WaysAtlasModel") (Or.inr ⟨rfl, by decide⟩) dX9_notesWay_8 (Or.inl ⟨q2023, (Or.inl rfl)⟩) xh1116) rfl (xcP (xok_iload_n dX9_notesWay_11 rfl) rfl (xcP (xok_aload_n dX9_notesWay_12 rfl) rfl (xcP (xok_iconst dX9_notesWay_13 rfl) rfl (xcC0 (xokc_list (List.forall_mem_cons.mpr ⟨xokc_V (r := (RX9, TX9, 96)) xm162 (List.mem_of_getElem? (i := 9) rfl) (by decide) rfl dX9_notesWay_14 q2477 q2479 qs106 q149 q2480 (by decide +kernel), fun _ h => nomatch h⟩)) rfl (xcP (xok_iastore dX9_notesWay_17) rfl (xcP (xok_aload_n dX9_notesWay_18 rfl) rfl (xcP (xok_getfield (ref := "WaysAtlasModel") (Or.inr ⟨rfl, by decide⟩) dX9_notesWay_19 (Or.inl ⟨q2023, (Or.inl rfl)⟩) xh1116) rfl (xcP (xok_iload_n dX9_notesWay_22 rfl) rfl (xcP (xok_iconst dX9_notesWay_23 rfl) rfl (xcP (xok_iadd dX9_notesWay_24) rfl (xcP (xok_aload_n dX9_notesWay_25 rfl) rfl (xcP (xok_iconst dX9_notesWay_26 rfl) rfl (xcC0 (xokc_list (List.forall_mem_cons.mpr ⟨xokc_V (r := (RX9, TX9, 96)) xm162 (List.mem_of_getElem? (i := 9) rfl) (by decide) rfl dX9_notesWay_27 q2477 q2479 qs106 q149 q2480 (by decide +kernel), fun _ h => nomatch h⟩)) rfl (xcP (xok_iastore dX9_notesWay_30) rfl (xcP (xok_aload_n dX9_notesWay_31 rfl) rfl (xcP (xok_getfield (ref := "WaysAtlasModel") (Or.inr ⟨rfl, by decide⟩) dX9_notesWay_32 (Or.inl ⟨q2023, (Or.inl rfl)⟩) xh1116) rfl (xcP (xok_iload_n dX9_notesWay_35 rfl) rfl (xcP (xok_iconst dX9_notesWay_36 rfl) rfl (xcP (xok_iadd dX9_notesWay_37) rfl (xcP (xok_aload_n dX9_notesWay_38 rfl) rfl (xcP (xok_iconst dX9_notesWay_39 rfl) rfl (xcC0 (xokc_list (List.forall_mem_cons.mpr ⟨xokc_V (r := (RX9, TX9, 96)) xm162 (List.mem_of_getElem? (i := 9) rfl) (by decide) rfl dX9_notesWay_40 q2477 q2479 qs106 q149 q2480 (by decide +kernel), fun _ h => nomatch h⟩)) rfl (xcP (xok_bipush dX9_notesWay_43 rfl) rfl (xcP (xok_icmpne dX9_notesWay_45 (by decide)) rfl (xcP (xok_bipush dX9_notesWay_48 rfl) rfl (xcP (xok_goto dX9_notesWay_50 (by decide)) rfl trivial))))))))))))))))))))))))))))))))
theorem okX9_notesWay_53 : XOkL xms rX9_notesWay bX9_notesWay_53 := xcP (xok_aload_n dX9_notesWay_53 rfl) rfl (xcP (xok_getfield (ref := "WaysAtlasModel") (Or.inr ⟨rfl, by decide⟩) dX9_notesWay_54 (Or.inl ⟨q1981, (Or.inl rfl)⟩) xh1088) rfl (xcP (xok_sipush dX9_notesWay_57 rfl) rfl (xcP (xok_aload_n dX9_notesWay_60 rfl) rfl (xcP (xok_getfield (ref := "WaysAtlasModel") (Or.inl ⟨rfl, by decide⟩) dX9_notesWay_61 (Or.inl ⟨q1978, (Or.inl rfl)⟩) xh58) rfl (xcP (xok_imul dX9_notesWay_64) rfl (xcP (xok_aload_n dX9_notesWay_65 rfl) rfl (xcP (xok_iconst dX9_notesWay_66 rfl) rfl (xcC0 (xokc_list (List.forall_mem_cons.mpr ⟨xokc_V (r := (RX9, TX9, 96)) xm162 (List.mem_of_getElem? (i := 9) rfl) (by decide) rfl dX9_notesWay_67 q2477 q2479 qs106 q149 q2480 (by decide +kernel), fun _ h => nomatch h⟩)) rfl (xcP (xok_iadd dX9_notesWay_70) rfl (xcP (xok_iaload dX9_notesWay_71) rfl (xcP xok_fal rfl trivial)))))))))))
theorem okX9_notesWay_72 : XOkL xms rX9_notesWay bX9_notesWay_72 := xcP (xok_iastore dX9_notesWay_72) rfl (xcP (xok_aload_n dX9_notesWay_73 rfl) rfl (xcP (xok_getfield (ref := "WaysAtlasModel") (Or.inr ⟨rfl, by decide⟩) dX9_notesWay_74 (Or.inl ⟨q2023, (Or.inl rfl)⟩) xh1116) rfl (xcP (xok_iload_n dX9_notesWay_77 rfl) rfl (xcP (xok_iconst dX9_notesWay_78 rfl) rfl (xcP (xok_iadd dX9_notesWay_79) rfl (xcP (xok_aload_n dX9_notesWay_80 rfl) rfl (xcP (xok_iconst dX9_notesWay_81 rfl) rfl (xcC0 (xokc_list (List.forall_mem_cons.mpr ⟨xokc_V (r := (RX9, TX9, 96)) xm162 (List.mem_of_getElem? (i := 9) rfl) (by decide) rfl dX9_notesWay_82 q2477 q2479 qs106 q149 q2480 (by decide +kernel), fun _ h => nomatch h⟩)) rfl (xcP (xok_ifne dX9_notesWay_85 (by decide)) rfl (xcP (xok_bipush dX9_notesWay_88 rfl) rfl (xcP (xok_goto dX9_notesWay_90 (by decide)) rfl trivial)))))))))))
theorem okX9_notesWay_93 : XOkL xms rX9_notesWay bX9_notesWay_93 := xcP (xok_aload_n dX9_notesWay_93 rfl) rfl (xcP (xok_getfield (ref := "WaysAtlasModel") (Or.inr ⟨rfl, by decide⟩) dX9_notesWay_94 (Or.inl ⟨q1980, (Or.inl rfl)⟩) xh1087) rfl (xcP (xok_sipush dX9_notesWay_97 rfl) rfl (xcP (xok_aload_n dX9_notesWay_100 rfl) rfl (xcP (xok_getfield (ref := "WaysAtlasModel") (Or.inl ⟨rfl, by decide⟩) dX9_notesWay_101 (Or.inl ⟨q1978, (Or.inl rfl)⟩) xh58) rfl (xcP (xok_imul dX9_notesWay_104) rfl (xcP (xok_aload_n dX9_notesWay_105 rfl) rfl (xcP (xok_iconst dX9_notesWay_106 rfl) rfl (xcC0 (xokc_list (List.forall_mem_cons.mpr ⟨xokc_V (r := (RX9, TX9, 96)) xm162 (List.mem_of_getElem? (i := 9) rfl) (by decide) rfl dX9_notesWay_107 q2477 q2479 qs106 q149 q2480 (by decide +kernel), fun _ h => nomatch h⟩)) rfl (xcP (xok_iadd dX9_notesWay_110) rfl (xcP (xok_iconst dX9_notesWay_111 rfl) rfl (xcP (xok_isub dX9_notesWay_112) rfl (xcP (xok_iaload dX9_notesWay_113) rfl (xcP xok_fal rfl trivial)))))))))))))
theorem okX9_notesWay_114 : XOkL xms rX9_notesWay bX9_notesWay_114 := xcP (xok_iastore dX9_notesWay_114) rfl (xcP (xok_iconst dX9_notesWay_115 rfl) rfl (xcP (xok_istore_n dX9_notesWay_116 rfl) rfl (xcP (xok_iconst dX9_notesWay_117 rfl) rfl (xcP (xok_istore_n dX9_notesWay_118 rfl) rfl (xcP xok_fal rfl trivial)))))
theorem okX9_notesWay_119 : XOkL xms rX9_notesWay bX9_notesWay_119 := xcP (xok_iload_n dX9_notesWay_119 rfl) rfl (xcP (xok_aload_n dX9_notesWay_120 rfl) rfl (xcP (xok_getfield (ref := "WaysAtlasModel") (Or.inl ⟨rfl, by decide⟩) dX9_notesWay_121 (Or.inl ⟨q2024, (Or.inl rfl)⟩) xh73) rfl (xcP (xok_icmpge dX9_notesWay_124 (by decide)) rfl (xcP (xok_iconst dX9_notesWay_127 rfl) rfl (xcP (xok_istore dX9_notesWay_128) rfl (xcP (xok_iconst dX9_notesWay_130 rfl) rfl (xcP (xok_istore dX9_notesWay_131) rfl (xcP xok_fal rfl trivial))))))))
theorem okX9_notesWay_133 : XOkL xms rX9_notesWay bX9_notesWay_133 := xcP (xok_iload dX9_notesWay_133) rfl (xcP (xok_iconst dX9_notesWay_135 rfl) rfl (xcP (xok_icmpge dX9_notesWay_136 (by decide)) rfl (xcP (xok_iload dX9_notesWay_139) rfl (xcP (xok_ifeq dX9_notesWay_141 (by decide)) rfl (xcP (xok_aload_n dX9_notesWay_144 rfl) rfl (xcP (xok_getfield (ref := "WaysAtlasModel") (Or.inr ⟨rfl, by decide⟩) dX9_notesWay_145 (Or.inl ⟨q2023, (Or.inl rfl)⟩) xh1116) rfl (xcP (xok_iconst dX9_notesWay_148 rfl) rfl (xcP (xok_iload_n dX9_notesWay_149 rfl) rfl (xcP (xok_imul dX9_notesWay_150) rfl (xcP (xok_iload dX9_notesWay_151) rfl (xcP (xok_iadd dX9_notesWay_153) rfl (xcP (xok_iaload dX9_notesWay_154) rfl (xcP (xok_aload_n dX9_notesWay_155 rfl) rfl (xcP (xok_getfield (ref := "WaysAtlasModel") (Or.inr ⟨rfl, by decide⟩) dX9_notesWay_156 (Or.inl ⟨q2023, (Or.inl rfl)⟩) xh1116) rfl (xcP (xok_iload_n dX9_notesWay_159 rfl) rfl (xcP (xok_iload dX9_notesWay_160) rfl (xcP (xok_iadd dX9_notesWay_162) rfl (xcP (xok_iaload dX9_notesWay_163) rfl (xcP (xok_icmpne dX9_notesWay_164 (by decide)) rfl (xcP (xok_iconst dX9_notesWay_167 rfl) rfl (xcP (xok_goto dX9_notesWay_168 (by decide)) rfl trivial)))))))))))))))))))))
theorem okX9_notesWay_171 : XOkL xms rX9_notesWay bX9_notesWay_171 := xcP (xok_iconst dX9_notesWay_171 rfl) rfl (xcP xok_fal rfl trivial)
theorem okX9_notesWay_172 : XOkL xms rX9_notesWay bX9_notesWay_172 := xcP (xok_istore dX9_notesWay_172) rfl (xcP (xok_iinc dX9_notesWay_174 rfl) rfl (xcP (xok_goto dX9_notesWay_177 (by decide)) rfl trivial))
theorem okX9_notesWay_180 : XOkL xms rX9_notesWay bX9_notesWay_180 := xcP (xok_iload_n dX9_notesWay_180 rfl) rfl (xcP (xok_ifeq dX9_notesWay_181 (by decide)) rfl (xcP (xok_iload dX9_notesWay_184) rfl (xcP (xok_ifne dX9_notesWay_186 (by decide)) rfl (xcP (xok_iconst dX9_notesWay_189 rfl) rfl (xcP (xok_goto dX9_notesWay_190 (by decide)) rfl trivial)))))
theorem okX9_notesWay_193 : XOkL xms rX9_notesWay bX9_notesWay_193 := xcP (xok_iconst dX9_notesWay_193 rfl) rfl (xcP xok_fal rfl trivial)
theorem okX9_notesWay_194 : XOkL xms rX9_notesWay bX9_notesWay_194 := xcP (xok_istore_n dX9_notesWay_194 rfl) rfl (xcP (xok_iinc dX9_notesWay_195 rfl) rfl (xcP (xok_goto dX9_notesWay_198 (by decide)) rfl trivial))
theorem okX9_notesWay_201 : XOkL xms rX9_notesWay bX9_notesWay_201 := xcP (xok_aload_n dX9_notesWay_201 rfl) rfl (xcP (xok_dup dX9_notesWay_202) rfl (xcP (xok_getfield (ref := "WaysAtlasModel") (Or.inl ⟨rfl, by decide⟩) dX9_notesWay_203 (Or.inl ⟨q2024, (Or.inl rfl)⟩) xh73) rfl (xcP (xok_iload_n dX9_notesWay_206 rfl) rfl (xcP (xok_ifeq dX9_notesWay_207 (by decide)) rfl (xcP (xok_iconst dX9_notesWay_210 rfl) rfl (xcP (xok_goto dX9_notesWay_211 (by decide)) rfl trivial))))))
theorem okX9_notesWay_214 : XOkL xms rX9_notesWay bX9_notesWay_214 := xcP (xok_iconst dX9_notesWay_214 rfl) rfl (xcP xok_fal rfl trivial)
theorem okX9_notesWay_215 : XOkL xms rX9_notesWay bX9_notesWay_215 := xcP (xok_iadd dX9_notesWay_215) rfl (xcP (xok_putfield (ref := "WaysAtlasModel") (Or.inl ⟨rfl, by decide, rfl⟩) dX9_notesWay_216 (Or.inl ⟨q2024, (Or.inl rfl)⟩) (Or.inl rfl) xh73) rfl (xcR ⟨dX9_notesWay_219, rfl⟩))
theorem okM_X9_notesWay : XOkM xms rX9_notesWay := xokM0 (List.forall_mem_cons.mpr ⟨⟨rfl, okX9_notesWay_0⟩, List.forall_mem_cons.mpr ⟨⟨rfl, okX9_notesWay_53⟩, List.forall_mem_cons.mpr ⟨⟨rfl, okX9_notesWay_72⟩, List.forall_mem_cons.mpr ⟨⟨rfl, okX9_notesWay_93⟩, List.forall_mem_cons.mpr ⟨⟨rfl, okX9_notesWay_114⟩, List.forall_mem_cons.mpr ⟨⟨rfl, okX9_notesWay_119⟩, List.forall_mem_cons.mpr ⟨⟨rfl, okX9_notesWay_133⟩, List.forall_mem_cons.mpr ⟨⟨rfl, okX9_notesWay_171⟩, List.forall_mem_cons.mpr ⟨⟨rfl, okX9_notesWay_172⟩, List.forall_mem_cons.mpr ⟨⟨rfl, okX9_notesWay_180⟩, List.forall_mem_cons.mpr ⟨⟨rfl, okX9_notesWay_193⟩, List.forall_mem_cons.mpr ⟨⟨rfl, okX9_notesWay_194⟩, List.forall_mem_cons.mpr ⟨⟨rfl, okX9_notesWay_201⟩, List.forall_mem_cons.mpr ⟨⟨rfl, okX9_notesWay_214⟩, List.forall_mem_cons.mpr ⟨⟨rfl, okX9_notesWay_215⟩, fun _ h => nomatch h⟩⟩⟩⟩⟩⟩⟩⟩⟩⟩⟩⟩⟩⟩⟩) (xokH0 rfl (fun _ _ => rfl)) (by decide +kernel) (by decide)
abbrev cX9_same : ByteArray := prog_36_method_105_code
def dkwX9_same_0 : List UInt8 := [42, 27, 182, 2, 97, 153, 0, 7, 4, 167, 0, 4, 2, 172]
abbrev dktX9_same_0 : List UInt8 := dkwX9_same_0 ++ []
theorem dksX9_same_0 : cX9_same.data.toList.drop 0 = dktX9_same_0 := by decide +kernel
theorem dX9_same_0 : decode cX9_same 0 = .ok (.aload_n 0, 1) := dk_42 (dk_at dksX9_same_0 0 rfl rfl)
theorem dX9_same_1 : decode cX9_same 1 = .ok (.iload_n 1, 1) := dk_27 (dk_at dksX9_same_0 1 rfl rfl)
theorem dX9_same_2 : decode cX9_same 2 = .ok (.invokevirtual 609, 3) := dk_182 2 97 (dk_at dksX9_same_0 2 rfl rfl)
theorem dX9_same_5 : decode cX9_same 5 = .ok (.ifCond .eq 7, 3) := dk_153 0 7 (dk_at dksX9_same_0 5 rfl rfl)
theorem dX9_same_8 : decode cX9_same 8 = .ok (.iconst 1, 1) := dk_4 (dk_at dksX9_same_0 8 rfl rfl)
theorem dX9_same_9 : decode cX9_same 9 = .ok (.goto 4, 3) := dk_167 0 4 (dk_at dksX9_same_0 9 rfl rfl)
theorem dX9_same_12 : decode cX9_same 12 = .ok (.iconst (-1), 1) := dk_2 (dk_at dksX9_same_0 12 rfl rfl)
theorem dX9_same_13 : decode cX9_same 13 = .ok (.ireturn, 1) := dk_172 (dk_at dksX9_same_0 13 rfl rfl)
theorem okX9_same_0 : XOkL xms rX9_same bX9_same_0 := xcP (xok_aload_n dX9_same_0 rfl) rfl (xcP (xok_iload_n dX9_same_1 rfl) rfl (xcC0 (xokc_list (List.forall_mem_cons.mpr ⟨xokc_V (r := (RX9, TX9, 96)) xm158 (List.mem_of_getElem? (i := 9) rfl) (by decide) rfl dX9_same_2 q2461 q2463 qs102 q149 q2464 (by decide +kernel), fun _ h => nomatch h⟩)) rfl (xcP (xok_ifeq dX9_same_5 (by decide)) rfl (xcP (xok_iconst dX9_same_8 rfl) rfl (xcP (xok_goto dX9_same_9 (by decide)) rfl trivial)))))
theorem okX9_same_12 : XOkL xms rX9_same bX9_same_12 := xcP (xok_iconst dX9_same_12 rfl) rfl (xcP xok_fal rfl trivial)
theorem okX9_same_13 : XOkL xms rX9_same bX9_same_13 := xcR ⟨dX9_same_13, rfl⟩
theorem okM_X9_same : XOkM xms rX9_same := xokM0 (List.forall_mem_cons.mpr ⟨⟨rfl, okX9_same_0⟩, List.forall_mem_cons.mpr ⟨⟨rfl, okX9_same_12⟩, List.forall_mem_cons.mpr ⟨⟨rfl, okX9_same_13⟩, fun _ h => nomatch h⟩⟩⟩) (xokH0 rfl (fun _ _ => rfl)) (by decide +kernel) (by decide)
abbrev cX10_init : ByteArray := prog_4_method_1_code
def dkwX10_init_0 : List UInt8 := [42, 18, 1, 1, 3, 3, 183, 0, 3, 42, 27, 181, 0, 9, 42, 28, 181, 0, 15, 177]
abbrev dktX10_init_0 : List UInt8 := dkwX10_init_0 ++ []
theorem dksX10_init_0 : cX10_init.data.toList.drop 0 = dktX10_init_0 := by decide +kernel
theorem dX10_init_0 : decode cX10_init 0 = .ok (.aload_n 0, 1) := dk_42 (dk_at dksX10_init_0 0 rfl rfl)
theorem dX10_init_1 : decode cX10_init 1 = .ok (.ldc 1, 2) := dk_18 1 (dk_at dksX10_init_0 1 rfl rfl)
theorem dX10_init_3 : decode cX10_init 3 = .ok (.aconst_null, 1) := dk_1 (dk_at dksX10_init_0 3 rfl rfl)
theorem dX10_init_4 : decode cX10_init 4 = .ok (.iconst 0, 1) := dk_3 (dk_at dksX10_init_0 4 rfl rfl)
theorem dX10_init_5 : decode cX10_init 5 = .ok (.iconst 0, 1) := dk_3 (dk_at dksX10_init_0 5 rfl rfl)
theorem dX10_init_6 : decode cX10_init 6 = .ok (.invokespecial 3, 3) := dk_183 0 3 (dk_at dksX10_init_0 6 rfl rfl)
theorem dX10_init_9 : decode cX10_init 9 = .ok (.aload_n 0, 1) := dk_42 (dk_at dksX10_init_0 9 rfl rfl)
theorem dX10_init_10 : decode cX10_init 10 = .ok (.iload_n 1, 1) := dk_27 (dk_at dksX10_init_0 10 rfl rfl)
theorem dX10_init_11 : decode cX10_init 11 = .ok (.putfield 9, 3) := dk_181 0 9 (dk_at dksX10_init_0 11 rfl rfl)
theorem dX10_init_14 : decode cX10_init 14 = .ok (.aload_n 0, 1) := dk_42 (dk_at dksX10_init_0 14 rfl rfl)
theorem dX10_init_15 : decode cX10_init 15 = .ok (.iload_n 2, 1) := dk_28 (dk_at dksX10_init_0 15 rfl rfl)
theorem dX10_init_16 : decode cX10_init 16 = .ok (.putfield 15, 3) := dk_181 0 15 (dk_at dksX10_init_0 16 rfl rfl)
theorem dX10_init_19 : decode cX10_init 19 = .ok (.return_, 1) := dk_177 (dk_at dksX10_init_0 19 rfl rfl)
theorem okX10_init_0 : XOkL xms rX10_init bX10_init_0 := xcP (xok_aload_n dX10_init_0 rfl) rfl (xcP (xok_ldcS (tx := "no program") dX10_init_1 (List.mem_of_getElem? (i := 0) rfl)) rfl (xcP (xok_null dX10_init_3) rfl (xcP (xok_iconst dX10_init_4 rfl) rfl (xcP (xok_iconst dX10_init_5 rfl) rfl (xcC0 (xokc_I xm292 rfl rfl dX10_init_6 q803 q408 q145 q409 rfl (by decide +kernel)) rfl (xcP (xok_aload_n dX10_init_9 rfl) rfl (xcP (xok_iload_n dX10_init_10 rfl) rfl (xcP (xok_putfield (ref := "WaysAtlas$Fault") (Or.inl ⟨rfl, by decide, rfl⟩) dX10_init_11 (Or.inl ⟨q804, (Or.inl rfl)⟩) (Or.inr ⟨rfl, rfl, ⟨q804, (Or.inl rfl)⟩⟩) xh74) rfl (xcP (xok_aload_n dX10_init_14 rfl) rfl (xcP (xok_iload_n dX10_init_15 rfl) rfl (xcP (xok_putfield (ref := "WaysAtlas$Fault") (Or.inl ⟨rfl, by decide, rfl⟩) dX10_init_16 (Or.inl ⟨q806, (Or.inl rfl)⟩) (Or.inr ⟨rfl, rfl, ⟨q806, (Or.inl rfl)⟩⟩) xh75) rfl (xcR ⟨dX10_init_19, rfl⟩))))))))))))
theorem okM_X10_init : XOkM xms rX10_init := xokM0 (List.forall_mem_cons.mpr ⟨⟨rfl, okX10_init_0⟩, fun _ h => nomatch h⟩) (xokH0 rfl (fun _ _ => rfl)) (by decide +kernel) (by decide)
abbrev cX11_init : ByteArray := prog_12_method_1_code
def dkwX11_init_0 : List UInt8 := [42, 183, 0, 1, 42, 27, 181, 0, 7, 177]
abbrev dktX11_init_0 : List UInt8 := dkwX11_init_0 ++ []
theorem dksX11_init_0 : cX11_init.data.toList.drop 0 = dktX11_init_0 := by decide +kernel
theorem dX11_init_0 : decode cX11_init 0 = .ok (.aload_n 0, 1) := dk_42 (dk_at dksX11_init_0 0 rfl rfl)
theorem dX11_init_1 : decode cX11_init 1 = .ok (.invokespecial 1, 3) := dk_183 0 1 (dk_at dksX11_init_0 1 rfl rfl)
theorem dX11_init_4 : decode cX11_init 4 = .ok (.aload_n 0, 1) := dk_42 (dk_at dksX11_init_0 4 rfl rfl)
theorem dX11_init_5 : decode cX11_init 5 = .ok (.iload_n 1, 1) := dk_27 (dk_at dksX11_init_0 5 rfl rfl)
theorem dX11_init_6 : decode cX11_init 6 = .ok (.putfield 7, 3) := dk_181 0 7 (dk_at dksX11_init_0 6 rfl rfl)
theorem dX11_init_9 : decode cX11_init 9 = .ok (.return_, 1) := dk_177 (dk_at dksX11_init_0 9 rfl rfl)
theorem okX11_init_0 : XOkL xms rX11_init bX11_init_0 := xcP (xok_aload_n dX11_init_0 rfl) rfl (xcP (xok_objInit dX11_init_1 q846 q186 q187) rfl (xcP (xok_aload_n dX11_init_4 rfl) rfl (xcP (xok_iload_n dX11_init_5 rfl) rfl (xcP (xok_putfield (ref := "WaysAtlas$Method") (Or.inl ⟨rfl, by decide, rfl⟩) dX11_init_6 (Or.inl ⟨q847, (Or.inl rfl)⟩) (Or.inr ⟨rfl, rfl, ⟨q847, (Or.inl rfl)⟩⟩) xh76) rfl (xcR ⟨dX11_init_9, rfl⟩)))))
theorem okM_X11_init : XOkM xms rX11_init := xokM0 (List.forall_mem_cons.mpr ⟨⟨rfl, okX11_init_0⟩, fun _ h => nomatch h⟩) (xokH0 rfl (fun _ _ => rfl)) (by decide +kernel) (by decide)
abbrev cX12_init : ByteArray := prog_14_method_1_code
theorem dX12_init_0 : decode cX12_init 0 = .ok (.aload_n 0, 1) := by decide +kernel
theorem dX12_init_1 : decode cX12_init 1 = .ok (.invokespecial 1, 3) := by decide +kernel
theorem dX12_init_4 : decode cX12_init 4 = .ok (.return_, 1) := by decide +kernel
theorem okX12_init_0 : XOkL xms rX12_init bX12_init_0 := xcP (xok_aload_n dX12_init_0 rfl) rfl (xcP (xok_objInit dX12_init_1 q910 q186 q187) rfl (xcR ⟨dX12_init_4, rfl⟩))
theorem okM_X12_init : XOkM xms rX12_init := xokM0 (List.forall_mem_cons.mpr ⟨⟨rfl, okX12_init_0⟩, fun _ h => nomatch h⟩) (xokH0 rfl (fun _ _ => rfl)) (by decide +kernel) (by decide)
abbrev cX13_init : ByteArray := prog_28_method_1_code
def dkwX13_init_0 : List UInt8 := [42, 183, 0, 3, 42, 27, 181, 0, 9, 42, 44, 181, 0, 15, 42, 45, 181, 0, 19, 177]
abbrev dktX13_init_0 : List UInt8 := dkwX13_init_0 ++ []
theorem dksX13_init_0 : cX13_init.data.toList.drop 0 = dktX13_init_0 := by decide +kernel
theorem dX13_init_0 : decode cX13_init 0 = .ok (.aload_n 0, 1) := dk_42 (dk_at dksX13_init_0 0 rfl rfl)
theorem dX13_init_1 : decode cX13_init 1 = .ok (.invokespecial 3, 3) := dk_183 0 3 (dk_at dksX13_init_0 1 rfl rfl)
theorem dX13_init_4 : decode cX13_init 4 = .ok (.aload_n 0, 1) := dk_42 (dk_at dksX13_init_0 4 rfl rfl)
theorem dX13_init_5 : decode cX13_init 5 = .ok (.iload_n 1, 1) := dk_27 (dk_at dksX13_init_0 5 rfl rfl)
theorem dX13_init_6 : decode cX13_init 6 = .ok (.putfield 9, 3) := dk_181 0 9 (dk_at dksX13_init_0 6 rfl rfl)
theorem dX13_init_9 : decode cX13_init 9 = .ok (.aload_n 0, 1) := dk_42 (dk_at dksX13_init_0 9 rfl rfl)
theorem dX13_init_10 : decode cX13_init 10 = .ok (.aload_n 2, 1) := dk_44 (dk_at dksX13_init_0 10 rfl rfl)
theorem dX13_init_11 : decode cX13_init 11 = .ok (.putfield 15, 3) := dk_181 0 15 (dk_at dksX13_init_0 11 rfl rfl)
theorem dX13_init_14 : decode cX13_init 14 = .ok (.aload_n 0, 1) := dk_42 (dk_at dksX13_init_0 14 rfl rfl)
theorem dX13_init_15 : decode cX13_init 15 = .ok (.aload_n 3, 1) := dk_45 (dk_at dksX13_init_0 15 rfl rfl)
theorem dX13_init_16 : decode cX13_init 16 = .ok (.putfield 19, 3) := dk_181 0 19 (dk_at dksX13_init_0 16 rfl rfl)
theorem dX13_init_19 : decode cX13_init 19 = .ok (.return_, 1) := dk_177 (dk_at dksX13_init_0 19 rfl rfl)
theorem okX13_init_0 : XOkL xms rX13_init bX13_init_0 := xcP (xok_aload_n dX13_init_0 rfl) rfl (xcC0 (xokc_IN (host := "WaysAtlas") xm203 rfl rfl dX13_init_1 (List.mem_of_getElem? (i := 12) rfl) q908 q157 q909 rfl (by decide +kernel)) rfl (xcP (xok_aload_n dX13_init_4 rfl) rfl (xcP (xok_iload_n dX13_init_5 rfl) rfl (xcP (xok_putfield (ref := "WaysAtlas$Sign") (Or.inl ⟨rfl, by decide, rfl⟩) dX13_init_6 (Or.inl ⟨q911, (Or.inl rfl)⟩) (Or.inr ⟨rfl, rfl, ⟨q911, (Or.inl rfl)⟩⟩) xh78) rfl (xcP (xok_aload_n dX13_init_9 rfl) rfl (xcP (xok_aload_n dX13_init_10 rfl) rfl (xcP (xok_putfield (ref := "WaysAtlas$Sign") (Or.inr (Or.inr ⟨rfl, by decide, rfl⟩)) dX13_init_11 (Or.inl ⟨q912, (Or.inl rfl)⟩) (Or.inr ⟨rfl, rfl, ⟨q912, (Or.inl rfl)⟩⟩) xh1118) rfl (xcP (xok_aload_n dX13_init_14 rfl) rfl (xcP (xok_aload_n dX13_init_15 rfl) rfl (xcP (xok_putfield (ref := "WaysAtlas$Sign") (Or.inr (Or.inr ⟨rfl, by decide, rfl⟩)) dX13_init_16 (Or.inl ⟨q913, (Or.inl rfl)⟩) (Or.inr ⟨rfl, rfl, ⟨q913, (Or.inl rfl)⟩⟩) xh1119) rfl (xcR ⟨dX13_init_19, rfl⟩)))))))))))
theorem okM_X13_init : XOkM xms rX13_init := xokM0 (List.forall_mem_cons.mpr ⟨⟨rfl, okX13_init_0⟩, fun _ h => nomatch h⟩) (xokH0 rfl (fun _ _ => rfl)) (by decide +kernel) (by decide)
abbrev cX13_value : ByteArray := prog_28_method_2_code
def dkwX13_value_5 : List UInt8 := [172]
abbrev dktX13_value_5 : List UInt8 := dkwX13_value_5 ++ []
def dkwX13_value_4 : List UInt8 := [29, 21, 4, 96, 172, 29, 21, 4, 100, 172, 29, 21, 4, 104, 172, 29, 21, 4, 108, 172, 29, 21, 4, 112]
abbrev dktX13_value_4 : List UInt8 := dkwX13_value_4 ++ dktX13_value_5
def dkwX13_value_3 : List UInt8 := [170, 0, 0, 0, 0, 0, 59, 0, 0, 0, 42, 0, 0, 0, 47, 0, 0, 0, 49, 0, 0, 0, 39, 0, 0, 0, 59, 0, 0, 0, 44, 0, 0, 0, 59, 0, 0, 0, 54]
abbrev dktX13_value_3 : List UInt8 := dkwX13_value_3 ++ dktX13_value_4
def dkwX13_value_2 : List UInt8 := [16, 37, 160, 0, 14, 21, 4, 154, 0, 9, 43, 5, 182, 0, 26, 191, 42, 180, 0, 9]
abbrev dktX13_value_2 : List UInt8 := dkwX13_value_2 ++ dktX13_value_3
def dkwX13_value_1 : List UInt8 := [180, 0, 19, 43, 44, 182, 0, 22, 54, 4, 42, 180, 0, 9, 16, 47, 159, 0, 12, 42, 180, 0, 9]
abbrev dktX13_value_1 : List UInt8 := dkwX13_value_1 ++ dktX13_value_2
def dkwX13_value_0 : List UInt8 := [42, 180, 0, 15, 199, 0, 7, 3, 167, 0, 12, 42, 180, 0, 15, 43, 44, 182, 0, 22, 62, 42]
abbrev dktX13_value_0 : List UInt8 := dkwX13_value_0 ++ dktX13_value_1
theorem dksX13_value_0 : cX13_value.data.toList.drop 0 = dktX13_value_0 := by decide +kernel
theorem dksX13_value_1 : cX13_value.data.toList.drop 22 = dktX13_value_1 := dk_seg dksX13_value_0 22 rfl rfl
theorem dksX13_value_2 : cX13_value.data.toList.drop 45 = dktX13_value_2 := dk_seg dksX13_value_1 23 rfl rfl
theorem dksX13_value_3 : cX13_value.data.toList.drop 65 = dktX13_value_3 := dk_seg dksX13_value_2 20 rfl rfl
theorem dksX13_value_4 : cX13_value.data.toList.drop 104 = dktX13_value_4 := dk_seg dksX13_value_3 39 rfl rfl
theorem dksX13_value_5 : cX13_value.data.toList.drop 128 = dktX13_value_5 := dk_seg dksX13_value_4 24 rfl rfl
theorem dX13_value_0 : decode cX13_value 0 = .ok (.aload_n 0, 1) := dk_42 (dk_at dksX13_value_0 0 rfl rfl)
theorem dX13_value_1 : decode cX13_value 1 = .ok (.getfield 15, 3) := dk_180 0 15 (dk_at dksX13_value_0 1 rfl rfl)
theorem dX13_value_4 : decode cX13_value 4 = .ok (.ifnonnull 7, 3) := dk_199 0 7 (dk_at dksX13_value_0 4 rfl rfl)
theorem dX13_value_7 : decode cX13_value 7 = .ok (.iconst 0, 1) := dk_3 (dk_at dksX13_value_0 7 rfl rfl)
theorem dX13_value_8 : decode cX13_value 8 = .ok (.goto 12, 3) := dk_167 0 12 (dk_at dksX13_value_0 8 rfl rfl)
theorem dX13_value_11 : decode cX13_value 11 = .ok (.aload_n 0, 1) := dk_42 (dk_at dksX13_value_0 11 rfl rfl)
theorem dX13_value_12 : decode cX13_value 12 = .ok (.getfield 15, 3) := dk_180 0 15 (dk_at dksX13_value_0 12 rfl rfl)
theorem dX13_value_15 : decode cX13_value 15 = .ok (.aload_n 1, 1) := dk_43 (dk_at dksX13_value_0 15 rfl rfl)
theorem dX13_value_16 : decode cX13_value 16 = .ok (.aload_n 2, 1) := dk_44 (dk_at dksX13_value_0 16 rfl rfl)
theorem dX13_value_17 : decode cX13_value 17 = .ok (.invokevirtual 22, 3) := dk_182 0 22 (dk_at dksX13_value_0 17 rfl rfl)
theorem dX13_value_20 : decode cX13_value 20 = .ok (.istore_n 3, 1) := dk_62 (dk_at dksX13_value_0 20 rfl rfl)
theorem dX13_value_21 : decode cX13_value 21 = .ok (.aload_n 0, 1) := dk_42 (dk_at dksX13_value_0 21 rfl rfl)
theorem dX13_value_22 : decode cX13_value 22 = .ok (.getfield 19, 3) := dk_180 0 19 (dk_at dksX13_value_1 0 rfl rfl)
theorem dX13_value_25 : decode cX13_value 25 = .ok (.aload_n 1, 1) := dk_43 (dk_at dksX13_value_1 3 rfl rfl)
theorem dX13_value_26 : decode cX13_value 26 = .ok (.aload_n 2, 1) := dk_44 (dk_at dksX13_value_1 4 rfl rfl)
theorem dX13_value_27 : decode cX13_value 27 = .ok (.invokevirtual 22, 3) := dk_182 0 22 (dk_at dksX13_value_1 5 rfl rfl)
theorem dX13_value_30 : decode cX13_value 30 = .ok (.istore 4, 2) := dk_54 4 (dk_at dksX13_value_1 8 rfl rfl)
theorem dX13_value_32 : decode cX13_value 32 = .ok (.aload_n 0, 1) := dk_42 (dk_at dksX13_value_1 10 rfl rfl)
theorem dX13_value_33 : decode cX13_value 33 = .ok (.getfield 9, 3) := dk_180 0 9 (dk_at dksX13_value_1 11 rfl rfl)
theorem dX13_value_36 : decode cX13_value 36 = .ok (.bipush 47, 2) := dk_16 47 (dk_at dksX13_value_1 14 rfl rfl)
theorem dX13_value_38 : decode cX13_value 38 = .ok (.if_icmp .eq 12, 3) := dk_159 0 12 (dk_at dksX13_value_1 16 rfl rfl)
theorem dX13_value_41 : decode cX13_value 41 = .ok (.aload_n 0, 1) := dk_42 (dk_at dksX13_value_1 19 rfl rfl)
theorem dX13_value_42 : decode cX13_value 42 = .ok (.getfield 9, 3) := dk_180 0 9 (dk_at dksX13_value_1 20 rfl rfl)
theorem dX13_value_45 : decode cX13_value 45 = .ok (.bipush 37, 2) := dk_16 37 (dk_at dksX13_value_2 0 rfl rfl)
theorem dX13_value_47 : decode cX13_value 47 = .ok (.if_icmp .ne 14, 3) := dk_160 0 14 (dk_at dksX13_value_2 2 rfl rfl)
theorem dX13_value_50 : decode cX13_value 50 = .ok (.iload 4, 2) := dk_21 4 (dk_at dksX13_value_2 5 rfl rfl)
theorem dX13_value_52 : decode cX13_value 52 = .ok (.ifCond .ne 9, 3) := dk_154 0 9 (dk_at dksX13_value_2 7 rfl rfl)
theorem dX13_value_55 : decode cX13_value 55 = .ok (.aload_n 1, 1) := dk_43 (dk_at dksX13_value_2 10 rfl rfl)
theorem dX13_value_56 : decode cX13_value 56 = .ok (.iconst 2, 1) := dk_5 (dk_at dksX13_value_2 11 rfl rfl)
theorem dX13_value_57 : decode cX13_value 57 = .ok (.invokevirtual 26, 3) := dk_182 0 26 (dk_at dksX13_value_2 12 rfl rfl)
theorem dX13_value_60 : decode cX13_value 60 = .ok (.athrow, 1) := dk_191 (dk_at dksX13_value_2 15 rfl rfl)
theorem dX13_value_61 : decode cX13_value 61 = .ok (.aload_n 0, 1) := dk_42 (dk_at dksX13_value_2 16 rfl rfl)
theorem dX13_value_62 : decode cX13_value 62 = .ok (.getfield 9, 3) := dk_180 0 9 (dk_at dksX13_value_2 17 rfl rfl)
theorem dX13_value_65 : decode cX13_value 65 = .ok (.tableswitch 59 42 47 #[49, 39, 59, 44, 59, 54], 39) := by decide +kernel
theorem dX13_value_104 : decode cX13_value 104 = .ok (.iload_n 3, 1) := dk_29 (dk_at dksX13_value_4 0 rfl rfl)
theorem dX13_value_105 : decode cX13_value 105 = .ok (.iload 4, 2) := dk_21 4 (dk_at dksX13_value_4 1 rfl rfl)
theorem dX13_value_107 : decode cX13_value 107 = .ok (.iadd, 1) := dk_96 (dk_at dksX13_value_4 3 rfl rfl)
theorem dX13_value_108 : decode cX13_value 108 = .ok (.ireturn, 1) := dk_172 (dk_at dksX13_value_4 4 rfl rfl)
theorem dX13_value_109 : decode cX13_value 109 = .ok (.iload_n 3, 1) := dk_29 (dk_at dksX13_value_4 5 rfl rfl)
theorem dX13_value_110 : decode cX13_value 110 = .ok (.iload 4, 2) := dk_21 4 (dk_at dksX13_value_4 6 rfl rfl)
theorem dX13_value_112 : decode cX13_value 112 = .ok (.isub, 1) := dk_100 (dk_at dksX13_value_4 8 rfl rfl)
theorem dX13_value_113 : decode cX13_value 113 = .ok (.ireturn, 1) := dk_172 (dk_at dksX13_value_4 9 rfl rfl)
theorem dX13_value_114 : decode cX13_value 114 = .ok (.iload_n 3, 1) := dk_29 (dk_at dksX13_value_4 10 rfl rfl)
theorem dX13_value_115 : decode cX13_value 115 = .ok (.iload 4, 2) := dk_21 4 (dk_at dksX13_value_4 11 rfl rfl)
theorem dX13_value_117 : decode cX13_value 117 = .ok (.imul, 1) := dk_104 (dk_at dksX13_value_4 13 rfl rfl)
theorem dX13_value_118 : decode cX13_value 118 = .ok (.ireturn, 1) := dk_172 (dk_at dksX13_value_4 14 rfl rfl)
theorem dX13_value_119 : decode cX13_value 119 = .ok (.iload_n 3, 1) := dk_29 (dk_at dksX13_value_4 15 rfl rfl)
theorem dX13_value_120 : decode cX13_value 120 = .ok (.iload 4, 2) := dk_21 4 (dk_at dksX13_value_4 16 rfl rfl)
theorem dX13_value_122 : decode cX13_value 122 = .ok (.idiv, 1) := dk_108 (dk_at dksX13_value_4 18 rfl rfl)
theorem dX13_value_123 : decode cX13_value 123 = .ok (.ireturn, 1) := dk_172 (dk_at dksX13_value_4 19 rfl rfl)
theorem dX13_value_124 : decode cX13_value 124 = .ok (.iload_n 3, 1) := dk_29 (dk_at dksX13_value_4 20 rfl rfl)
theorem dX13_value_125 : decode cX13_value 125 = .ok (.iload 4, 2) := dk_21 4 (dk_at dksX13_value_4 21 rfl rfl)
theorem dX13_value_127 : decode cX13_value 127 = .ok (.irem, 1) := dk_112 (dk_at dksX13_value_4 23 rfl rfl)
theorem dX13_value_128 : decode cX13_value 128 = .ok (.ireturn, 1) := dk_172 (dk_at dksX13_value_5 0 rfl rfl)
theorem okX13_value_0 : XOkL xms rX13_value bX13_value_0 := xcP (xok_aload_n dX13_value_0 rfl) rfl (xcP (xok_getfield (ref := "WaysAtlas$Sign") (Or.inr ⟨rfl, by decide⟩) dX13_value_1 (Or.inl ⟨q912, (Or.inl rfl)⟩) xh1118) rfl (xcP (xok_ifnonnull dX13_value_4 (by decide)) rfl (xcP (xok_iconst dX13_value_7 rfl) rfl (xcP (xok_goto dX13_value_8 (by decide)) rfl trivial))))
theorem okX13_value_11 : XOkL xms rX13_value bX13_value_11 := xcP (xok_aload_n dX13_value_11 rfl) rfl (xcP (xok_getfield (ref := "WaysAtlas$Sign") (Or.inr ⟨rfl, by decide⟩) dX13_value_12 (Or.inl ⟨q912, (Or.inl rfl)⟩) xh1118) rfl (xcP (xok_aload_n dX13_value_15 rfl) rfl (xcP (xok_aload_n dX13_value_16 rfl) rfl (xcC0 (xokc_list (List.forall_mem_cons.mpr ⟨xokc_A (owner := "WaysAtlas$Node") (r := (RX13, TX13, 3)) xm205 (List.mem_of_getElem? (i := 12) rfl) (by decide) rfl dX13_value_17 q1635 q1624 (List.mem_of_getElem? (i := 0) rfl) q1644 q1633 q158 q1634 (by decide +kernel), List.forall_mem_cons.mpr ⟨xokc_A (owner := "WaysAtlas$Node") (r := (RX14, TX14, 1)) xm207 (List.mem_of_getElem? (i := 13) rfl) (by decide) rfl dX13_value_17 q1635 q1624 (List.mem_of_getElem? (i := 0) rfl) q1625 q1626 q159 q1627 (by decide +kernel), List.forall_mem_cons.mpr ⟨xokc_A (owner := "WaysAtlas$Node") (r := (RX15, TX15, 1)) xm209 (List.mem_of_getElem? (i := 14) rfl) (by decide) rfl dX13_value_17 q1635 q1624 (List.mem_of_getElem? (i := 0) rfl) q1645 q1636 q160 q1637 (by decide +kernel), List.forall_mem_cons.mpr ⟨xokc_A (owner := "WaysAtlas$Node") (r := (RX16, TX16, 2)) xm211 (List.mem_of_getElem? (i := 15) rfl) (by decide) rfl dX13_value_17 q1635 q1624 (List.mem_of_getElem? (i := 0) rfl) q1628 q1629 q161 q1630 (by decide +kernel), fun _ h => nomatch h⟩⟩⟩⟩)) rfl (xcP xok_fal rfl trivial)))))
theorem okX13_value_20 : XOkL xms rX13_value bX13_value_20 := xcP (xok_istore_n dX13_value_20 rfl) rfl (xcP (xok_aload_n dX13_value_21 rfl) rfl (xcP (xok_getfield (ref := "WaysAtlas$Sign") (Or.inr ⟨rfl, by decide⟩) dX13_value_22 (Or.inl ⟨q913, (Or.inl rfl)⟩) xh1119) rfl (xcP (xok_aload_n dX13_value_25 rfl) rfl (xcP (xok_aload_n dX13_value_26 rfl) rfl (xcC0 (xokc_list (List.forall_mem_cons.mpr ⟨xokc_A (owner := "WaysAtlas$Node") (r := (RX13, TX13, 3)) xm205 (List.mem_of_getElem? (i := 12) rfl) (by decide) rfl dX13_value_27 q1635 q1624 (List.mem_of_getElem? (i := 0) rfl) q1644 q1633 q158 q1634 (by decide +kernel), List.forall_mem_cons.mpr ⟨xokc_A (owner := "WaysAtlas$Node") (r := (RX14, TX14, 1)) xm207 (List.mem_of_getElem? (i := 13) rfl) (by decide) rfl dX13_value_27 q1635 q1624 (List.mem_of_getElem? (i := 0) rfl) q1625 q1626 q159 q1627 (by decide +kernel), List.forall_mem_cons.mpr ⟨xokc_A (owner := "WaysAtlas$Node") (r := (RX15, TX15, 1)) xm209 (List.mem_of_getElem? (i := 14) rfl) (by decide) rfl dX13_value_27 q1635 q1624 (List.mem_of_getElem? (i := 0) rfl) q1645 q1636 q160 q1637 (by decide +kernel), List.forall_mem_cons.mpr ⟨xokc_A (owner := "WaysAtlas$Node") (r := (RX16, TX16, 2)) xm211 (List.mem_of_getElem? (i := 15) rfl) (by decide) rfl dX13_value_27 q1635 q1624 (List.mem_of_getElem? (i := 0) rfl) q1628 q1629 q161 q1630 (by decide +kernel), fun _ h => nomatch h⟩⟩⟩⟩)) rfl (xcP (xok_istore dX13_value_30) rfl (xcP (xok_aload_n dX13_value_32 rfl) rfl (xcP (xok_getfield (ref := "WaysAtlas$Sign") (Or.inl ⟨rfl, by decide⟩) dX13_value_33 (Or.inl ⟨q911, (Or.inl rfl)⟩) xh78) rfl (xcP (xok_bipush dX13_value_36 rfl) rfl (xcP (xok_icmpeq dX13_value_38 (by decide)) rfl (xcP (xok_aload_n dX13_value_41 rfl) rfl (xcP (xok_getfield (ref := "WaysAtlas$Sign") (Or.inl ⟨rfl, by decide⟩) dX13_value_42 (Or.inl ⟨q911, (Or.inl rfl)⟩) xh78) rfl (xcP (xok_bipush dX13_value_45 rfl) rfl (xcP (xok_icmpne dX13_value_47 (by decide)) rfl (xcP xok_fal rfl trivial)))))))))))))))
theorem okX13_value_50 : XOkL xms rX13_value bX13_value_50 := xcP (xok_iload dX13_value_50) rfl (xcP (xok_ifne dX13_value_52 (by decide)) rfl (xcP (xok_aload_n dX13_value_55 rfl) rfl (xcP (xok_iconst dX13_value_56 rfl) rfl (xcC0 (xokc_list (List.forall_mem_cons.mpr ⟨xokc_V (r := (RX5, TX5, 34)) xm82 (List.mem_of_getElem? (i := 5) rfl) (by decide) rfl dX13_value_57 q1638 q1564 q1565 q143 q1566 (by decide +kernel), fun _ h => nomatch h⟩)) rfl (xcT dX13_value_60)))))
theorem okX13_value_61 : XOkL xms rX13_value bX13_value_61 := xcP (xok_aload_n dX13_value_61 rfl) rfl (xcP (xok_getfield (ref := "WaysAtlas$Sign") (Or.inl ⟨rfl, by decide⟩) dX13_value_62 (Or.inl ⟨q911, (Or.inl rfl)⟩) xh78) rfl (xcP (xok_tsw dX13_value_65 (by decide) (by decide) (by decide)) rfl trivial))
theorem okX13_value_104 : XOkL xms rX13_value bX13_value_104 := xcP (xok_iload_n dX13_value_104 rfl) rfl (xcP (xok_iload dX13_value_105) rfl (xcP (xok_iadd dX13_value_107) rfl (xcR ⟨dX13_value_108, rfl⟩)))
theorem okX13_value_109 : XOkL xms rX13_value bX13_value_109 := xcP (xok_iload_n dX13_value_109 rfl) rfl (xcP (xok_iload dX13_value_110) rfl (xcP (xok_isub dX13_value_112) rfl (xcR ⟨dX13_value_113, rfl⟩)))
theorem okX13_value_114 : XOkL xms rX13_value bX13_value_114 := xcP (xok_iload_n dX13_value_114 rfl) rfl (xcP (xok_iload dX13_value_115) rfl (xcP (xok_imul dX13_value_117) rfl (xcR ⟨dX13_value_118, rfl⟩)))
theorem okX13_value_119 : XOkL xms rX13_value bX13_value_119 := xcP (xok_iload_n dX13_value_119 rfl) rfl (xcP (xok_iload dX13_value_120) rfl (xcP (xok_idiv dX13_value_122) rfl (xcR ⟨dX13_value_123, rfl⟩)))
theorem okX13_value_124 : XOkL xms rX13_value bX13_value_124 := xcP (xok_iload_n dX13_value_124 rfl) rfl (xcP (xok_iload dX13_value_125) rfl (xcP (xok_irem dX13_value_127) rfl (xcR ⟨dX13_value_128, rfl⟩)))
theorem okM_X13_value : XOkM xms rX13_value := xokM0 (List.forall_mem_cons.mpr ⟨⟨rfl, okX13_value_0⟩, List.forall_mem_cons.mpr ⟨⟨rfl, okX13_value_11⟩, List.forall_mem_cons.mpr ⟨⟨rfl, okX13_value_20⟩, List.forall_mem_cons.mpr ⟨⟨rfl, okX13_value_50⟩, List.forall_mem_cons.mpr ⟨⟨rfl, okX13_value_61⟩, List.forall_mem_cons.mpr ⟨⟨rfl, okX13_value_104⟩, List.forall_mem_cons.mpr ⟨⟨rfl, okX13_value_109⟩, List.forall_mem_cons.mpr ⟨⟨rfl, okX13_value_114⟩, List.forall_mem_cons.mpr ⟨⟨rfl, okX13_value_119⟩, List.forall_mem_cons.mpr ⟨⟨rfl, okX13_value_124⟩, fun _ h => nomatch h⟩⟩⟩⟩⟩⟩⟩⟩⟩⟩) (xokH0 rfl (fun _ _ => rfl)) (by decide +kernel) (by decide)
abbrev cX14_init : ByteArray := prog_15_method_1_code
def dkwX14_init_0 : List UInt8 := [42, 183, 0, 1, 42, 27, 181, 0, 7, 177]
abbrev dktX14_init_0 : List UInt8 := dkwX14_init_0 ++ []
theorem dksX14_init_0 : cX14_init.data.toList.drop 0 = dktX14_init_0 := by decide +kernel
theorem dX14_init_0 : decode cX14_init 0 = .ok (.aload_n 0, 1) := dk_42 (dk_at dksX14_init_0 0 rfl rfl)
theorem dX14_init_1 : decode cX14_init 1 = .ok (.invokespecial 1, 3) := dk_183 0 1 (dk_at dksX14_init_0 1 rfl rfl)
theorem dX14_init_4 : decode cX14_init 4 = .ok (.aload_n 0, 1) := dk_42 (dk_at dksX14_init_0 4 rfl rfl)
theorem dX14_init_5 : decode cX14_init 5 = .ok (.iload_n 1, 1) := dk_27 (dk_at dksX14_init_0 5 rfl rfl)
theorem dX14_init_6 : decode cX14_init 6 = .ok (.putfield 7, 3) := dk_181 0 7 (dk_at dksX14_init_0 6 rfl rfl)
theorem dX14_init_9 : decode cX14_init 9 = .ok (.return_, 1) := dk_177 (dk_at dksX14_init_0 9 rfl rfl)
theorem okX14_init_0 : XOkL xms rX14_init bX14_init_0 := xcP (xok_aload_n dX14_init_0 rfl) rfl (xcC0 (xokc_IN (host := "WaysAtlas") xm203 rfl rfl dX14_init_1 (List.mem_of_getElem? (i := 6) rfl) q908 q157 q909 rfl (by decide +kernel)) rfl (xcP (xok_aload_n dX14_init_4 rfl) rfl (xcP (xok_iload_n dX14_init_5 rfl) rfl (xcP (xok_putfield (ref := "WaysAtlas$Number") (Or.inl ⟨rfl, by decide, rfl⟩) dX14_init_6 (Or.inl ⟨q927, (Or.inl rfl)⟩) (Or.inr ⟨rfl, rfl, ⟨q927, (Or.inl rfl)⟩⟩) xh79) rfl (xcR ⟨dX14_init_9, rfl⟩)))))
theorem okM_X14_init : XOkM xms rX14_init := xokM0 (List.forall_mem_cons.mpr ⟨⟨rfl, okX14_init_0⟩, fun _ h => nomatch h⟩) (xokH0 rfl (fun _ _ => rfl)) (by decide +kernel) (by decide)
abbrev cX14_value : ByteArray := prog_15_method_2_code
theorem dX14_value_0 : decode cX14_value 0 = .ok (.aload_n 0, 1) := by decide +kernel
theorem dX14_value_1 : decode cX14_value 1 = .ok (.getfield 7, 3) := by decide +kernel
theorem dX14_value_4 : decode cX14_value 4 = .ok (.ireturn, 1) := by decide +kernel
theorem okX14_value_0 : XOkL xms rX14_value bX14_value_0 := xcP (xok_aload_n dX14_value_0 rfl) rfl (xcP (xok_getfield (ref := "WaysAtlas$Number") (Or.inl ⟨rfl, by decide⟩) dX14_value_1 (Or.inl ⟨q927, (Or.inl rfl)⟩) xh79) rfl (xcR ⟨dX14_value_4, rfl⟩))
theorem okM_X14_value : XOkM xms rX14_value := xokM0 (List.forall_mem_cons.mpr ⟨⟨rfl, okX14_value_0⟩, fun _ h => nomatch h⟩) (xokH0 rfl (fun _ _ => rfl)) (by decide +kernel) (by decide)
abbrev cX15_init : ByteArray := prog_33_method_1_code
def dkwX15_init_0 : List UInt8 := [42, 183, 0, 1, 42, 27, 181, 0, 7, 177]
abbrev dktX15_init_0 : List UInt8 := dkwX15_init_0 ++ []
theorem dksX15_init_0 : cX15_init.data.toList.drop 0 = dktX15_init_0 := by decide +kernel
theorem dX15_init_0 : decode cX15_init 0 = .ok (.aload_n 0, 1) := dk_42 (dk_at dksX15_init_0 0 rfl rfl)
theorem dX15_init_1 : decode cX15_init 1 = .ok (.invokespecial 1, 3) := dk_183 0 1 (dk_at dksX15_init_0 1 rfl rfl)
theorem dX15_init_4 : decode cX15_init 4 = .ok (.aload_n 0, 1) := dk_42 (dk_at dksX15_init_0 4 rfl rfl)
theorem dX15_init_5 : decode cX15_init 5 = .ok (.iload_n 1, 1) := dk_27 (dk_at dksX15_init_0 5 rfl rfl)
theorem dX15_init_6 : decode cX15_init 6 = .ok (.putfield 7, 3) := dk_181 0 7 (dk_at dksX15_init_0 6 rfl rfl)
theorem dX15_init_9 : decode cX15_init 9 = .ok (.return_, 1) := dk_177 (dk_at dksX15_init_0 9 rfl rfl)
theorem okX15_init_0 : XOkL xms rX15_init bX15_init_0 := xcP (xok_aload_n dX15_init_0 rfl) rfl (xcC0 (xokc_IN (host := "WaysAtlas") xm203 rfl rfl dX15_init_1 (List.mem_of_getElem? (i := 13) rfl) q908 q157 q909 rfl (by decide +kernel)) rfl (xcP (xok_aload_n dX15_init_4 rfl) rfl (xcP (xok_iload_n dX15_init_5 rfl) rfl (xcP (xok_putfield (ref := "WaysAtlas$Var") (Or.inl ⟨rfl, by decide, rfl⟩) dX15_init_6 (Or.inl ⟨q937, (Or.inl rfl)⟩) (Or.inr ⟨rfl, rfl, ⟨q937, (Or.inl rfl)⟩⟩) xh80) rfl (xcR ⟨dX15_init_9, rfl⟩)))))
theorem okM_X15_init : XOkM xms rX15_init := xokM0 (List.forall_mem_cons.mpr ⟨⟨rfl, okX15_init_0⟩, fun _ h => nomatch h⟩) (xokH0 rfl (fun _ _ => rfl)) (by decide +kernel) (by decide)
abbrev cX15_value : ByteArray := prog_33_method_2_code
def dkwX15_value_0 : List UInt8 := [44, 180, 0, 13, 42, 180, 0, 7, 46, 172]
abbrev dktX15_value_0 : List UInt8 := dkwX15_value_0 ++ []
theorem dksX15_value_0 : cX15_value.data.toList.drop 0 = dktX15_value_0 := by decide +kernel
theorem dX15_value_0 : decode cX15_value 0 = .ok (.aload_n 2, 1) := dk_44 (dk_at dksX15_value_0 0 rfl rfl)
theorem dX15_value_1 : decode cX15_value 1 = .ok (.getfield 13, 3) := dk_180 0 13 (dk_at dksX15_value_0 1 rfl rfl)
theorem dX15_value_4 : decode cX15_value 4 = .ok (.aload_n 0, 1) := dk_42 (dk_at dksX15_value_0 4 rfl rfl)
theorem dX15_value_5 : decode cX15_value 5 = .ok (.getfield 7, 3) := dk_180 0 7 (dk_at dksX15_value_0 5 rfl rfl)
theorem dX15_value_8 : decode cX15_value 8 = .ok (.iaload, 1) := dk_46 (dk_at dksX15_value_0 8 rfl rfl)
theorem dX15_value_9 : decode cX15_value 9 = .ok (.ireturn, 1) := dk_172 (dk_at dksX15_value_0 9 rfl rfl)
theorem okX15_value_0 : XOkL xms rX15_value bX15_value_0 := xcP (xok_aload_n dX15_value_0 rfl) rfl (xcP (xok_getfield (ref := "WaysAtlas$Frame") (Or.inr ⟨rfl, by decide⟩) dX15_value_1 (Or.inr ⟨⟨"WaysAtlas", (List.mem_of_getElem? (i := 90) rfl)⟩, (Or.inl rfl)⟩) xh1053) rfl (xcP (xok_aload_n dX15_value_4 rfl) rfl (xcP (xok_getfield (ref := "WaysAtlas$Var") (Or.inl ⟨rfl, by decide⟩) dX15_value_5 (Or.inl ⟨q937, (Or.inl rfl)⟩) xh80) rfl (xcP (xok_iaload dX15_value_8) rfl (xcR ⟨dX15_value_9, rfl⟩)))))
theorem okM_X15_value : XOkM xms rX15_value := xokM0 (List.forall_mem_cons.mpr ⟨⟨rfl, okX15_value_0⟩, fun _ h => nomatch h⟩) (xokH0 rfl (fun _ _ => rfl)) (by decide +kernel) (by decide)
abbrev cX16_init : ByteArray := prog_16_method_1_code
def dkwX16_init_0 : List UInt8 := [42, 183, 0, 3, 42, 27, 181, 0, 9, 42, 44, 181, 0, 15, 177]
abbrev dktX16_init_0 : List UInt8 := dkwX16_init_0 ++ []
theorem dksX16_init_0 : cX16_init.data.toList.drop 0 = dktX16_init_0 := by decide +kernel
theorem dX16_init_0 : decode cX16_init 0 = .ok (.aload_n 0, 1) := dk_42 (dk_at dksX16_init_0 0 rfl rfl)
theorem dX16_init_1 : decode cX16_init 1 = .ok (.invokespecial 3, 3) := dk_183 0 3 (dk_at dksX16_init_0 1 rfl rfl)
theorem dX16_init_4 : decode cX16_init 4 = .ok (.aload_n 0, 1) := dk_42 (dk_at dksX16_init_0 4 rfl rfl)
theorem dX16_init_5 : decode cX16_init 5 = .ok (.iload_n 1, 1) := dk_27 (dk_at dksX16_init_0 5 rfl rfl)
theorem dX16_init_6 : decode cX16_init 6 = .ok (.putfield 9, 3) := dk_181 0 9 (dk_at dksX16_init_0 6 rfl rfl)
theorem dX16_init_9 : decode cX16_init 9 = .ok (.aload_n 0, 1) := dk_42 (dk_at dksX16_init_0 9 rfl rfl)
theorem dX16_init_10 : decode cX16_init 10 = .ok (.aload_n 2, 1) := dk_44 (dk_at dksX16_init_0 10 rfl rfl)
theorem dX16_init_11 : decode cX16_init 11 = .ok (.putfield 15, 3) := dk_181 0 15 (dk_at dksX16_init_0 11 rfl rfl)
theorem dX16_init_14 : decode cX16_init 14 = .ok (.return_, 1) := dk_177 (dk_at dksX16_init_0 14 rfl rfl)
theorem okX16_init_0 : XOkL xms rX16_init bX16_init_0 := xcP (xok_aload_n dX16_init_0 rfl) rfl (xcC0 (xokc_IN (host := "WaysAtlas") xm203 rfl rfl dX16_init_1 (List.mem_of_getElem? (i := 7) rfl) q908 q157 q909 rfl (by decide +kernel)) rfl (xcP (xok_aload_n dX16_init_4 rfl) rfl (xcP (xok_iload_n dX16_init_5 rfl) rfl (xcP (xok_putfield (ref := "WaysAtlas$Place") (Or.inl ⟨rfl, by decide, rfl⟩) dX16_init_6 (Or.inl ⟨q947, (Or.inl rfl)⟩) (Or.inr ⟨rfl, rfl, ⟨q947, (Or.inl rfl)⟩⟩) xh81) rfl (xcP (xok_aload_n dX16_init_9 rfl) rfl (xcP (xok_aload_n dX16_init_10 rfl) rfl (xcP (xok_putfield (ref := "WaysAtlas$Place") (Or.inr (Or.inr ⟨rfl, by decide, rfl⟩)) dX16_init_11 (Or.inl ⟨q948, (Or.inl rfl)⟩) (Or.inr ⟨rfl, rfl, ⟨q948, (Or.inl rfl)⟩⟩) xh1120) rfl (xcR ⟨dX16_init_14, rfl⟩))))))))
theorem okM_X16_init : XOkM xms rX16_init := xokM0 (List.forall_mem_cons.mpr ⟨⟨rfl, okX16_init_0⟩, fun _ h => nomatch h⟩) (xokH0 rfl (fun _ _ => rfl)) (by decide +kernel) (by decide)
abbrev cX16_value : ByteArray := prog_16_method_2_code
def dkwX16_value_2 : List UInt8 := [43, 44, 42, 180, 0, 15, 43, 44, 182, 0, 37, 182, 0, 41, 46, 172]
abbrev dktX16_value_2 : List UInt8 := dkwX16_value_2 ++ []
def dkwX16_value_1 : List UInt8 := [182, 0, 25, 191, 43, 180, 0, 31, 44, 180, 0, 19, 42, 180, 0, 9, 46, 46, 172, 43, 180, 0, 34, 42]
abbrev dktX16_value_1 : List UInt8 := dkwX16_value_1 ++ dktX16_value_2
def dkwX16_value_0 : List UInt8 := [42, 180, 0, 15, 199, 0, 38, 44, 180, 0, 19, 42, 180, 0, 9, 46, 16, 247, 160, 0, 9, 43, 7]
abbrev dktX16_value_0 : List UInt8 := dkwX16_value_0 ++ dktX16_value_1
theorem dksX16_value_0 : cX16_value.data.toList.drop 0 = dktX16_value_0 := by decide +kernel
theorem dksX16_value_1 : cX16_value.data.toList.drop 23 = dktX16_value_1 := dk_seg dksX16_value_0 23 rfl rfl
theorem dksX16_value_2 : cX16_value.data.toList.drop 47 = dktX16_value_2 := dk_seg dksX16_value_1 24 rfl rfl
theorem dX16_value_0 : decode cX16_value 0 = .ok (.aload_n 0, 1) := dk_42 (dk_at dksX16_value_0 0 rfl rfl)
theorem dX16_value_1 : decode cX16_value 1 = .ok (.getfield 15, 3) := dk_180 0 15 (dk_at dksX16_value_0 1 rfl rfl)
theorem dX16_value_4 : decode cX16_value 4 = .ok (.ifnonnull 38, 3) := dk_199 0 38 (dk_at dksX16_value_0 4 rfl rfl)
theorem dX16_value_7 : decode cX16_value 7 = .ok (.aload_n 2, 1) := dk_44 (dk_at dksX16_value_0 7 rfl rfl)
theorem dX16_value_8 : decode cX16_value 8 = .ok (.getfield 19, 3) := dk_180 0 19 (dk_at dksX16_value_0 8 rfl rfl)
theorem dX16_value_11 : decode cX16_value 11 = .ok (.aload_n 0, 1) := dk_42 (dk_at dksX16_value_0 11 rfl rfl)
theorem dX16_value_12 : decode cX16_value 12 = .ok (.getfield 9, 3) := dk_180 0 9 (dk_at dksX16_value_0 12 rfl rfl)
theorem dX16_value_15 : decode cX16_value 15 = .ok (.iaload, 1) := dk_46 (dk_at dksX16_value_0 15 rfl rfl)
theorem dX16_value_16 : decode cX16_value 16 = .ok (.bipush (-9), 2) := dk_16 247 (dk_at dksX16_value_0 16 rfl rfl)
theorem dX16_value_18 : decode cX16_value 18 = .ok (.if_icmp .ne 9, 3) := dk_160 0 9 (dk_at dksX16_value_0 18 rfl rfl)
theorem dX16_value_21 : decode cX16_value 21 = .ok (.aload_n 1, 1) := dk_43 (dk_at dksX16_value_0 21 rfl rfl)
theorem dX16_value_22 : decode cX16_value 22 = .ok (.iconst 4, 1) := dk_7 (dk_at dksX16_value_0 22 rfl rfl)
theorem dX16_value_23 : decode cX16_value 23 = .ok (.invokevirtual 25, 3) := dk_182 0 25 (dk_at dksX16_value_1 0 rfl rfl)
theorem dX16_value_26 : decode cX16_value 26 = .ok (.athrow, 1) := dk_191 (dk_at dksX16_value_1 3 rfl rfl)
theorem dX16_value_27 : decode cX16_value 27 = .ok (.aload_n 1, 1) := dk_43 (dk_at dksX16_value_1 4 rfl rfl)
theorem dX16_value_28 : decode cX16_value 28 = .ok (.getfield 31, 3) := dk_180 0 31 (dk_at dksX16_value_1 5 rfl rfl)
theorem dX16_value_31 : decode cX16_value 31 = .ok (.aload_n 2, 1) := dk_44 (dk_at dksX16_value_1 8 rfl rfl)
theorem dX16_value_32 : decode cX16_value 32 = .ok (.getfield 19, 3) := dk_180 0 19 (dk_at dksX16_value_1 9 rfl rfl)
theorem dX16_value_35 : decode cX16_value 35 = .ok (.aload_n 0, 1) := dk_42 (dk_at dksX16_value_1 12 rfl rfl)
theorem dX16_value_36 : decode cX16_value 36 = .ok (.getfield 9, 3) := dk_180 0 9 (dk_at dksX16_value_1 13 rfl rfl)
theorem dX16_value_39 : decode cX16_value 39 = .ok (.iaload, 1) := dk_46 (dk_at dksX16_value_1 16 rfl rfl)
theorem dX16_value_40 : decode cX16_value 40 = .ok (.iaload, 1) := dk_46 (dk_at dksX16_value_1 17 rfl rfl)
theorem dX16_value_41 : decode cX16_value 41 = .ok (.ireturn, 1) := dk_172 (dk_at dksX16_value_1 18 rfl rfl)
theorem dX16_value_42 : decode cX16_value 42 = .ok (.aload_n 1, 1) := dk_43 (dk_at dksX16_value_1 19 rfl rfl)
theorem dX16_value_43 : decode cX16_value 43 = .ok (.getfield 34, 3) := dk_180 0 34 (dk_at dksX16_value_1 20 rfl rfl)
theorem dX16_value_46 : decode cX16_value 46 = .ok (.aload_n 0, 1) := dk_42 (dk_at dksX16_value_1 23 rfl rfl)
theorem dX16_value_47 : decode cX16_value 47 = .ok (.aload_n 1, 1) := dk_43 (dk_at dksX16_value_2 0 rfl rfl)
theorem dX16_value_48 : decode cX16_value 48 = .ok (.aload_n 2, 1) := dk_44 (dk_at dksX16_value_2 1 rfl rfl)
theorem dX16_value_49 : decode cX16_value 49 = .ok (.aload_n 0, 1) := dk_42 (dk_at dksX16_value_2 2 rfl rfl)
theorem dX16_value_50 : decode cX16_value 50 = .ok (.getfield 15, 3) := dk_180 0 15 (dk_at dksX16_value_2 3 rfl rfl)
theorem dX16_value_53 : decode cX16_value 53 = .ok (.aload_n 1, 1) := dk_43 (dk_at dksX16_value_2 6 rfl rfl)
theorem dX16_value_54 : decode cX16_value 54 = .ok (.aload_n 2, 1) := dk_44 (dk_at dksX16_value_2 7 rfl rfl)
theorem dX16_value_55 : decode cX16_value 55 = .ok (.invokevirtual 37, 3) := dk_182 0 37 (dk_at dksX16_value_2 8 rfl rfl)
theorem dX16_value_58 : decode cX16_value 58 = .ok (.invokevirtual 41, 3) := dk_182 0 41 (dk_at dksX16_value_2 11 rfl rfl)
theorem dX16_value_61 : decode cX16_value 61 = .ok (.iaload, 1) := dk_46 (dk_at dksX16_value_2 14 rfl rfl)
theorem dX16_value_62 : decode cX16_value 62 = .ok (.ireturn, 1) := dk_172 (dk_at dksX16_value_2 15 rfl rfl)
theorem okX16_value_0 : XOkL xms rX16_value bX16_value_0 := xcP (xok_aload_n dX16_value_0 rfl) rfl (xcP (xok_getfield (ref := "WaysAtlas$Place") (Or.inr ⟨rfl, by decide⟩) dX16_value_1 (Or.inl ⟨q948, (Or.inl rfl)⟩) xh1120) rfl (xcP (xok_ifnonnull dX16_value_4 (by decide)) rfl (xcP (xok_aload_n dX16_value_7 rfl) rfl (xcP (xok_getfield (ref := "WaysAtlas$Frame") (Or.inr ⟨rfl, by decide⟩) dX16_value_8 (Or.inr ⟨⟨"WaysAtlas", (List.mem_of_getElem? (i := 36) rfl)⟩, (Or.inl rfl)⟩) xh1054) rfl (xcP (xok_aload_n dX16_value_11 rfl) rfl (xcP (xok_getfield (ref := "WaysAtlas$Place") (Or.inl ⟨rfl, by decide⟩) dX16_value_12 (Or.inl ⟨q947, (Or.inl rfl)⟩) xh81) rfl (xcP (xok_iaload dX16_value_15) rfl (xcP (xok_bipush dX16_value_16 rfl) rfl (xcP (xok_icmpne dX16_value_18 (by decide)) rfl (xcP (xok_aload_n dX16_value_21 rfl) rfl (xcP (xok_iconst dX16_value_22 rfl) rfl (xcC0 (xokc_list (List.forall_mem_cons.mpr ⟨xokc_V (r := (RX5, TX5, 34)) xm82 (List.mem_of_getElem? (i := 5) rfl) (by decide) rfl dX16_value_23 q1631 q1564 q1565 q143 q1566 (by decide +kernel), fun _ h => nomatch h⟩)) rfl (xcT dX16_value_26)))))))))))))
theorem okX16_value_27 : XOkL xms rX16_value bX16_value_27 := xcP (xok_aload_n dX16_value_27 rfl) rfl (xcP (xok_getfield (ref := "WaysAtlas$Run") (Or.inr ⟨rfl, by decide⟩) dX16_value_28 (Or.inr ⟨⟨"WaysAtlas", (List.mem_of_getElem? (i := 37) rfl)⟩, (Or.inl rfl)⟩) xh1044) rfl (xcP (xok_aload_n dX16_value_31 rfl) rfl (xcP (xok_getfield (ref := "WaysAtlas$Frame") (Or.inr ⟨rfl, by decide⟩) dX16_value_32 (Or.inr ⟨⟨"WaysAtlas", (List.mem_of_getElem? (i := 36) rfl)⟩, (Or.inl rfl)⟩) xh1054) rfl (xcP (xok_aload_n dX16_value_35 rfl) rfl (xcP (xok_getfield (ref := "WaysAtlas$Place") (Or.inl ⟨rfl, by decide⟩) dX16_value_36 (Or.inl ⟨q947, (Or.inl rfl)⟩) xh81) rfl (xcP (xok_iaload dX16_value_39) rfl (xcP (xok_iaload dX16_value_40) rfl (xcR ⟨dX16_value_41, rfl⟩))))))))
theorem okX16_value_42 : XOkL xms rX16_value bX16_value_42 := xcP (xok_aload_n dX16_value_42 rfl) rfl (xcP (xok_getfield (ref := "WaysAtlas$Run") (Or.inr ⟨rfl, by decide⟩) dX16_value_43 (Or.inr ⟨⟨"WaysAtlas", (List.mem_of_getElem? (i := 38) rfl)⟩, (Or.inl rfl)⟩) xh1045) rfl (xcP (xok_aload_n dX16_value_46 rfl) rfl (xcP (xok_aload_n dX16_value_47 rfl) rfl (xcP (xok_aload_n dX16_value_48 rfl) rfl (xcP (xok_aload_n dX16_value_49 rfl) rfl (xcP (xok_getfield (ref := "WaysAtlas$Place") (Or.inr ⟨rfl, by decide⟩) dX16_value_50 (Or.inl ⟨q948, (Or.inl rfl)⟩) xh1120) rfl (xcP (xok_aload_n dX16_value_53 rfl) rfl (xcP (xok_aload_n dX16_value_54 rfl) rfl (xcC0 (xokc_list (List.forall_mem_cons.mpr ⟨xokc_A (owner := "WaysAtlas$Node") (r := (RX13, TX13, 3)) xm205 (List.mem_of_getElem? (i := 12) rfl) (by decide) rfl dX16_value_55 q1632 q1624 (List.mem_of_getElem? (i := 0) rfl) q1644 q1633 q158 q1634 (by decide +kernel), List.forall_mem_cons.mpr ⟨xokc_A (owner := "WaysAtlas$Node") (r := (RX14, TX14, 1)) xm207 (List.mem_of_getElem? (i := 13) rfl) (by decide) rfl dX16_value_55 q1632 q1624 (List.mem_of_getElem? (i := 0) rfl) q1625 q1626 q159 q1627 (by decide +kernel), List.forall_mem_cons.mpr ⟨xokc_A (owner := "WaysAtlas$Node") (r := (RX15, TX15, 1)) xm209 (List.mem_of_getElem? (i := 14) rfl) (by decide) rfl dX16_value_55 q1632 q1624 (List.mem_of_getElem? (i := 0) rfl) q1645 q1636 q160 q1637 (by decide +kernel), List.forall_mem_cons.mpr ⟨xokc_A (owner := "WaysAtlas$Node") (r := (RX16, TX16, 2)) xm211 (List.mem_of_getElem? (i := 15) rfl) (by decide) rfl dX16_value_55 q1632 q1624 (List.mem_of_getElem? (i := 0) rfl) q1628 q1629 q161 q1630 (by decide +kernel), fun _ h => nomatch h⟩⟩⟩⟩)) rfl (xcC0 (xokc_list (List.forall_mem_cons.mpr ⟨xokc_V (r := (RX16, TX16, 2)) xm212 (List.mem_of_getElem? (i := 15) rfl) (by decide) rfl dX16_value_58 q1639 q1640 q1641 q161 q1642 (by decide +kernel), fun _ h => nomatch h⟩)) rfl (xcP (xok_iaload dX16_value_61) rfl (xcR ⟨dX16_value_62, rfl⟩))))))))))))
theorem okM_X16_value : XOkM xms rX16_value := xokM0 (List.forall_mem_cons.mpr ⟨⟨rfl, okX16_value_0⟩, List.forall_mem_cons.mpr ⟨⟨rfl, okX16_value_27⟩, List.forall_mem_cons.mpr ⟨⟨rfl, okX16_value_42⟩, fun _ h => nomatch h⟩⟩⟩) (xokH0 rfl (fun _ _ => rfl)) (by decide +kernel) (by decide)
abbrev cX16_cell : ByteArray := prog_16_method_3_code
def dkwX16_cell_2 : List UInt8 := [16, 8, 21, 4, 104, 29, 96, 172]
abbrev dktX16_cell_2 : List UInt8 := dkwX16_cell_2 ++ []
def dkwX16_cell_1 : List UInt8 := [29, 3, 43, 180, 0, 31, 21, 4, 46, 4, 100, 184, 0, 45, 154, 0, 9, 43, 6, 182, 0, 25, 191]
abbrev dktX16_cell_1 : List UInt8 := dkwX16_cell_1 ++ dktX16_cell_2
def dkwX16_cell_0 : List UInt8 := [44, 180, 0, 19, 42, 180, 0, 9, 46, 54, 4, 21, 4, 16, 247, 160, 0, 9, 43, 7, 182, 0, 25, 191]
abbrev dktX16_cell_0 : List UInt8 := dkwX16_cell_0 ++ dktX16_cell_1
theorem dksX16_cell_0 : cX16_cell.data.toList.drop 0 = dktX16_cell_0 := by decide +kernel
theorem dksX16_cell_1 : cX16_cell.data.toList.drop 24 = dktX16_cell_1 := dk_seg dksX16_cell_0 24 rfl rfl
theorem dksX16_cell_2 : cX16_cell.data.toList.drop 47 = dktX16_cell_2 := dk_seg dksX16_cell_1 23 rfl rfl
theorem dX16_cell_0 : decode cX16_cell 0 = .ok (.aload_n 2, 1) := dk_44 (dk_at dksX16_cell_0 0 rfl rfl)
theorem dX16_cell_1 : decode cX16_cell 1 = .ok (.getfield 19, 3) := dk_180 0 19 (dk_at dksX16_cell_0 1 rfl rfl)
theorem dX16_cell_4 : decode cX16_cell 4 = .ok (.aload_n 0, 1) := dk_42 (dk_at dksX16_cell_0 4 rfl rfl)
theorem dX16_cell_5 : decode cX16_cell 5 = .ok (.getfield 9, 3) := dk_180 0 9 (dk_at dksX16_cell_0 5 rfl rfl)
theorem dX16_cell_8 : decode cX16_cell 8 = .ok (.iaload, 1) := dk_46 (dk_at dksX16_cell_0 8 rfl rfl)
theorem dX16_cell_9 : decode cX16_cell 9 = .ok (.istore 4, 2) := dk_54 4 (dk_at dksX16_cell_0 9 rfl rfl)
theorem dX16_cell_11 : decode cX16_cell 11 = .ok (.iload 4, 2) := dk_21 4 (dk_at dksX16_cell_0 11 rfl rfl)
theorem dX16_cell_13 : decode cX16_cell 13 = .ok (.bipush (-9), 2) := dk_16 247 (dk_at dksX16_cell_0 13 rfl rfl)
theorem dX16_cell_15 : decode cX16_cell 15 = .ok (.if_icmp .ne 9, 3) := dk_160 0 9 (dk_at dksX16_cell_0 15 rfl rfl)
theorem dX16_cell_18 : decode cX16_cell 18 = .ok (.aload_n 1, 1) := dk_43 (dk_at dksX16_cell_0 18 rfl rfl)
theorem dX16_cell_19 : decode cX16_cell 19 = .ok (.iconst 4, 1) := dk_7 (dk_at dksX16_cell_0 19 rfl rfl)
theorem dX16_cell_20 : decode cX16_cell 20 = .ok (.invokevirtual 25, 3) := dk_182 0 25 (dk_at dksX16_cell_0 20 rfl rfl)
theorem dX16_cell_23 : decode cX16_cell 23 = .ok (.athrow, 1) := dk_191 (dk_at dksX16_cell_0 23 rfl rfl)
theorem dX16_cell_24 : decode cX16_cell 24 = .ok (.iload_n 3, 1) := dk_29 (dk_at dksX16_cell_1 0 rfl rfl)
theorem dX16_cell_25 : decode cX16_cell 25 = .ok (.iconst 0, 1) := dk_3 (dk_at dksX16_cell_1 1 rfl rfl)
theorem dX16_cell_26 : decode cX16_cell 26 = .ok (.aload_n 1, 1) := dk_43 (dk_at dksX16_cell_1 2 rfl rfl)
theorem dX16_cell_27 : decode cX16_cell 27 = .ok (.getfield 31, 3) := dk_180 0 31 (dk_at dksX16_cell_1 3 rfl rfl)
theorem dX16_cell_30 : decode cX16_cell 30 = .ok (.iload 4, 2) := dk_21 4 (dk_at dksX16_cell_1 6 rfl rfl)
theorem dX16_cell_32 : decode cX16_cell 32 = .ok (.iaload, 1) := dk_46 (dk_at dksX16_cell_1 8 rfl rfl)
theorem dX16_cell_33 : decode cX16_cell 33 = .ok (.iconst 1, 1) := dk_4 (dk_at dksX16_cell_1 9 rfl rfl)
theorem dX16_cell_34 : decode cX16_cell 34 = .ok (.isub, 1) := dk_100 (dk_at dksX16_cell_1 10 rfl rfl)
theorem dX16_cell_35 : decode cX16_cell 35 = .ok (.invokestatic 45, 3) := dk_184 0 45 (dk_at dksX16_cell_1 11 rfl rfl)
theorem dX16_cell_38 : decode cX16_cell 38 = .ok (.ifCond .ne 9, 3) := dk_154 0 9 (dk_at dksX16_cell_1 14 rfl rfl)
theorem dX16_cell_41 : decode cX16_cell 41 = .ok (.aload_n 1, 1) := dk_43 (dk_at dksX16_cell_1 17 rfl rfl)
theorem dX16_cell_42 : decode cX16_cell 42 = .ok (.iconst 3, 1) := dk_6 (dk_at dksX16_cell_1 18 rfl rfl)
theorem dX16_cell_43 : decode cX16_cell 43 = .ok (.invokevirtual 25, 3) := dk_182 0 25 (dk_at dksX16_cell_1 19 rfl rfl)
theorem dX16_cell_46 : decode cX16_cell 46 = .ok (.athrow, 1) := dk_191 (dk_at dksX16_cell_1 22 rfl rfl)
theorem dX16_cell_47 : decode cX16_cell 47 = .ok (.bipush 8, 2) := dk_16 8 (dk_at dksX16_cell_2 0 rfl rfl)
theorem dX16_cell_49 : decode cX16_cell 49 = .ok (.iload 4, 2) := dk_21 4 (dk_at dksX16_cell_2 2 rfl rfl)
theorem dX16_cell_51 : decode cX16_cell 51 = .ok (.imul, 1) := dk_104 (dk_at dksX16_cell_2 4 rfl rfl)
theorem dX16_cell_52 : decode cX16_cell 52 = .ok (.iload_n 3, 1) := dk_29 (dk_at dksX16_cell_2 5 rfl rfl)
theorem dX16_cell_53 : decode cX16_cell 53 = .ok (.iadd, 1) := dk_96 (dk_at dksX16_cell_2 6 rfl rfl)
theorem dX16_cell_54 : decode cX16_cell 54 = .ok (.ireturn, 1) := dk_172 (dk_at dksX16_cell_2 7 rfl rfl)
theorem okX16_cell_0 : XOkL xms rX16_cell bX16_cell_0 := xcP (xok_aload_n dX16_cell_0 rfl) rfl (xcP (xok_getfield (ref := "WaysAtlas$Frame") (Or.inr ⟨rfl, by decide⟩) dX16_cell_1 (Or.inr ⟨⟨"WaysAtlas", (List.mem_of_getElem? (i := 36) rfl)⟩, (Or.inl rfl)⟩) xh1054) rfl (xcP (xok_aload_n dX16_cell_4 rfl) rfl (xcP (xok_getfield (ref := "WaysAtlas$Place") (Or.inl ⟨rfl, by decide⟩) dX16_cell_5 (Or.inl ⟨q947, (Or.inl rfl)⟩) xh81) rfl (xcP (xok_iaload dX16_cell_8) rfl (xcP (xok_istore dX16_cell_9) rfl (xcP (xok_iload dX16_cell_11) rfl (xcP (xok_bipush dX16_cell_13 rfl) rfl (xcP (xok_icmpne dX16_cell_15 (by decide)) rfl (xcP (xok_aload_n dX16_cell_18 rfl) rfl (xcP (xok_iconst dX16_cell_19 rfl) rfl (xcC0 (xokc_list (List.forall_mem_cons.mpr ⟨xokc_V (r := (RX5, TX5, 34)) xm82 (List.mem_of_getElem? (i := 5) rfl) (by decide) rfl dX16_cell_20 q1631 q1564 q1565 q143 q1566 (by decide +kernel), fun _ h => nomatch h⟩)) rfl (xcT dX16_cell_23))))))))))))
theorem okX16_cell_24 : XOkL xms rX16_cell bX16_cell_24 := xcP (xok_iload_n dX16_cell_24 rfl) rfl (xcP (xok_iconst dX16_cell_25 rfl) rfl (xcP (xok_aload_n dX16_cell_26 rfl) rfl (xcP (xok_getfield (ref := "WaysAtlas$Run") (Or.inr ⟨rfl, by decide⟩) dX16_cell_27 (Or.inr ⟨⟨"WaysAtlas", (List.mem_of_getElem? (i := 37) rfl)⟩, (Or.inl rfl)⟩) xh1044) rfl (xcP (xok_iload dX16_cell_30) rfl (xcP (xok_iaload dX16_cell_32) rfl (xcP (xok_iconst dX16_cell_33 rfl) rfl (xcP (xok_isub dX16_cell_34) rfl (xcC0 (xokc_SN (host := "WaysAtlas") xm3 rfl dX16_cell_35 (List.mem_of_getElem? (i := 8) rfl) q681 q138 q682 (by decide +kernel)) rfl (xcP (xok_ifne dX16_cell_38 (by decide)) rfl (xcP (xok_aload_n dX16_cell_41 rfl) rfl (xcP (xok_iconst dX16_cell_42 rfl) rfl (xcC0 (xokc_list (List.forall_mem_cons.mpr ⟨xokc_V (r := (RX5, TX5, 34)) xm82 (List.mem_of_getElem? (i := 5) rfl) (by decide) rfl dX16_cell_43 q1631 q1564 q1565 q143 q1566 (by decide +kernel), fun _ h => nomatch h⟩)) rfl (xcT dX16_cell_46)))))))))))))
theorem okX16_cell_47 : XOkL xms rX16_cell bX16_cell_47 := xcP (xok_bipush dX16_cell_47 rfl) rfl (xcP (xok_iload dX16_cell_49) rfl (xcP (xok_imul dX16_cell_51) rfl (xcP (xok_iload_n dX16_cell_52 rfl) rfl (xcP (xok_iadd dX16_cell_53) rfl (xcR ⟨dX16_cell_54, rfl⟩)))))
theorem okM_X16_cell : XOkM xms rX16_cell := xokM0 (List.forall_mem_cons.mpr ⟨⟨rfl, okX16_cell_0⟩, List.forall_mem_cons.mpr ⟨⟨rfl, okX16_cell_24⟩, List.forall_mem_cons.mpr ⟨⟨rfl, okX16_cell_47⟩, fun _ h => nomatch h⟩⟩⟩) (xokH0 rfl (fun _ _ => rfl)) (by decide +kernel) (by decide)
abbrev cX17_init : ByteArray := prog_30_method_1_code
def dkwX17_init_0 : List UInt8 := [42, 183, 0, 1, 42, 27, 181, 0, 7, 177]
abbrev dktX17_init_0 : List UInt8 := dkwX17_init_0 ++ []
theorem dksX17_init_0 : cX17_init.data.toList.drop 0 = dktX17_init_0 := by decide +kernel
theorem dX17_init_0 : decode cX17_init 0 = .ok (.aload_n 0, 1) := dk_42 (dk_at dksX17_init_0 0 rfl rfl)
theorem dX17_init_1 : decode cX17_init 1 = .ok (.invokespecial 1, 3) := dk_183 0 1 (dk_at dksX17_init_0 1 rfl rfl)
theorem dX17_init_4 : decode cX17_init 4 = .ok (.aload_n 0, 1) := dk_42 (dk_at dksX17_init_0 4 rfl rfl)
theorem dX17_init_5 : decode cX17_init 5 = .ok (.iload_n 1, 1) := dk_27 (dk_at dksX17_init_0 5 rfl rfl)
theorem dX17_init_6 : decode cX17_init 6 = .ok (.putfield 7, 3) := dk_181 0 7 (dk_at dksX17_init_0 6 rfl rfl)
theorem dX17_init_9 : decode cX17_init 9 = .ok (.return_, 1) := dk_177 (dk_at dksX17_init_0 9 rfl rfl)
theorem okX17_init_0 : XOkL xms rX17_init bX17_init_0 := xcP (xok_aload_n dX17_init_0 rfl) rfl (xcP (xok_objInit dX17_init_1 q963 q186 q187) rfl (xcP (xok_aload_n dX17_init_4 rfl) rfl (xcP (xok_iload_n dX17_init_5 rfl) rfl (xcP (xok_putfield (ref := "WaysAtlas$Statement") (Or.inl ⟨rfl, by decide, rfl⟩) dX17_init_6 (Or.inl ⟨q969, (Or.inl rfl)⟩) (Or.inr ⟨rfl, rfl, ⟨q969, (Or.inl rfl)⟩⟩) xh82) rfl (xcR ⟨dX17_init_9, rfl⟩)))))
theorem okM_X17_init : XOkM xms rX17_init := xokM0 (List.forall_mem_cons.mpr ⟨⟨rfl, okX17_init_0⟩, fun _ h => nomatch h⟩) (xokH0 rfl (fun _ _ => rfl)) (by decide +kernel) (by decide)
abbrev cX17_isMark : ByteArray := prog_30_method_3_code
theorem dX17_isMark_0 : decode cX17_isMark 0 = .ok (.iconst 0, 1) := by decide +kernel
theorem dX17_isMark_1 : decode cX17_isMark 1 = .ok (.ireturn, 1) := by decide +kernel
theorem okX17_isMark_0 : XOkL xms rX17_isMark bX17_isMark_0 := xcP (xok_iconst dX17_isMark_0 rfl) rfl (xcR ⟨dX17_isMark_1, rfl⟩)
theorem okM_X17_isMark : XOkM xms rX17_isMark := xokM0 (List.forall_mem_cons.mpr ⟨⟨rfl, okX17_isMark_0⟩, fun _ h => nomatch h⟩) (xokH0 rfl (fun _ _ => rfl)) (by decide +kernel) (by decide)
abbrev cX17_resources : ByteArray := prog_30_method_2_code
theorem dX17_resources_0 : decode cX17_resources 0 = .ok (.iconst 0, 1) := by decide +kernel
theorem dX17_resources_1 : decode cX17_resources 1 = .ok (.ireturn, 1) := by decide +kernel
theorem okX17_resources_0 : XOkL xms rX17_resources bX17_resources_0 := xcP (xok_iconst dX17_resources_0 rfl) rfl (xcR ⟨dX17_resources_1, rfl⟩)
theorem okM_X17_resources : XOkM xms rX17_resources := xokM0 (List.forall_mem_cons.mpr ⟨⟨rfl, okX17_resources_0⟩, fun _ h => nomatch h⟩) (xokH0 rfl (fun _ _ => rfl)) (by decide +kernel) (by decide)
abbrev cX17_hasFinish : ByteArray := prog_30_method_4_code
theorem dX17_hasFinish_0 : decode cX17_hasFinish 0 = .ok (.iconst 0, 1) := by decide +kernel
theorem dX17_hasFinish_1 : decode cX17_hasFinish 1 = .ok (.ireturn, 1) := by decide +kernel
theorem okX17_hasFinish_0 : XOkL xms rX17_hasFinish bX17_hasFinish_0 := xcP (xok_iconst dX17_hasFinish_0 rfl) rfl (xcR ⟨dX17_hasFinish_1, rfl⟩)
theorem okM_X17_hasFinish : XOkM xms rX17_hasFinish := xokM0 (List.forall_mem_cons.mpr ⟨⟨rfl, okX17_hasFinish_0⟩, fun _ h => nomatch h⟩) (xokH0 rfl (fun _ _ => rfl)) (by decide +kernel) (by decide)
abbrev cX18_init : ByteArray := prog_3_method_1_code
def dkwX18_init_1 : List UInt8 := [181, 0, 22, 177]
abbrev dktX18_init_1 : List UInt8 := dkwX18_init_1 ++ []
def dkwX18_init_0 : List UInt8 := [42, 27, 183, 0, 3, 42, 28, 181, 0, 9, 42, 29, 181, 0, 15, 42, 25, 4, 181, 0, 18, 42, 25, 5]
abbrev dktX18_init_0 : List UInt8 := dkwX18_init_0 ++ dktX18_init_1
theorem dksX18_init_0 : cX18_init.data.toList.drop 0 = dktX18_init_0 := by decide +kernel
theorem dksX18_init_1 : cX18_init.data.toList.drop 24 = dktX18_init_1 := dk_seg dksX18_init_0 24 rfl rfl
theorem dX18_init_0 : decode cX18_init 0 = .ok (.aload_n 0, 1) := dk_42 (dk_at dksX18_init_0 0 rfl rfl)
theorem dX18_init_1 : decode cX18_init 1 = .ok (.iload_n 1, 1) := dk_27 (dk_at dksX18_init_0 1 rfl rfl)
theorem dX18_init_2 : decode cX18_init 2 = .ok (.invokespecial 3, 3) := dk_183 0 3 (dk_at dksX18_init_0 2 rfl rfl)
theorem dX18_init_5 : decode cX18_init 5 = .ok (.aload_n 0, 1) := dk_42 (dk_at dksX18_init_0 5 rfl rfl)
theorem dX18_init_6 : decode cX18_init 6 = .ok (.iload_n 2, 1) := dk_28 (dk_at dksX18_init_0 6 rfl rfl)
theorem dX18_init_7 : decode cX18_init 7 = .ok (.putfield 9, 3) := dk_181 0 9 (dk_at dksX18_init_0 7 rfl rfl)
theorem dX18_init_10 : decode cX18_init 10 = .ok (.aload_n 0, 1) := dk_42 (dk_at dksX18_init_0 10 rfl rfl)
theorem dX18_init_11 : decode cX18_init 11 = .ok (.iload_n 3, 1) := dk_29 (dk_at dksX18_init_0 11 rfl rfl)
theorem dX18_init_12 : decode cX18_init 12 = .ok (.putfield 15, 3) := dk_181 0 15 (dk_at dksX18_init_0 12 rfl rfl)
theorem dX18_init_15 : decode cX18_init 15 = .ok (.aload_n 0, 1) := dk_42 (dk_at dksX18_init_0 15 rfl rfl)
theorem dX18_init_16 : decode cX18_init 16 = .ok (.aload 4, 2) := dk_25 4 (dk_at dksX18_init_0 16 rfl rfl)
theorem dX18_init_18 : decode cX18_init 18 = .ok (.putfield 18, 3) := dk_181 0 18 (dk_at dksX18_init_0 18 rfl rfl)
theorem dX18_init_21 : decode cX18_init 21 = .ok (.aload_n 0, 1) := dk_42 (dk_at dksX18_init_0 21 rfl rfl)
theorem dX18_init_22 : decode cX18_init 22 = .ok (.aload 5, 2) := dk_25 5 (dk_at dksX18_init_0 22 rfl rfl)
theorem dX18_init_24 : decode cX18_init 24 = .ok (.putfield 22, 3) := dk_181 0 22 (dk_at dksX18_init_1 0 rfl rfl)
theorem dX18_init_27 : decode cX18_init 27 = .ok (.return_, 1) := dk_177 (dk_at dksX18_init_1 3 rfl rfl)
theorem okX18_init_0 : XOkL xms rX18_init bX18_init_0 := xcP (xok_aload_n dX18_init_0 rfl) rfl (xcP (xok_iload_n dX18_init_1 rfl) rfl (xcC0 (xokc_I xm213 rfl rfl dX18_init_2 q960 q961 q162 q962 rfl (by decide +kernel)) rfl (xcP (xok_aload_n dX18_init_5 rfl) rfl (xcP (xok_iload_n dX18_init_6 rfl) rfl (xcP (xok_putfield (ref := "WaysAtlas$Call") (Or.inl ⟨rfl, by decide, rfl⟩) dX18_init_7 (Or.inl ⟨q964, (Or.inl rfl)⟩) (Or.inr ⟨rfl, rfl, ⟨q964, (Or.inl rfl)⟩⟩) xh83) rfl (xcP (xok_aload_n dX18_init_10 rfl) rfl (xcP (xok_iload_n dX18_init_11 rfl) rfl (xcP (xok_putfield (ref := "WaysAtlas$Call") (Or.inl ⟨rfl, by decide, rfl⟩) dX18_init_12 (Or.inl ⟨q966, (Or.inl rfl)⟩) (Or.inr ⟨rfl, rfl, ⟨q966, (Or.inl rfl)⟩⟩) xh84) rfl (xcP (xok_aload_n dX18_init_15 rfl) rfl (xcP (xok_aload dX18_init_16) rfl (xcP (xok_putfield (ref := "WaysAtlas$Call") (Or.inr (Or.inr ⟨rfl, by decide, rfl⟩)) dX18_init_18 (Or.inl ⟨q967, (Or.inl rfl)⟩) (Or.inr ⟨rfl, rfl, ⟨q967, (Or.inl rfl)⟩⟩) xh1121) rfl (xcP (xok_aload_n dX18_init_21 rfl) rfl (xcP (xok_aload dX18_init_22) rfl (xcP (xok_putfield (ref := "WaysAtlas$Call") (Or.inr (Or.inr ⟨rfl, by decide, rfl⟩)) dX18_init_24 (Or.inl ⟨q968, (Or.inl rfl)⟩) (Or.inr ⟨rfl, rfl, ⟨q968, (Or.inl rfl)⟩⟩) xh1122) rfl (xcR ⟨dX18_init_27, rfl⟩)))))))))))))))
theorem okM_X18_init : XOkM xms rX18_init := xokM0 (List.forall_mem_cons.mpr ⟨⟨rfl, okX18_init_0⟩, fun _ h => nomatch h⟩) (xokH0 rfl (fun _ _ => rfl)) (by decide +kernel) (by decide)
abbrev cX18_tells : ByteArray := prog_3_method_4_code
def dkwX18_tells_0 : List UInt8 := [43, 5, 42, 180, 0, 59, 3, 182, 0, 62, 87, 177]
abbrev dktX18_tells_0 : List UInt8 := dkwX18_tells_0 ++ []
theorem dksX18_tells_0 : cX18_tells.data.toList.drop 0 = dktX18_tells_0 := by decide +kernel
theorem dX18_tells_0 : decode cX18_tells 0 = .ok (.aload_n 1, 1) := dk_43 (dk_at dksX18_tells_0 0 rfl rfl)
theorem dX18_tells_1 : decode cX18_tells 1 = .ok (.iconst 2, 1) := dk_5 (dk_at dksX18_tells_0 1 rfl rfl)
theorem dX18_tells_2 : decode cX18_tells 2 = .ok (.aload_n 0, 1) := dk_42 (dk_at dksX18_tells_0 2 rfl rfl)
theorem dX18_tells_3 : decode cX18_tells 3 = .ok (.getfield 59, 3) := dk_180 0 59 (dk_at dksX18_tells_0 3 rfl rfl)
theorem dX18_tells_6 : decode cX18_tells 6 = .ok (.iconst 0, 1) := dk_3 (dk_at dksX18_tells_0 6 rfl rfl)
theorem dX18_tells_7 : decode cX18_tells 7 = .ok (.invokevirtual 62, 3) := dk_182 0 62 (dk_at dksX18_tells_0 7 rfl rfl)
theorem dX18_tells_10 : decode cX18_tells 10 = .ok (.pop, 1) := dk_87 (dk_at dksX18_tells_0 10 rfl rfl)
theorem dX18_tells_11 : decode cX18_tells 11 = .ok (.return_, 1) := dk_177 (dk_at dksX18_tells_0 11 rfl rfl)
theorem okX18_tells_0 : XOkL xms rX18_tells bX18_tells_0 := xcP (xok_aload_n dX18_tells_0 rfl) rfl (xcP (xok_iconst dX18_tells_1 rfl) rfl (xcP (xok_aload_n dX18_tells_2 rfl) rfl (xcP (xok_getfield (ref := "WaysAtlas$Call") (Or.inl ⟨rfl, by decide⟩) dX18_tells_3 (Or.inl ⟨q975, (Or.inr q976)⟩) xh82) rfl (xcP (xok_iconst dX18_tells_6 rfl) rfl (xcC0 (xokc_list (List.forall_mem_cons.mpr ⟨xokc_V (r := (RX33, TX33, 6)) xm276 (List.mem_of_getElem? (i := 30) rfl) (by decide) rfl dX18_tells_7 q1301 q1280 q1281 q179 q1282 (by decide +kernel), fun _ h => nomatch h⟩)) rfl (xcP (xok_pop dX18_tells_10) rfl (xcR ⟨dX18_tells_11, rfl⟩)))))))
theorem okM_X18_tells : XOkM xms rX18_tells := xokM0 (List.forall_mem_cons.mpr ⟨⟨rfl, okX18_tells_0⟩, fun _ h => nomatch h⟩) (xokH0 rfl (fun _ _ => rfl)) (by decide +kernel) (by decide)
abbrev cX18_walk : ByteArray := prog_3_method_3_code
def dkwX18_walk_1 : List UInt8 := [159, 0, 14, 44, 180, 0, 53, 42, 180, 0, 9, 21, 4, 79, 3, 172]
abbrev dktX18_walk_1 : List UInt8 := dkwX18_walk_1 ++ []
def dkwX18_walk_0 : List UInt8 := [42, 43, 44, 182, 0, 47, 78, 43, 180, 0, 31, 43, 45, 182, 0, 50, 54, 4, 42, 180, 0, 9, 16, 247]
abbrev dktX18_walk_0 : List UInt8 := dkwX18_walk_0 ++ dktX18_walk_1
theorem dksX18_walk_0 : cX18_walk.data.toList.drop 0 = dktX18_walk_0 := by decide +kernel
theorem dksX18_walk_1 : cX18_walk.data.toList.drop 24 = dktX18_walk_1 := dk_seg dksX18_walk_0 24 rfl rfl
theorem dX18_walk_0 : decode cX18_walk 0 = .ok (.aload_n 0, 1) := dk_42 (dk_at dksX18_walk_0 0 rfl rfl)
theorem dX18_walk_1 : decode cX18_walk 1 = .ok (.aload_n 1, 1) := dk_43 (dk_at dksX18_walk_0 1 rfl rfl)
theorem dX18_walk_2 : decode cX18_walk 2 = .ok (.aload_n 2, 1) := dk_44 (dk_at dksX18_walk_0 2 rfl rfl)
theorem dX18_walk_3 : decode cX18_walk 3 = .ok (.invokevirtual 47, 3) := dk_182 0 47 (dk_at dksX18_walk_0 3 rfl rfl)
theorem dX18_walk_6 : decode cX18_walk 6 = .ok (.astore_n 3, 1) := dk_78 (dk_at dksX18_walk_0 6 rfl rfl)
theorem dX18_walk_7 : decode cX18_walk 7 = .ok (.aload_n 1, 1) := dk_43 (dk_at dksX18_walk_0 7 rfl rfl)
theorem dX18_walk_8 : decode cX18_walk 8 = .ok (.getfield 31, 3) := dk_180 0 31 (dk_at dksX18_walk_0 8 rfl rfl)
theorem dX18_walk_11 : decode cX18_walk 11 = .ok (.aload_n 1, 1) := dk_43 (dk_at dksX18_walk_0 11 rfl rfl)
theorem dX18_walk_12 : decode cX18_walk 12 = .ok (.aload_n 3, 1) := dk_45 (dk_at dksX18_walk_0 12 rfl rfl)
theorem dX18_walk_13 : decode cX18_walk 13 = .ok (.invokevirtual 50, 3) := dk_182 0 50 (dk_at dksX18_walk_0 13 rfl rfl)
theorem dX18_walk_16 : decode cX18_walk 16 = .ok (.istore 4, 2) := dk_54 4 (dk_at dksX18_walk_0 16 rfl rfl)
theorem dX18_walk_18 : decode cX18_walk 18 = .ok (.aload_n 0, 1) := dk_42 (dk_at dksX18_walk_0 18 rfl rfl)
theorem dX18_walk_19 : decode cX18_walk 19 = .ok (.getfield 9, 3) := dk_180 0 9 (dk_at dksX18_walk_0 19 rfl rfl)
theorem dX18_walk_22 : decode cX18_walk 22 = .ok (.bipush (-9), 2) := dk_16 247 (dk_at dksX18_walk_0 22 rfl rfl)
theorem dX18_walk_24 : decode cX18_walk 24 = .ok (.if_icmp .eq 14, 3) := dk_159 0 14 (dk_at dksX18_walk_1 0 rfl rfl)
theorem dX18_walk_27 : decode cX18_walk 27 = .ok (.aload_n 2, 1) := dk_44 (dk_at dksX18_walk_1 3 rfl rfl)
theorem dX18_walk_28 : decode cX18_walk 28 = .ok (.getfield 53, 3) := dk_180 0 53 (dk_at dksX18_walk_1 4 rfl rfl)
theorem dX18_walk_31 : decode cX18_walk 31 = .ok (.aload_n 0, 1) := dk_42 (dk_at dksX18_walk_1 7 rfl rfl)
theorem dX18_walk_32 : decode cX18_walk 32 = .ok (.getfield 9, 3) := dk_180 0 9 (dk_at dksX18_walk_1 8 rfl rfl)
theorem dX18_walk_35 : decode cX18_walk 35 = .ok (.iload 4, 2) := dk_21 4 (dk_at dksX18_walk_1 11 rfl rfl)
theorem dX18_walk_37 : decode cX18_walk 37 = .ok (.iastore, 1) := dk_79 (dk_at dksX18_walk_1 13 rfl rfl)
theorem dX18_walk_38 : decode cX18_walk 38 = .ok (.iconst 0, 1) := dk_3 (dk_at dksX18_walk_1 14 rfl rfl)
theorem dX18_walk_39 : decode cX18_walk 39 = .ok (.ireturn, 1) := dk_172 (dk_at dksX18_walk_1 15 rfl rfl)
theorem okX18_walk_0 : XOkL xms rX18_walk bX18_walk_0 := xcP (xok_aload_n dX18_walk_0 rfl) rfl (xcP (xok_aload_n dX18_walk_1 rfl) rfl (xcP (xok_aload_n dX18_walk_2 rfl) rfl (xcC0 (xokc_list (List.forall_mem_cons.mpr ⟨xokc_V (r := (RX18, TX18, 5)) xm220 (List.mem_of_getElem? (i := 16) rfl) (by decide) rfl dX18_walk_3 q1618 q1619 q1620 q163 q1621 (by decide +kernel), fun _ h => nomatch h⟩)) rfl (xcP (xok_astore_n dX18_walk_6 rfl) rfl (xcP (xok_aload_n dX18_walk_7 rfl) rfl (xcP (xok_getfield (ref := "WaysAtlas$Run") (Or.inr ⟨rfl, by decide⟩) dX18_walk_8 (Or.inr ⟨⟨"WaysAtlas", (List.mem_of_getElem? (i := 2) rfl)⟩, (Or.inl rfl)⟩) xh1029) rfl (xcP (xok_aload_n dX18_walk_11 rfl) rfl (xcP (xok_aload_n dX18_walk_12 rfl) rfl (xcC0 (xokc_list (List.forall_mem_cons.mpr ⟨xokc_VX (r := (RX3, TX3, 10)) xm69 (List.mem_of_getElem? (i := 3) rfl) (by decide) (by decide) dX18_walk_13 q1647 q1587 q1588 q141 q1589 (by decide +kernel), fun _ h => nomatch h⟩)) rfl (xcP (xok_istore dX18_walk_16) rfl (xcP (xok_aload_n dX18_walk_18 rfl) rfl (xcP (xok_getfield (ref := "WaysAtlas$Call") (Or.inl ⟨rfl, by decide⟩) dX18_walk_19 (Or.inl ⟨q964, (Or.inl rfl)⟩) xh83) rfl (xcP (xok_bipush dX18_walk_22 rfl) rfl (xcP (xok_icmpeq dX18_walk_24 (by decide)) rfl (xcP (xok_aload_n dX18_walk_27 rfl) rfl (xcP (xok_getfield (ref := "WaysAtlas$Frame") (Or.inr ⟨rfl, by decide⟩) dX18_walk_28 (Or.inr ⟨⟨"WaysAtlas", (List.mem_of_getElem? (i := 4) rfl)⟩, (Or.inl rfl)⟩) xh1053) rfl (xcP (xok_aload_n dX18_walk_31 rfl) rfl (xcP (xok_getfield (ref := "WaysAtlas$Call") (Or.inl ⟨rfl, by decide⟩) dX18_walk_32 (Or.inl ⟨q964, (Or.inl rfl)⟩) xh83) rfl (xcP (xok_iload dX18_walk_35) rfl (xcP (xok_iastore dX18_walk_37) rfl (xcP xok_fal rfl trivial)))))))))))))))))))))
theorem okX18_walk_38 : XOkL xms rX18_walk bX18_walk_38 := xcP (xok_iconst dX18_walk_38 rfl) rfl (xcR ⟨dX18_walk_39, rfl⟩)
theorem okM_X18_walk : XOkM xms rX18_walk := xokM0 (List.forall_mem_cons.mpr ⟨⟨rfl, okX18_walk_0⟩, List.forall_mem_cons.mpr ⟨⟨rfl, okX18_walk_38⟩, fun _ h => nomatch h⟩⟩) (xokH0 rfl (fun _ _ => rfl)) (by decide +kernel) (by decide)
abbrev cX18_enters : ByteArray := prog_3_method_2_code
def dkwX18_enters_1 : List UInt8 := [180, 0, 31, 180, 0, 37, 42, 180, 0, 15, 50, 29, 21, 4, 182, 0, 43, 176]
abbrev dktX18_enters_1 : List UInt8 := dkwX18_enters_1 ++ []
def dkwX18_enters_0 : List UInt8 := [42, 180, 0, 18, 43, 44, 182, 0, 25, 62, 42, 180, 0, 22, 43, 44, 182, 0, 25, 54, 4, 43, 43]
abbrev dktX18_enters_0 : List UInt8 := dkwX18_enters_0 ++ dktX18_enters_1
theorem dksX18_enters_0 : cX18_enters.data.toList.drop 0 = dktX18_enters_0 := by decide +kernel
theorem dksX18_enters_1 : cX18_enters.data.toList.drop 23 = dktX18_enters_1 := dk_seg dksX18_enters_0 23 rfl rfl
theorem dX18_enters_0 : decode cX18_enters 0 = .ok (.aload_n 0, 1) := dk_42 (dk_at dksX18_enters_0 0 rfl rfl)
theorem dX18_enters_1 : decode cX18_enters 1 = .ok (.getfield 18, 3) := dk_180 0 18 (dk_at dksX18_enters_0 1 rfl rfl)
theorem dX18_enters_4 : decode cX18_enters 4 = .ok (.aload_n 1, 1) := dk_43 (dk_at dksX18_enters_0 4 rfl rfl)
theorem dX18_enters_5 : decode cX18_enters 5 = .ok (.aload_n 2, 1) := dk_44 (dk_at dksX18_enters_0 5 rfl rfl)
theorem dX18_enters_6 : decode cX18_enters 6 = .ok (.invokevirtual 25, 3) := dk_182 0 25 (dk_at dksX18_enters_0 6 rfl rfl)
theorem dX18_enters_9 : decode cX18_enters 9 = .ok (.istore_n 3, 1) := dk_62 (dk_at dksX18_enters_0 9 rfl rfl)
theorem dX18_enters_10 : decode cX18_enters 10 = .ok (.aload_n 0, 1) := dk_42 (dk_at dksX18_enters_0 10 rfl rfl)
theorem dX18_enters_11 : decode cX18_enters 11 = .ok (.getfield 22, 3) := dk_180 0 22 (dk_at dksX18_enters_0 11 rfl rfl)
theorem dX18_enters_14 : decode cX18_enters 14 = .ok (.aload_n 1, 1) := dk_43 (dk_at dksX18_enters_0 14 rfl rfl)
theorem dX18_enters_15 : decode cX18_enters 15 = .ok (.aload_n 2, 1) := dk_44 (dk_at dksX18_enters_0 15 rfl rfl)
theorem dX18_enters_16 : decode cX18_enters 16 = .ok (.invokevirtual 25, 3) := dk_182 0 25 (dk_at dksX18_enters_0 16 rfl rfl)
theorem dX18_enters_19 : decode cX18_enters 19 = .ok (.istore 4, 2) := dk_54 4 (dk_at dksX18_enters_0 19 rfl rfl)
theorem dX18_enters_21 : decode cX18_enters 21 = .ok (.aload_n 1, 1) := dk_43 (dk_at dksX18_enters_0 21 rfl rfl)
theorem dX18_enters_22 : decode cX18_enters 22 = .ok (.aload_n 1, 1) := dk_43 (dk_at dksX18_enters_0 22 rfl rfl)
theorem dX18_enters_23 : decode cX18_enters 23 = .ok (.getfield 31, 3) := dk_180 0 31 (dk_at dksX18_enters_1 0 rfl rfl)
theorem dX18_enters_26 : decode cX18_enters 26 = .ok (.getfield 37, 3) := dk_180 0 37 (dk_at dksX18_enters_1 3 rfl rfl)
theorem dX18_enters_29 : decode cX18_enters 29 = .ok (.aload_n 0, 1) := dk_42 (dk_at dksX18_enters_1 6 rfl rfl)
theorem dX18_enters_30 : decode cX18_enters 30 = .ok (.getfield 15, 3) := dk_180 0 15 (dk_at dksX18_enters_1 7 rfl rfl)
theorem dX18_enters_33 : decode cX18_enters 33 = .ok (.aaload, 1) := dk_50 (dk_at dksX18_enters_1 10 rfl rfl)
theorem dX18_enters_34 : decode cX18_enters 34 = .ok (.iload_n 3, 1) := dk_29 (dk_at dksX18_enters_1 11 rfl rfl)
theorem dX18_enters_35 : decode cX18_enters 35 = .ok (.iload 4, 2) := dk_21 4 (dk_at dksX18_enters_1 12 rfl rfl)
theorem dX18_enters_37 : decode cX18_enters 37 = .ok (.invokevirtual 43, 3) := dk_182 0 43 (dk_at dksX18_enters_1 14 rfl rfl)
theorem dX18_enters_40 : decode cX18_enters 40 = .ok (.areturn, 1) := dk_176 (dk_at dksX18_enters_1 17 rfl rfl)
theorem okX18_enters_0 : XOkL xms rX18_enters bX18_enters_0 := xcP (xok_aload_n dX18_enters_0 rfl) rfl (xcP (xok_getfield (ref := "WaysAtlas$Call") (Or.inr ⟨rfl, by decide⟩) dX18_enters_1 (Or.inl ⟨q967, (Or.inl rfl)⟩) xh1121) rfl (xcP (xok_aload_n dX18_enters_4 rfl) rfl (xcP (xok_aload_n dX18_enters_5 rfl) rfl (xcC0 (xokc_list (List.forall_mem_cons.mpr ⟨xokc_A (owner := "WaysAtlas$Node") (r := (RX13, TX13, 3)) xm205 (List.mem_of_getElem? (i := 12) rfl) (by decide) rfl dX18_enters_6 q1622 q1624 (List.mem_of_getElem? (i := 0) rfl) q1644 q1633 q158 q1634 (by decide +kernel), List.forall_mem_cons.mpr ⟨xokc_A (owner := "WaysAtlas$Node") (r := (RX14, TX14, 1)) xm207 (List.mem_of_getElem? (i := 13) rfl) (by decide) rfl dX18_enters_6 q1622 q1624 (List.mem_of_getElem? (i := 0) rfl) q1625 q1626 q159 q1627 (by decide +kernel), List.forall_mem_cons.mpr ⟨xokc_A (owner := "WaysAtlas$Node") (r := (RX15, TX15, 1)) xm209 (List.mem_of_getElem? (i := 14) rfl) (by decide) rfl dX18_enters_6 q1622 q1624 (List.mem_of_getElem? (i := 0) rfl) q1645 q1636 q160 q1637 (by decide +kernel), List.forall_mem_cons.mpr ⟨xokc_A (owner := "WaysAtlas$Node") (r := (RX16, TX16, 2)) xm211 (List.mem_of_getElem? (i := 15) rfl) (by decide) rfl dX18_enters_6 q1622 q1624 (List.mem_of_getElem? (i := 0) rfl) q1628 q1629 q161 q1630 (by decide +kernel), fun _ h => nomatch h⟩⟩⟩⟩)) rfl (xcP (xok_istore_n dX18_enters_9 rfl) rfl (xcP (xok_aload_n dX18_enters_10 rfl) rfl (xcP (xok_getfield (ref := "WaysAtlas$Call") (Or.inr ⟨rfl, by decide⟩) dX18_enters_11 (Or.inl ⟨q968, (Or.inl rfl)⟩) xh1122) rfl (xcP (xok_aload_n dX18_enters_14 rfl) rfl (xcP (xok_aload_n dX18_enters_15 rfl) rfl (xcC0 (xokc_list (List.forall_mem_cons.mpr ⟨xokc_A (owner := "WaysAtlas$Node") (r := (RX13, TX13, 3)) xm205 (List.mem_of_getElem? (i := 12) rfl) (by decide) rfl dX18_enters_16 q1622 q1624 (List.mem_of_getElem? (i := 0) rfl) q1644 q1633 q158 q1634 (by decide +kernel), List.forall_mem_cons.mpr ⟨xokc_A (owner := "WaysAtlas$Node") (r := (RX14, TX14, 1)) xm207 (List.mem_of_getElem? (i := 13) rfl) (by decide) rfl dX18_enters_16 q1622 q1624 (List.mem_of_getElem? (i := 0) rfl) q1625 q1626 q159 q1627 (by decide +kernel), List.forall_mem_cons.mpr ⟨xokc_A (owner := "WaysAtlas$Node") (r := (RX15, TX15, 1)) xm209 (List.mem_of_getElem? (i := 14) rfl) (by decide) rfl dX18_enters_16 q1622 q1624 (List.mem_of_getElem? (i := 0) rfl) q1645 q1636 q160 q1637 (by decide +kernel), List.forall_mem_cons.mpr ⟨xokc_A (owner := "WaysAtlas$Node") (r := (RX16, TX16, 2)) xm211 (List.mem_of_getElem? (i := 15) rfl) (by decide) rfl dX18_enters_16 q1622 q1624 (List.mem_of_getElem? (i := 0) rfl) q1628 q1629 q161 q1630 (by decide +kernel), fun _ h => nomatch h⟩⟩⟩⟩)) rfl (xcP (xok_istore dX18_enters_19) rfl (xcP (xok_aload_n dX18_enters_21 rfl) rfl (xcP (xok_aload_n dX18_enters_22 rfl) rfl (xcP (xok_getfield (ref := "WaysAtlas$Run") (Or.inr ⟨rfl, by decide⟩) dX18_enters_23 (Or.inr ⟨⟨"WaysAtlas", (List.mem_of_getElem? (i := 2) rfl)⟩, (Or.inl rfl)⟩) xh1029) rfl (xcP (xok_getfield (ref := "WaysAtlas$Program") (Or.inr ⟨rfl, by decide⟩) dX18_enters_26 (Or.inr ⟨⟨"WaysAtlas", (List.mem_of_getElem? (i := 3) rfl)⟩, (Or.inl rfl)⟩) xh1020) rfl (xcP (xok_aload_n dX18_enters_29 rfl) rfl (xcP (xok_getfield (ref := "WaysAtlas$Call") (Or.inl ⟨rfl, by decide⟩) dX18_enters_30 (Or.inl ⟨q966, (Or.inl rfl)⟩) xh84) rfl (xcP (xok_aaload (by decide) rfl dX18_enters_33) rfl (xcP (xok_iload_n dX18_enters_34 rfl) rfl (xcP (xok_iload dX18_enters_35) rfl (xcC0 (xokc_list (List.forall_mem_cons.mpr ⟨xokc_V (r := (RX5, TX5, 34)) xm81 (List.mem_of_getElem? (i := 5) rfl) (by decide) rfl dX18_enters_37 q1646 q1560 q1561 q143 q1562 (by decide +kernel), fun _ h => nomatch h⟩)) rfl (xcR ⟨dX18_enters_40, _, rfl, Or.inl ⟨_, rfl⟩⟩))))))))))))))))))))))
theorem okM_X18_enters : XOkM xms rX18_enters := xokM0 (List.forall_mem_cons.mpr ⟨⟨rfl, okX18_enters_0⟩, fun _ h => nomatch h⟩) (xokH0 rfl (fun _ _ => rfl)) (by decide +kernel) (by decide)
abbrev cX19_init : ByteArray := prog_17_method_1_code
def dkwX19_init_0 : List UInt8 := [42, 27, 183, 0, 3, 177]
abbrev dktX19_init_0 : List UInt8 := dkwX19_init_0 ++ []
theorem dksX19_init_0 : cX19_init.data.toList.drop 0 = dktX19_init_0 := by decide +kernel
theorem dX19_init_0 : decode cX19_init 0 = .ok (.aload_n 0, 1) := dk_42 (dk_at dksX19_init_0 0 rfl rfl)
theorem dX19_init_1 : decode cX19_init 1 = .ok (.iload_n 1, 1) := dk_27 (dk_at dksX19_init_0 1 rfl rfl)
theorem dX19_init_2 : decode cX19_init 2 = .ok (.invokespecial 3, 3) := dk_183 0 3 (dk_at dksX19_init_0 2 rfl rfl)
theorem dX19_init_5 : decode cX19_init 5 = .ok (.return_, 1) := dk_177 (dk_at dksX19_init_0 5 rfl rfl)
theorem okX19_init_0 : XOkL xms rX19_init bX19_init_0 := xcP (xok_aload_n dX19_init_0 rfl) rfl (xcP (xok_iload_n dX19_init_1 rfl) rfl (xcC0 (xokc_I xm213 rfl rfl dX19_init_2 q1009 q961 q162 q962 rfl (by decide +kernel)) rfl (xcR ⟨dX19_init_5, rfl⟩)))
theorem okM_X19_init : XOkM xms rX19_init := xokM0 (List.forall_mem_cons.mpr ⟨⟨rfl, okX19_init_0⟩, fun _ h => nomatch h⟩) (xokH0 rfl (fun _ _ => rfl)) (by decide +kernel) (by decide)
abbrev cX19_tells : ByteArray := prog_17_method_4_code
def dkwX19_tells_0 : List UInt8 := [43, 4, 42, 180, 0, 15, 3, 182, 0, 19, 87, 177]
abbrev dktX19_tells_0 : List UInt8 := dkwX19_tells_0 ++ []
theorem dksX19_tells_0 : cX19_tells.data.toList.drop 0 = dktX19_tells_0 := by decide +kernel
theorem dX19_tells_0 : decode cX19_tells 0 = .ok (.aload_n 1, 1) := dk_43 (dk_at dksX19_tells_0 0 rfl rfl)
theorem dX19_tells_1 : decode cX19_tells 1 = .ok (.iconst 1, 1) := dk_4 (dk_at dksX19_tells_0 1 rfl rfl)
theorem dX19_tells_2 : decode cX19_tells 2 = .ok (.aload_n 0, 1) := dk_42 (dk_at dksX19_tells_0 2 rfl rfl)
theorem dX19_tells_3 : decode cX19_tells 3 = .ok (.getfield 15, 3) := dk_180 0 15 (dk_at dksX19_tells_0 3 rfl rfl)
theorem dX19_tells_6 : decode cX19_tells 6 = .ok (.iconst 0, 1) := dk_3 (dk_at dksX19_tells_0 6 rfl rfl)
theorem dX19_tells_7 : decode cX19_tells 7 = .ok (.invokevirtual 19, 3) := dk_182 0 19 (dk_at dksX19_tells_0 7 rfl rfl)
theorem dX19_tells_10 : decode cX19_tells 10 = .ok (.pop, 1) := dk_87 (dk_at dksX19_tells_0 10 rfl rfl)
theorem dX19_tells_11 : decode cX19_tells 11 = .ok (.return_, 1) := dk_177 (dk_at dksX19_tells_0 11 rfl rfl)
theorem okX19_tells_0 : XOkL xms rX19_tells bX19_tells_0 := xcP (xok_aload_n dX19_tells_0 rfl) rfl (xcP (xok_iconst dX19_tells_1 rfl) rfl (xcP (xok_aload_n dX19_tells_2 rfl) rfl (xcP (xok_getfield (ref := "WaysAtlas$Plain") (Or.inl ⟨rfl, by decide⟩) dX19_tells_3 (Or.inl ⟨q981, (Or.inr q982)⟩) xh82) rfl (xcP (xok_iconst dX19_tells_6 rfl) rfl (xcC0 (xokc_list (List.forall_mem_cons.mpr ⟨xokc_V (r := (RX33, TX33, 6)) xm276 (List.mem_of_getElem? (i := 30) rfl) (by decide) rfl dX19_tells_7 q1457 q1280 q1281 q179 q1282 (by decide +kernel), fun _ h => nomatch h⟩)) rfl (xcP (xok_pop dX19_tells_10) rfl (xcR ⟨dX19_tells_11, rfl⟩)))))))
theorem okM_X19_tells : XOkM xms rX19_tells := xokM0 (List.forall_mem_cons.mpr ⟨⟨rfl, okX19_tells_0⟩, fun _ h => nomatch h⟩) (xokH0 rfl (fun _ _ => rfl)) (by decide +kernel) (by decide)
abbrev cX19_walk : ByteArray := prog_17_method_3_code
def dkwX19_walk_0 : List UInt8 := [42, 43, 44, 182, 0, 9, 3, 172]
abbrev dktX19_walk_0 : List UInt8 := dkwX19_walk_0 ++ []
theorem dksX19_walk_0 : cX19_walk.data.toList.drop 0 = dktX19_walk_0 := by decide +kernel
theorem dX19_walk_0 : decode cX19_walk 0 = .ok (.aload_n 0, 1) := dk_42 (dk_at dksX19_walk_0 0 rfl rfl)
theorem dX19_walk_1 : decode cX19_walk 1 = .ok (.aload_n 1, 1) := dk_43 (dk_at dksX19_walk_0 1 rfl rfl)
theorem dX19_walk_2 : decode cX19_walk 2 = .ok (.aload_n 2, 1) := dk_44 (dk_at dksX19_walk_0 2 rfl rfl)
theorem dX19_walk_3 : decode cX19_walk 3 = .ok (.invokevirtual 9, 3) := dk_182 0 9 (dk_at dksX19_walk_0 3 rfl rfl)
theorem dX19_walk_6 : decode cX19_walk 6 = .ok (.iconst 0, 1) := dk_3 (dk_at dksX19_walk_0 6 rfl rfl)
theorem dX19_walk_7 : decode cX19_walk 7 = .ok (.ireturn, 1) := dk_172 (dk_at dksX19_walk_0 7 rfl rfl)
theorem okX19_walk_0 : XOkL xms rX19_walk bX19_walk_0 := xcP (xok_aload_n dX19_walk_0 rfl) rfl (xcP (xok_aload_n dX19_walk_1 rfl) rfl (xcP (xok_aload_n dX19_walk_2 rfl) rfl (xcC0 (xokc_list (List.forall_mem_cons.mpr ⟨xokc_A (owner := "WaysAtlas$Plain") (r := (RX20, TX20, 3)) xm225 (List.mem_of_getElem? (i := 17) rfl) (by decide) rfl dX19_walk_3 q1727 q1729 (List.mem_of_getElem? (i := 1) rfl) q1751 q1752 q165 q1753 (by decide +kernel), List.forall_mem_cons.mpr ⟨xokc_A (owner := "WaysAtlas$Plain") (r := (RX21, TX21, 3)) xm227 (List.mem_of_getElem? (i := 18) rfl) (by decide) rfl dX19_walk_3 q1727 q1729 (List.mem_of_getElem? (i := 1) rfl) q1743 q1744 q166 q1745 (by decide +kernel), List.forall_mem_cons.mpr ⟨xokc_A (owner := "WaysAtlas$Plain") (r := (RX22, TX22, 3)) xm229 (List.mem_of_getElem? (i := 19) rfl) (by decide) rfl dX19_walk_3 q1727 q1729 (List.mem_of_getElem? (i := 1) rfl) q1737 q1738 q167 q1739 (by decide +kernel), List.forall_mem_cons.mpr ⟨xokc_A (owner := "WaysAtlas$Plain") (r := (RX23, TX23, 3)) xm231 (List.mem_of_getElem? (i := 20) rfl) (by decide) rfl dX19_walk_3 q1727 q1729 (List.mem_of_getElem? (i := 1) rfl) q1748 q1749 q168 q1750 (by decide +kernel), List.forall_mem_cons.mpr ⟨xokc_A (owner := "WaysAtlas$Plain") (r := (RX24, TX24, 2)) xm234 (List.mem_of_getElem? (i := 21) rfl) (by decide) rfl dX19_walk_3 q1727 q1729 (List.mem_of_getElem? (i := 1) rfl) q1730 q1731 q169 q1732 (by decide +kernel), List.forall_mem_cons.mpr ⟨xokc_A (owner := "WaysAtlas$Plain") (r := (RX29, TX29, 2)) xm252 (List.mem_of_getElem? (i := 26) rfl) (by decide) rfl dX19_walk_3 q1727 q1729 (List.mem_of_getElem? (i := 1) rfl) q1755 q1756 q174 q1757 (by decide +kernel), fun _ h => nomatch h⟩⟩⟩⟩⟩⟩)) rfl (xcP (xok_iconst dX19_walk_6 rfl) rfl (xcR ⟨dX19_walk_7, rfl⟩)))))
theorem okM_X19_walk : XOkM xms rX19_walk := xokM0 (List.forall_mem_cons.mpr ⟨⟨rfl, okX19_walk_0⟩, fun _ h => nomatch h⟩) (xokH0 rfl (fun _ _ => rfl)) (by decide +kernel) (by decide)
abbrev cX20_init : ByteArray := prog_27_method_1_code
def dkwX20_init_0 : List UInt8 := [42, 27, 183, 0, 1, 42, 28, 181, 0, 7, 42, 45, 181, 0, 13, 177]
abbrev dktX20_init_0 : List UInt8 := dkwX20_init_0 ++ []
theorem dksX20_init_0 : cX20_init.data.toList.drop 0 = dktX20_init_0 := by decide +kernel
theorem dX20_init_0 : decode cX20_init 0 = .ok (.aload_n 0, 1) := dk_42 (dk_at dksX20_init_0 0 rfl rfl)
theorem dX20_init_1 : decode cX20_init 1 = .ok (.iload_n 1, 1) := dk_27 (dk_at dksX20_init_0 1 rfl rfl)
theorem dX20_init_2 : decode cX20_init 2 = .ok (.invokespecial 1, 3) := dk_183 0 1 (dk_at dksX20_init_0 2 rfl rfl)
theorem dX20_init_5 : decode cX20_init 5 = .ok (.aload_n 0, 1) := dk_42 (dk_at dksX20_init_0 5 rfl rfl)
theorem dX20_init_6 : decode cX20_init 6 = .ok (.iload_n 2, 1) := dk_28 (dk_at dksX20_init_0 6 rfl rfl)
theorem dX20_init_7 : decode cX20_init 7 = .ok (.putfield 7, 3) := dk_181 0 7 (dk_at dksX20_init_0 7 rfl rfl)
theorem dX20_init_10 : decode cX20_init 10 = .ok (.aload_n 0, 1) := dk_42 (dk_at dksX20_init_0 10 rfl rfl)
theorem dX20_init_11 : decode cX20_init 11 = .ok (.aload_n 3, 1) := dk_45 (dk_at dksX20_init_0 11 rfl rfl)
theorem dX20_init_12 : decode cX20_init 12 = .ok (.putfield 13, 3) := dk_181 0 13 (dk_at dksX20_init_0 12 rfl rfl)
theorem dX20_init_15 : decode cX20_init 15 = .ok (.return_, 1) := dk_177 (dk_at dksX20_init_0 15 rfl rfl)
theorem okX20_init_0 : XOkL xms rX20_init bX20_init_0 := xcP (xok_aload_n dX20_init_0 rfl) rfl (xcP (xok_iload_n dX20_init_1 rfl) rfl (xcC0 (xokc_I xm221 rfl rfl dX20_init_2 q1006 q1007 q164 q1008 rfl (by decide +kernel)) rfl (xcP (xok_aload_n dX20_init_5 rfl) rfl (xcP (xok_iload_n dX20_init_6 rfl) rfl (xcP (xok_putfield (ref := "WaysAtlas$SetVar") (Or.inl ⟨rfl, by decide, rfl⟩) dX20_init_7 (Or.inl ⟨q1010, (Or.inl rfl)⟩) (Or.inr ⟨rfl, rfl, ⟨q1010, (Or.inl rfl)⟩⟩) xh85) rfl (xcP (xok_aload_n dX20_init_10 rfl) rfl (xcP (xok_aload_n dX20_init_11 rfl) rfl (xcP (xok_putfield (ref := "WaysAtlas$SetVar") (Or.inr (Or.inr ⟨rfl, by decide, rfl⟩)) dX20_init_12 (Or.inl ⟨q1011, (Or.inl rfl)⟩) (Or.inr ⟨rfl, rfl, ⟨q1011, (Or.inl rfl)⟩⟩) xh1123) rfl (xcR ⟨dX20_init_15, rfl⟩)))))))))
theorem okM_X20_init : XOkM xms rX20_init := xokM0 (List.forall_mem_cons.mpr ⟨⟨rfl, okX20_init_0⟩, fun _ h => nomatch h⟩) (xokH0 rfl (fun _ _ => rfl)) (by decide +kernel) (by decide)
abbrev cX20_does : ByteArray := prog_27_method_2_code
def dkwX20_does_0 : List UInt8 := [44, 180, 0, 17, 42, 180, 0, 7, 42, 180, 0, 13, 43, 44, 182, 0, 23, 79, 177]
abbrev dktX20_does_0 : List UInt8 := dkwX20_does_0 ++ []
theorem dksX20_does_0 : cX20_does.data.toList.drop 0 = dktX20_does_0 := by decide +kernel
theorem dX20_does_0 : decode cX20_does 0 = .ok (.aload_n 2, 1) := dk_44 (dk_at dksX20_does_0 0 rfl rfl)
theorem dX20_does_1 : decode cX20_does 1 = .ok (.getfield 17, 3) := dk_180 0 17 (dk_at dksX20_does_0 1 rfl rfl)
theorem dX20_does_4 : decode cX20_does 4 = .ok (.aload_n 0, 1) := dk_42 (dk_at dksX20_does_0 4 rfl rfl)
theorem dX20_does_5 : decode cX20_does 5 = .ok (.getfield 7, 3) := dk_180 0 7 (dk_at dksX20_does_0 5 rfl rfl)
theorem dX20_does_8 : decode cX20_does 8 = .ok (.aload_n 0, 1) := dk_42 (dk_at dksX20_does_0 8 rfl rfl)
theorem dX20_does_9 : decode cX20_does 9 = .ok (.getfield 13, 3) := dk_180 0 13 (dk_at dksX20_does_0 9 rfl rfl)
theorem dX20_does_12 : decode cX20_does 12 = .ok (.aload_n 1, 1) := dk_43 (dk_at dksX20_does_0 12 rfl rfl)
theorem dX20_does_13 : decode cX20_does 13 = .ok (.aload_n 2, 1) := dk_44 (dk_at dksX20_does_0 13 rfl rfl)
theorem dX20_does_14 : decode cX20_does 14 = .ok (.invokevirtual 23, 3) := dk_182 0 23 (dk_at dksX20_does_0 14 rfl rfl)
theorem dX20_does_17 : decode cX20_does 17 = .ok (.iastore, 1) := dk_79 (dk_at dksX20_does_0 17 rfl rfl)
theorem dX20_does_18 : decode cX20_does 18 = .ok (.return_, 1) := dk_177 (dk_at dksX20_does_0 18 rfl rfl)
theorem okX20_does_0 : XOkL xms rX20_does bX20_does_0 := xcP (xok_aload_n dX20_does_0 rfl) rfl (xcP (xok_getfield (ref := "WaysAtlas$Frame") (Or.inr ⟨rfl, by decide⟩) dX20_does_1 (Or.inr ⟨⟨"WaysAtlas", (List.mem_of_getElem? (i := 89) rfl)⟩, (Or.inl rfl)⟩) xh1053) rfl (xcP (xok_aload_n dX20_does_4 rfl) rfl (xcP (xok_getfield (ref := "WaysAtlas$SetVar") (Or.inl ⟨rfl, by decide⟩) dX20_does_5 (Or.inl ⟨q1010, (Or.inl rfl)⟩) xh85) rfl (xcP (xok_aload_n dX20_does_8 rfl) rfl (xcP (xok_getfield (ref := "WaysAtlas$SetVar") (Or.inr ⟨rfl, by decide⟩) dX20_does_9 (Or.inl ⟨q1011, (Or.inl rfl)⟩) xh1123) rfl (xcP (xok_aload_n dX20_does_12 rfl) rfl (xcP (xok_aload_n dX20_does_13 rfl) rfl (xcC0 (xokc_list (List.forall_mem_cons.mpr ⟨xokc_A (owner := "WaysAtlas$Node") (r := (RX13, TX13, 3)) xm205 (List.mem_of_getElem? (i := 12) rfl) (by decide) rfl dX20_does_14 q1754 q1624 (List.mem_of_getElem? (i := 0) rfl) q1644 q1633 q158 q1634 (by decide +kernel), List.forall_mem_cons.mpr ⟨xokc_A (owner := "WaysAtlas$Node") (r := (RX14, TX14, 1)) xm207 (List.mem_of_getElem? (i := 13) rfl) (by decide) rfl dX20_does_14 q1754 q1624 (List.mem_of_getElem? (i := 0) rfl) q1625 q1626 q159 q1627 (by decide +kernel), List.forall_mem_cons.mpr ⟨xokc_A (owner := "WaysAtlas$Node") (r := (RX15, TX15, 1)) xm209 (List.mem_of_getElem? (i := 14) rfl) (by decide) rfl dX20_does_14 q1754 q1624 (List.mem_of_getElem? (i := 0) rfl) q1645 q1636 q160 q1637 (by decide +kernel), List.forall_mem_cons.mpr ⟨xokc_A (owner := "WaysAtlas$Node") (r := (RX16, TX16, 2)) xm211 (List.mem_of_getElem? (i := 15) rfl) (by decide) rfl dX20_does_14 q1754 q1624 (List.mem_of_getElem? (i := 0) rfl) q1628 q1629 q161 q1630 (by decide +kernel), fun _ h => nomatch h⟩⟩⟩⟩)) rfl (xcP (xok_iastore dX20_does_17) rfl (xcR ⟨dX20_does_18, rfl⟩))))))))))
theorem okM_X20_does : XOkM xms rX20_does := xokM0 (List.forall_mem_cons.mpr ⟨⟨rfl, okX20_does_0⟩, fun _ h => nomatch h⟩) (xokH0 rfl (fun _ _ => rfl)) (by decide +kernel) (by decide)
abbrev cX21_init : ByteArray := prog_20_method_1_code
def dkwX21_init_0 : List UInt8 := [42, 27, 183, 0, 1, 42, 44, 181, 0, 7, 42, 45, 181, 0, 13, 177]
abbrev dktX21_init_0 : List UInt8 := dkwX21_init_0 ++ []
theorem dksX21_init_0 : cX21_init.data.toList.drop 0 = dktX21_init_0 := by decide +kernel
theorem dX21_init_0 : decode cX21_init 0 = .ok (.aload_n 0, 1) := dk_42 (dk_at dksX21_init_0 0 rfl rfl)
theorem dX21_init_1 : decode cX21_init 1 = .ok (.iload_n 1, 1) := dk_27 (dk_at dksX21_init_0 1 rfl rfl)
theorem dX21_init_2 : decode cX21_init 2 = .ok (.invokespecial 1, 3) := dk_183 0 1 (dk_at dksX21_init_0 2 rfl rfl)
theorem dX21_init_5 : decode cX21_init 5 = .ok (.aload_n 0, 1) := dk_42 (dk_at dksX21_init_0 5 rfl rfl)
theorem dX21_init_6 : decode cX21_init 6 = .ok (.aload_n 2, 1) := dk_44 (dk_at dksX21_init_0 6 rfl rfl)
theorem dX21_init_7 : decode cX21_init 7 = .ok (.putfield 7, 3) := dk_181 0 7 (dk_at dksX21_init_0 7 rfl rfl)
theorem dX21_init_10 : decode cX21_init 10 = .ok (.aload_n 0, 1) := dk_42 (dk_at dksX21_init_0 10 rfl rfl)
theorem dX21_init_11 : decode cX21_init 11 = .ok (.aload_n 3, 1) := dk_45 (dk_at dksX21_init_0 11 rfl rfl)
theorem dX21_init_12 : decode cX21_init 12 = .ok (.putfield 13, 3) := dk_181 0 13 (dk_at dksX21_init_0 12 rfl rfl)
theorem dX21_init_15 : decode cX21_init 15 = .ok (.return_, 1) := dk_177 (dk_at dksX21_init_0 15 rfl rfl)
theorem okX21_init_0 : XOkL xms rX21_init bX21_init_0 := xcP (xok_aload_n dX21_init_0 rfl) rfl (xcP (xok_iload_n dX21_init_1 rfl) rfl (xcC0 (xokc_I xm221 rfl rfl dX21_init_2 q1027 q1007 q164 q1008 rfl (by decide +kernel)) rfl (xcP (xok_aload_n dX21_init_5 rfl) rfl (xcP (xok_aload_n dX21_init_6 rfl) rfl (xcP (xok_putfield (ref := "WaysAtlas$PutRow") (Or.inr (Or.inr ⟨rfl, by decide, rfl⟩)) dX21_init_7 (Or.inl ⟨q1028, (Or.inl rfl)⟩) (Or.inr ⟨rfl, rfl, ⟨q1028, (Or.inl rfl)⟩⟩) xh1124) rfl (xcP (xok_aload_n dX21_init_10 rfl) rfl (xcP (xok_aload_n dX21_init_11 rfl) rfl (xcP (xok_putfield (ref := "WaysAtlas$PutRow") (Or.inr (Or.inr ⟨rfl, by decide, rfl⟩)) dX21_init_12 (Or.inl ⟨q1029, (Or.inl rfl)⟩) (Or.inr ⟨rfl, rfl, ⟨q1029, (Or.inl rfl)⟩⟩) xh1125) rfl (xcR ⟨dX21_init_15, rfl⟩)))))))))
theorem okM_X21_init : XOkM xms rX21_init := xokM0 (List.forall_mem_cons.mpr ⟨⟨rfl, okX21_init_0⟩, fun _ h => nomatch h⟩) (xokH0 rfl (fun _ _ => rfl)) (by decide +kernel) (by decide)
abbrev cX21_does : ByteArray := prog_20_method_2_code
def dkwX21_does_1 : List UInt8 := [43, 180, 0, 28, 42, 180, 0, 7, 43, 44, 29, 182, 0, 34, 21, 4, 79, 177]
abbrev dktX21_does_1 : List UInt8 := dkwX21_does_1 ++ []
def dkwX21_does_0 : List UInt8 := [42, 180, 0, 7, 180, 0, 17, 43, 44, 182, 0, 22, 62, 42, 180, 0, 13, 43, 44, 182, 0, 22, 54, 4]
abbrev dktX21_does_0 : List UInt8 := dkwX21_does_0 ++ dktX21_does_1
theorem dksX21_does_0 : cX21_does.data.toList.drop 0 = dktX21_does_0 := by decide +kernel
theorem dksX21_does_1 : cX21_does.data.toList.drop 24 = dktX21_does_1 := dk_seg dksX21_does_0 24 rfl rfl
theorem dX21_does_0 : decode cX21_does 0 = .ok (.aload_n 0, 1) := dk_42 (dk_at dksX21_does_0 0 rfl rfl)
theorem dX21_does_1 : decode cX21_does 1 = .ok (.getfield 7, 3) := dk_180 0 7 (dk_at dksX21_does_0 1 rfl rfl)
theorem dX21_does_4 : decode cX21_does 4 = .ok (.getfield 17, 3) := dk_180 0 17 (dk_at dksX21_does_0 4 rfl rfl)
theorem dX21_does_7 : decode cX21_does 7 = .ok (.aload_n 1, 1) := dk_43 (dk_at dksX21_does_0 7 rfl rfl)
theorem dX21_does_8 : decode cX21_does 8 = .ok (.aload_n 2, 1) := dk_44 (dk_at dksX21_does_0 8 rfl rfl)
theorem dX21_does_9 : decode cX21_does 9 = .ok (.invokevirtual 22, 3) := dk_182 0 22 (dk_at dksX21_does_0 9 rfl rfl)
theorem dX21_does_12 : decode cX21_does 12 = .ok (.istore_n 3, 1) := dk_62 (dk_at dksX21_does_0 12 rfl rfl)
theorem dX21_does_13 : decode cX21_does 13 = .ok (.aload_n 0, 1) := dk_42 (dk_at dksX21_does_0 13 rfl rfl)
theorem dX21_does_14 : decode cX21_does 14 = .ok (.getfield 13, 3) := dk_180 0 13 (dk_at dksX21_does_0 14 rfl rfl)
theorem dX21_does_17 : decode cX21_does 17 = .ok (.aload_n 1, 1) := dk_43 (dk_at dksX21_does_0 17 rfl rfl)
theorem dX21_does_18 : decode cX21_does 18 = .ok (.aload_n 2, 1) := dk_44 (dk_at dksX21_does_0 18 rfl rfl)
theorem dX21_does_19 : decode cX21_does 19 = .ok (.invokevirtual 22, 3) := dk_182 0 22 (dk_at dksX21_does_0 19 rfl rfl)
theorem dX21_does_22 : decode cX21_does 22 = .ok (.istore 4, 2) := dk_54 4 (dk_at dksX21_does_0 22 rfl rfl)
theorem dX21_does_24 : decode cX21_does 24 = .ok (.aload_n 1, 1) := dk_43 (dk_at dksX21_does_1 0 rfl rfl)
theorem dX21_does_25 : decode cX21_does 25 = .ok (.getfield 28, 3) := dk_180 0 28 (dk_at dksX21_does_1 1 rfl rfl)
theorem dX21_does_28 : decode cX21_does 28 = .ok (.aload_n 0, 1) := dk_42 (dk_at dksX21_does_1 4 rfl rfl)
theorem dX21_does_29 : decode cX21_does 29 = .ok (.getfield 7, 3) := dk_180 0 7 (dk_at dksX21_does_1 5 rfl rfl)
theorem dX21_does_32 : decode cX21_does 32 = .ok (.aload_n 1, 1) := dk_43 (dk_at dksX21_does_1 8 rfl rfl)
theorem dX21_does_33 : decode cX21_does 33 = .ok (.aload_n 2, 1) := dk_44 (dk_at dksX21_does_1 9 rfl rfl)
theorem dX21_does_34 : decode cX21_does 34 = .ok (.iload_n 3, 1) := dk_29 (dk_at dksX21_does_1 10 rfl rfl)
theorem dX21_does_35 : decode cX21_does 35 = .ok (.invokevirtual 34, 3) := dk_182 0 34 (dk_at dksX21_does_1 11 rfl rfl)
theorem dX21_does_38 : decode cX21_does 38 = .ok (.iload 4, 2) := dk_21 4 (dk_at dksX21_does_1 14 rfl rfl)
theorem dX21_does_40 : decode cX21_does 40 = .ok (.iastore, 1) := dk_79 (dk_at dksX21_does_1 16 rfl rfl)
theorem dX21_does_41 : decode cX21_does 41 = .ok (.return_, 1) := dk_177 (dk_at dksX21_does_1 17 rfl rfl)
theorem okX21_does_0 : XOkL xms rX21_does bX21_does_0 := xcP (xok_aload_n dX21_does_0 rfl) rfl (xcP (xok_getfield (ref := "WaysAtlas$PutRow") (Or.inr ⟨rfl, by decide⟩) dX21_does_1 (Or.inl ⟨q1028, (Or.inl rfl)⟩) xh1124) rfl (xcP (xok_getfield (ref := "WaysAtlas$Place") (Or.inr ⟨rfl, by decide⟩) dX21_does_4 (Or.inr ⟨⟨"WaysAtlas", (List.mem_of_getElem? (i := 61) rfl)⟩, (Or.inl rfl)⟩) xh1120) rfl (xcP (xok_aload_n dX21_does_7 rfl) rfl (xcP (xok_aload_n dX21_does_8 rfl) rfl (xcC0 (xokc_list (List.forall_mem_cons.mpr ⟨xokc_A (owner := "WaysAtlas$Node") (r := (RX13, TX13, 3)) xm205 (List.mem_of_getElem? (i := 12) rfl) (by decide) rfl dX21_does_9 q1746 q1624 (List.mem_of_getElem? (i := 0) rfl) q1644 q1633 q158 q1634 (by decide +kernel), List.forall_mem_cons.mpr ⟨xokc_A (owner := "WaysAtlas$Node") (r := (RX14, TX14, 1)) xm207 (List.mem_of_getElem? (i := 13) rfl) (by decide) rfl dX21_does_9 q1746 q1624 (List.mem_of_getElem? (i := 0) rfl) q1625 q1626 q159 q1627 (by decide +kernel), List.forall_mem_cons.mpr ⟨xokc_A (owner := "WaysAtlas$Node") (r := (RX15, TX15, 1)) xm209 (List.mem_of_getElem? (i := 14) rfl) (by decide) rfl dX21_does_9 q1746 q1624 (List.mem_of_getElem? (i := 0) rfl) q1645 q1636 q160 q1637 (by decide +kernel), List.forall_mem_cons.mpr ⟨xokc_A (owner := "WaysAtlas$Node") (r := (RX16, TX16, 2)) xm211 (List.mem_of_getElem? (i := 15) rfl) (by decide) rfl dX21_does_9 q1746 q1624 (List.mem_of_getElem? (i := 0) rfl) q1628 q1629 q161 q1630 (by decide +kernel), fun _ h => nomatch h⟩⟩⟩⟩)) rfl (xcP (xok_istore_n dX21_does_12 rfl) rfl (xcP (xok_aload_n dX21_does_13 rfl) rfl (xcP (xok_getfield (ref := "WaysAtlas$PutRow") (Or.inr ⟨rfl, by decide⟩) dX21_does_14 (Or.inl ⟨q1029, (Or.inl rfl)⟩) xh1125) rfl (xcP (xok_aload_n dX21_does_17 rfl) rfl (xcP (xok_aload_n dX21_does_18 rfl) rfl (xcC0 (xokc_list (List.forall_mem_cons.mpr ⟨xokc_A (owner := "WaysAtlas$Node") (r := (RX13, TX13, 3)) xm205 (List.mem_of_getElem? (i := 12) rfl) (by decide) rfl dX21_does_19 q1746 q1624 (List.mem_of_getElem? (i := 0) rfl) q1644 q1633 q158 q1634 (by decide +kernel), List.forall_mem_cons.mpr ⟨xokc_A (owner := "WaysAtlas$Node") (r := (RX14, TX14, 1)) xm207 (List.mem_of_getElem? (i := 13) rfl) (by decide) rfl dX21_does_19 q1746 q1624 (List.mem_of_getElem? (i := 0) rfl) q1625 q1626 q159 q1627 (by decide +kernel), List.forall_mem_cons.mpr ⟨xokc_A (owner := "WaysAtlas$Node") (r := (RX15, TX15, 1)) xm209 (List.mem_of_getElem? (i := 14) rfl) (by decide) rfl dX21_does_19 q1746 q1624 (List.mem_of_getElem? (i := 0) rfl) q1645 q1636 q160 q1637 (by decide +kernel), List.forall_mem_cons.mpr ⟨xokc_A (owner := "WaysAtlas$Node") (r := (RX16, TX16, 2)) xm211 (List.mem_of_getElem? (i := 15) rfl) (by decide) rfl dX21_does_19 q1746 q1624 (List.mem_of_getElem? (i := 0) rfl) q1628 q1629 q161 q1630 (by decide +kernel), fun _ h => nomatch h⟩⟩⟩⟩)) rfl (xcP (xok_istore dX21_does_22) rfl (xcP (xok_aload_n dX21_does_24 rfl) rfl (xcP (xok_getfield (ref := "WaysAtlas$Run") (Or.inr ⟨rfl, by decide⟩) dX21_does_25 (Or.inr ⟨⟨"WaysAtlas", (List.mem_of_getElem? (i := 62) rfl)⟩, (Or.inl rfl)⟩) xh1045) rfl (xcP (xok_aload_n dX21_does_28 rfl) rfl (xcP (xok_getfield (ref := "WaysAtlas$PutRow") (Or.inr ⟨rfl, by decide⟩) dX21_does_29 (Or.inl ⟨q1028, (Or.inl rfl)⟩) xh1124) rfl (xcP (xok_aload_n dX21_does_32 rfl) rfl (xcP (xok_aload_n dX21_does_33 rfl) rfl (xcP (xok_iload_n dX21_does_34 rfl) rfl (xcC0 (xokc_list (List.forall_mem_cons.mpr ⟨xokc_V (r := (RX16, TX16, 2)) xm212 (List.mem_of_getElem? (i := 15) rfl) (by decide) rfl dX21_does_35 q1747 q1640 q1641 q161 q1642 (by decide +kernel), fun _ h => nomatch h⟩)) rfl (xcP (xok_iload dX21_does_38) rfl (xcP (xok_iastore dX21_does_40) rfl (xcR ⟨dX21_does_41, rfl⟩)))))))))))))))))))))))
theorem okM_X21_does : XOkM xms rX21_does := xokM0 (List.forall_mem_cons.mpr ⟨⟨rfl, okX21_does_0⟩, fun _ h => nomatch h⟩) (xokH0 rfl (fun _ _ => rfl)) (by decide +kernel) (by decide)
abbrev cX22_init : ByteArray := prog_13_method_1_code
def dkwX22_init_0 : List UInt8 := [42, 27, 183, 0, 3, 42, 28, 181, 0, 9, 42, 45, 181, 0, 15, 177]
abbrev dktX22_init_0 : List UInt8 := dkwX22_init_0 ++ []
theorem dksX22_init_0 : cX22_init.data.toList.drop 0 = dktX22_init_0 := by decide +kernel
theorem dX22_init_0 : decode cX22_init 0 = .ok (.aload_n 0, 1) := dk_42 (dk_at dksX22_init_0 0 rfl rfl)
theorem dX22_init_1 : decode cX22_init 1 = .ok (.iload_n 1, 1) := dk_27 (dk_at dksX22_init_0 1 rfl rfl)
theorem dX22_init_2 : decode cX22_init 2 = .ok (.invokespecial 3, 3) := dk_183 0 3 (dk_at dksX22_init_0 2 rfl rfl)
theorem dX22_init_5 : decode cX22_init 5 = .ok (.aload_n 0, 1) := dk_42 (dk_at dksX22_init_0 5 rfl rfl)
theorem dX22_init_6 : decode cX22_init 6 = .ok (.iload_n 2, 1) := dk_28 (dk_at dksX22_init_0 6 rfl rfl)
theorem dX22_init_7 : decode cX22_init 7 = .ok (.putfield 9, 3) := dk_181 0 9 (dk_at dksX22_init_0 7 rfl rfl)
theorem dX22_init_10 : decode cX22_init 10 = .ok (.aload_n 0, 1) := dk_42 (dk_at dksX22_init_0 10 rfl rfl)
theorem dX22_init_11 : decode cX22_init 11 = .ok (.aload_n 3, 1) := dk_45 (dk_at dksX22_init_0 11 rfl rfl)
theorem dX22_init_12 : decode cX22_init 12 = .ok (.putfield 15, 3) := dk_181 0 15 (dk_at dksX22_init_0 12 rfl rfl)
theorem dX22_init_15 : decode cX22_init 15 = .ok (.return_, 1) := dk_177 (dk_at dksX22_init_0 15 rfl rfl)
theorem okX22_init_0 : XOkL xms rX22_init bX22_init_0 := xcP (xok_aload_n dX22_init_0 rfl) rfl (xcP (xok_iload_n dX22_init_1 rfl) rfl (xcC0 (xokc_I xm221 rfl rfl dX22_init_2 q1045 q1007 q164 q1008 rfl (by decide +kernel)) rfl (xcP (xok_aload_n dX22_init_5 rfl) rfl (xcP (xok_iload_n dX22_init_6 rfl) rfl (xcP (xok_putfield (ref := "WaysAtlas$NewRow") (Or.inl ⟨rfl, by decide, rfl⟩) dX22_init_7 (Or.inl ⟨q1046, (Or.inl rfl)⟩) (Or.inr ⟨rfl, rfl, ⟨q1046, (Or.inl rfl)⟩⟩) xh86) rfl (xcP (xok_aload_n dX22_init_10 rfl) rfl (xcP (xok_aload_n dX22_init_11 rfl) rfl (xcP (xok_putfield (ref := "WaysAtlas$NewRow") (Or.inr (Or.inr ⟨rfl, by decide, rfl⟩)) dX22_init_12 (Or.inl ⟨q1047, (Or.inl rfl)⟩) (Or.inr ⟨rfl, rfl, ⟨q1047, (Or.inl rfl)⟩⟩) xh1126) rfl (xcR ⟨dX22_init_15, rfl⟩)))))))))
theorem okM_X22_init : XOkM xms rX22_init := xokM0 (List.forall_mem_cons.mpr ⟨⟨rfl, okX22_init_0⟩, fun _ h => nomatch h⟩) (xokH0 rfl (fun _ _ => rfl)) (by decide +kernel) (by decide)
abbrev cX22_does : ByteArray := prog_13_method_2_code
def dkwX22_does_3 : List UInt8 := [21, 5, 96, 3, 79, 132, 5, 1, 167, 255, 232, 44, 180, 0, 45, 42, 180, 0, 9, 21, 4, 79, 177]
abbrev dktX22_does_3 : List UInt8 := dkwX22_does_3 ++ []
def dkwX22_does_2 : List UInt8 := [21, 4, 29, 79, 3, 54, 5, 21, 5, 16, 8, 162, 0, 23, 43, 180, 0, 42, 16, 8, 21, 4, 104]
abbrev dktX22_does_2 : List UInt8 := dkwX22_does_2 ++ dktX22_does_3
def dkwX22_does_1 : List UInt8 := [182, 0, 29, 191, 43, 180, 0, 35, 54, 4, 43, 89, 180, 0, 35, 4, 96, 181, 0, 35, 43, 180, 0, 38]
abbrev dktX22_does_1 : List UInt8 := dkwX22_does_1 ++ dktX22_does_2
def dkwX22_does_0 : List UInt8 := [42, 180, 0, 15, 43, 44, 182, 0, 19, 62, 29, 3, 16, 8, 184, 0, 25, 154, 0, 9, 43, 8]
abbrev dktX22_does_0 : List UInt8 := dkwX22_does_0 ++ dktX22_does_1
theorem dksX22_does_0 : cX22_does.data.toList.drop 0 = dktX22_does_0 := by decide +kernel
theorem dksX22_does_1 : cX22_does.data.toList.drop 22 = dktX22_does_1 := dk_seg dksX22_does_0 22 rfl rfl
theorem dksX22_does_2 : cX22_does.data.toList.drop 46 = dktX22_does_2 := dk_seg dksX22_does_1 24 rfl rfl
theorem dksX22_does_3 : cX22_does.data.toList.drop 69 = dktX22_does_3 := dk_seg dksX22_does_2 23 rfl rfl
theorem dX22_does_0 : decode cX22_does 0 = .ok (.aload_n 0, 1) := dk_42 (dk_at dksX22_does_0 0 rfl rfl)
theorem dX22_does_1 : decode cX22_does 1 = .ok (.getfield 15, 3) := dk_180 0 15 (dk_at dksX22_does_0 1 rfl rfl)
theorem dX22_does_4 : decode cX22_does 4 = .ok (.aload_n 1, 1) := dk_43 (dk_at dksX22_does_0 4 rfl rfl)
theorem dX22_does_5 : decode cX22_does 5 = .ok (.aload_n 2, 1) := dk_44 (dk_at dksX22_does_0 5 rfl rfl)
theorem dX22_does_6 : decode cX22_does 6 = .ok (.invokevirtual 19, 3) := dk_182 0 19 (dk_at dksX22_does_0 6 rfl rfl)
theorem dX22_does_9 : decode cX22_does 9 = .ok (.istore_n 3, 1) := dk_62 (dk_at dksX22_does_0 9 rfl rfl)
theorem dX22_does_10 : decode cX22_does 10 = .ok (.iload_n 3, 1) := dk_29 (dk_at dksX22_does_0 10 rfl rfl)
theorem dX22_does_11 : decode cX22_does 11 = .ok (.iconst 0, 1) := dk_3 (dk_at dksX22_does_0 11 rfl rfl)
theorem dX22_does_12 : decode cX22_does 12 = .ok (.bipush 8, 2) := dk_16 8 (dk_at dksX22_does_0 12 rfl rfl)
theorem dX22_does_14 : decode cX22_does 14 = .ok (.invokestatic 25, 3) := dk_184 0 25 (dk_at dksX22_does_0 14 rfl rfl)
theorem dX22_does_17 : decode cX22_does 17 = .ok (.ifCond .ne 9, 3) := dk_154 0 9 (dk_at dksX22_does_0 17 rfl rfl)
theorem dX22_does_20 : decode cX22_does 20 = .ok (.aload_n 1, 1) := dk_43 (dk_at dksX22_does_0 20 rfl rfl)
theorem dX22_does_21 : decode cX22_does 21 = .ok (.iconst 5, 1) := dk_8 (dk_at dksX22_does_0 21 rfl rfl)
theorem dX22_does_22 : decode cX22_does 22 = .ok (.invokevirtual 29, 3) := dk_182 0 29 (dk_at dksX22_does_1 0 rfl rfl)
theorem dX22_does_25 : decode cX22_does 25 = .ok (.athrow, 1) := dk_191 (dk_at dksX22_does_1 3 rfl rfl)
theorem dX22_does_26 : decode cX22_does 26 = .ok (.aload_n 1, 1) := dk_43 (dk_at dksX22_does_1 4 rfl rfl)
theorem dX22_does_27 : decode cX22_does 27 = .ok (.getfield 35, 3) := dk_180 0 35 (dk_at dksX22_does_1 5 rfl rfl)
theorem dX22_does_30 : decode cX22_does 30 = .ok (.istore 4, 2) := dk_54 4 (dk_at dksX22_does_1 8 rfl rfl)
theorem dX22_does_32 : decode cX22_does 32 = .ok (.aload_n 1, 1) := dk_43 (dk_at dksX22_does_1 10 rfl rfl)
theorem dX22_does_33 : decode cX22_does 33 = .ok (.dup, 1) := dk_89 (dk_at dksX22_does_1 11 rfl rfl)
theorem dX22_does_34 : decode cX22_does 34 = .ok (.getfield 35, 3) := dk_180 0 35 (dk_at dksX22_does_1 12 rfl rfl)
theorem dX22_does_37 : decode cX22_does 37 = .ok (.iconst 1, 1) := dk_4 (dk_at dksX22_does_1 15 rfl rfl)
theorem dX22_does_38 : decode cX22_does 38 = .ok (.iadd, 1) := dk_96 (dk_at dksX22_does_1 16 rfl rfl)
theorem dX22_does_39 : decode cX22_does 39 = .ok (.putfield 35, 3) := dk_181 0 35 (dk_at dksX22_does_1 17 rfl rfl)
theorem dX22_does_42 : decode cX22_does 42 = .ok (.aload_n 1, 1) := dk_43 (dk_at dksX22_does_1 20 rfl rfl)
theorem dX22_does_43 : decode cX22_does 43 = .ok (.getfield 38, 3) := dk_180 0 38 (dk_at dksX22_does_1 21 rfl rfl)
theorem dX22_does_46 : decode cX22_does 46 = .ok (.iload 4, 2) := dk_21 4 (dk_at dksX22_does_2 0 rfl rfl)
theorem dX22_does_48 : decode cX22_does 48 = .ok (.iload_n 3, 1) := dk_29 (dk_at dksX22_does_2 2 rfl rfl)
theorem dX22_does_49 : decode cX22_does 49 = .ok (.iastore, 1) := dk_79 (dk_at dksX22_does_2 3 rfl rfl)
theorem dX22_does_50 : decode cX22_does 50 = .ok (.iconst 0, 1) := dk_3 (dk_at dksX22_does_2 4 rfl rfl)
theorem dX22_does_51 : decode cX22_does 51 = .ok (.istore 5, 2) := dk_54 5 (dk_at dksX22_does_2 5 rfl rfl)
theorem dX22_does_53 : decode cX22_does 53 = .ok (.iload 5, 2) := dk_21 5 (dk_at dksX22_does_2 7 rfl rfl)
theorem dX22_does_55 : decode cX22_does 55 = .ok (.bipush 8, 2) := dk_16 8 (dk_at dksX22_does_2 9 rfl rfl)
theorem dX22_does_57 : decode cX22_does 57 = .ok (.if_icmp .ge 23, 3) := dk_162 0 23 (dk_at dksX22_does_2 11 rfl rfl)
theorem dX22_does_60 : decode cX22_does 60 = .ok (.aload_n 1, 1) := dk_43 (dk_at dksX22_does_2 14 rfl rfl)
theorem dX22_does_61 : decode cX22_does 61 = .ok (.getfield 42, 3) := dk_180 0 42 (dk_at dksX22_does_2 15 rfl rfl)
theorem dX22_does_64 : decode cX22_does 64 = .ok (.bipush 8, 2) := dk_16 8 (dk_at dksX22_does_2 18 rfl rfl)
theorem dX22_does_66 : decode cX22_does 66 = .ok (.iload 4, 2) := dk_21 4 (dk_at dksX22_does_2 20 rfl rfl)
theorem dX22_does_68 : decode cX22_does 68 = .ok (.imul, 1) := dk_104 (dk_at dksX22_does_2 22 rfl rfl)
theorem dX22_does_69 : decode cX22_does 69 = .ok (.iload 5, 2) := dk_21 5 (dk_at dksX22_does_3 0 rfl rfl)
theorem dX22_does_71 : decode cX22_does 71 = .ok (.iadd, 1) := dk_96 (dk_at dksX22_does_3 2 rfl rfl)
theorem dX22_does_72 : decode cX22_does 72 = .ok (.iconst 0, 1) := dk_3 (dk_at dksX22_does_3 3 rfl rfl)
theorem dX22_does_73 : decode cX22_does 73 = .ok (.iastore, 1) := dk_79 (dk_at dksX22_does_3 4 rfl rfl)
theorem dX22_does_74 : decode cX22_does 74 = .ok (.iinc 5 1, 3) := dk_132 5 1 (dk_at dksX22_does_3 5 rfl rfl)
theorem dX22_does_77 : decode cX22_does 77 = .ok (.goto (-24), 3) := dk_167 255 232 (dk_at dksX22_does_3 8 rfl rfl)
theorem dX22_does_80 : decode cX22_does 80 = .ok (.aload_n 2, 1) := dk_44 (dk_at dksX22_does_3 11 rfl rfl)
theorem dX22_does_81 : decode cX22_does 81 = .ok (.getfield 45, 3) := dk_180 0 45 (dk_at dksX22_does_3 12 rfl rfl)
theorem dX22_does_84 : decode cX22_does 84 = .ok (.aload_n 0, 1) := dk_42 (dk_at dksX22_does_3 15 rfl rfl)
theorem dX22_does_85 : decode cX22_does 85 = .ok (.getfield 9, 3) := dk_180 0 9 (dk_at dksX22_does_3 16 rfl rfl)
theorem dX22_does_88 : decode cX22_does 88 = .ok (.iload 4, 2) := dk_21 4 (dk_at dksX22_does_3 19 rfl rfl)
theorem dX22_does_90 : decode cX22_does 90 = .ok (.iastore, 1) := dk_79 (dk_at dksX22_does_3 21 rfl rfl)
theorem dX22_does_91 : decode cX22_does 91 = .ok (.return_, 1) := dk_177 (dk_at dksX22_does_3 22 rfl rfl)
theorem okX22_does_0 : XOkL xms rX22_does bX22_does_0 := xcP (xok_aload_n dX22_does_0 rfl) rfl (xcP (xok_getfield (ref := "WaysAtlas$NewRow") (Or.inr ⟨rfl, by decide⟩) dX22_does_1 (Or.inl ⟨q1047, (Or.inl rfl)⟩) xh1126) rfl (xcP (xok_aload_n dX22_does_4 rfl) rfl (xcP (xok_aload_n dX22_does_5 rfl) rfl (xcC0 (xokc_list (List.forall_mem_cons.mpr ⟨xokc_A (owner := "WaysAtlas$Node") (r := (RX13, TX13, 3)) xm205 (List.mem_of_getElem? (i := 12) rfl) (by decide) rfl dX22_does_6 q1740 q1624 (List.mem_of_getElem? (i := 0) rfl) q1644 q1633 q158 q1634 (by decide +kernel), List.forall_mem_cons.mpr ⟨xokc_A (owner := "WaysAtlas$Node") (r := (RX14, TX14, 1)) xm207 (List.mem_of_getElem? (i := 13) rfl) (by decide) rfl dX22_does_6 q1740 q1624 (List.mem_of_getElem? (i := 0) rfl) q1625 q1626 q159 q1627 (by decide +kernel), List.forall_mem_cons.mpr ⟨xokc_A (owner := "WaysAtlas$Node") (r := (RX15, TX15, 1)) xm209 (List.mem_of_getElem? (i := 14) rfl) (by decide) rfl dX22_does_6 q1740 q1624 (List.mem_of_getElem? (i := 0) rfl) q1645 q1636 q160 q1637 (by decide +kernel), List.forall_mem_cons.mpr ⟨xokc_A (owner := "WaysAtlas$Node") (r := (RX16, TX16, 2)) xm211 (List.mem_of_getElem? (i := 15) rfl) (by decide) rfl dX22_does_6 q1740 q1624 (List.mem_of_getElem? (i := 0) rfl) q1628 q1629 q161 q1630 (by decide +kernel), fun _ h => nomatch h⟩⟩⟩⟩)) rfl (xcP (xok_istore_n dX22_does_9 rfl) rfl (xcP (xok_iload_n dX22_does_10 rfl) rfl (xcP (xok_iconst dX22_does_11 rfl) rfl (xcP (xok_bipush dX22_does_12 rfl) rfl (xcC0 (xokc_SN (host := "WaysAtlas") xm3 rfl dX22_does_14 (List.mem_of_getElem? (i := 5) rfl) q681 q138 q682 (by decide +kernel)) rfl (xcP (xok_ifne dX22_does_17 (by decide)) rfl (xcP (xok_aload_n dX22_does_20 rfl) rfl (xcP (xok_iconst dX22_does_21 rfl) rfl (xcC0 (xokc_list (List.forall_mem_cons.mpr ⟨xokc_V (r := (RX5, TX5, 34)) xm82 (List.mem_of_getElem? (i := 5) rfl) (by decide) rfl dX22_does_22 q1742 q1564 q1565 q143 q1566 (by decide +kernel), fun _ h => nomatch h⟩)) rfl (xcT dX22_does_25))))))))))))))
theorem okX22_does_26 : XOkL xms rX22_does bX22_does_26 := xcP (xok_aload_n dX22_does_26 rfl) rfl (xcP (xok_getfield (ref := "WaysAtlas$Run") (Or.inl ⟨rfl, by decide⟩) dX22_does_27 (Or.inr ⟨⟨"WaysAtlas", (List.mem_of_getElem? (i := 32) rfl)⟩, (Or.inl rfl)⟩) xh27) rfl (xcP (xok_istore dX22_does_30) rfl (xcP (xok_aload_n dX22_does_32 rfl) rfl (xcP (xok_dup dX22_does_33) rfl (xcP (xok_getfield (ref := "WaysAtlas$Run") (Or.inl ⟨rfl, by decide⟩) dX22_does_34 (Or.inr ⟨⟨"WaysAtlas", (List.mem_of_getElem? (i := 32) rfl)⟩, (Or.inl rfl)⟩) xh27) rfl (xcP (xok_iconst dX22_does_37 rfl) rfl (xcP (xok_iadd dX22_does_38) rfl (xcP (xok_putfield (ref := "WaysAtlas$Run") (Or.inl ⟨rfl, by decide, rfl⟩) dX22_does_39 (Or.inr ⟨⟨"WaysAtlas", (List.mem_of_getElem? (i := 32) rfl)⟩, (Or.inl rfl)⟩) (Or.inl rfl) xh27) rfl (xcP (xok_aload_n dX22_does_42 rfl) rfl (xcP (xok_getfield (ref := "WaysAtlas$Run") (Or.inr ⟨rfl, by decide⟩) dX22_does_43 (Or.inr ⟨⟨"WaysAtlas", (List.mem_of_getElem? (i := 33) rfl)⟩, (Or.inl rfl)⟩) xh1044) rfl (xcP (xok_iload dX22_does_46) rfl (xcP (xok_iload_n dX22_does_48 rfl) rfl (xcP (xok_iastore dX22_does_49) rfl (xcP (xok_iconst dX22_does_50 rfl) rfl (xcP (xok_istore dX22_does_51) rfl (xcP xok_fal rfl trivial))))))))))))))))
theorem okX22_does_53 : XOkL xms rX22_does bX22_does_53 := xcP (xok_iload dX22_does_53) rfl (xcP (xok_bipush dX22_does_55 rfl) rfl (xcP (xok_icmpge dX22_does_57 (by decide)) rfl (xcP (xok_aload_n dX22_does_60 rfl) rfl (xcP (xok_getfield (ref := "WaysAtlas$Run") (Or.inr ⟨rfl, by decide⟩) dX22_does_61 (Or.inr ⟨⟨"WaysAtlas", (List.mem_of_getElem? (i := 34) rfl)⟩, (Or.inl rfl)⟩) xh1045) rfl (xcP (xok_bipush dX22_does_64 rfl) rfl (xcP (xok_iload dX22_does_66) rfl (xcP (xok_imul dX22_does_68) rfl (xcP (xok_iload dX22_does_69) rfl (xcP (xok_iadd dX22_does_71) rfl (xcP (xok_iconst dX22_does_72 rfl) rfl (xcP (xok_iastore dX22_does_73) rfl (xcP (xok_iinc dX22_does_74 rfl) rfl (xcP (xok_goto dX22_does_77 (by decide)) rfl trivial)))))))))))))
theorem okX22_does_80 : XOkL xms rX22_does bX22_does_80 := xcP (xok_aload_n dX22_does_80 rfl) rfl (xcP (xok_getfield (ref := "WaysAtlas$Frame") (Or.inr ⟨rfl, by decide⟩) dX22_does_81 (Or.inr ⟨⟨"WaysAtlas", (List.mem_of_getElem? (i := 35) rfl)⟩, (Or.inl rfl)⟩) xh1054) rfl (xcP (xok_aload_n dX22_does_84 rfl) rfl (xcP (xok_getfield (ref := "WaysAtlas$NewRow") (Or.inl ⟨rfl, by decide⟩) dX22_does_85 (Or.inl ⟨q1046, (Or.inl rfl)⟩) xh86) rfl (xcP (xok_iload dX22_does_88) rfl (xcP (xok_iastore dX22_does_90) rfl (xcR ⟨dX22_does_91, rfl⟩))))))
theorem okM_X22_does : XOkM xms rX22_does := xokM0 (List.forall_mem_cons.mpr ⟨⟨rfl, okX22_does_0⟩, List.forall_mem_cons.mpr ⟨⟨rfl, okX22_does_26⟩, List.forall_mem_cons.mpr ⟨⟨rfl, okX22_does_53⟩, List.forall_mem_cons.mpr ⟨⟨rfl, okX22_does_80⟩, fun _ h => nomatch h⟩⟩⟩⟩) (xokH0 rfl (fun _ _ => rfl)) (by decide +kernel) (by decide)
abbrev cX23_init : ByteArray := prog_24_method_1_code
def dkwX23_init_0 : List UInt8 := [42, 27, 183, 0, 3, 42, 28, 181, 0, 9, 42, 29, 181, 0, 15, 177]
abbrev dktX23_init_0 : List UInt8 := dkwX23_init_0 ++ []
theorem dksX23_init_0 : cX23_init.data.toList.drop 0 = dktX23_init_0 := by decide +kernel
theorem dX23_init_0 : decode cX23_init 0 = .ok (.aload_n 0, 1) := dk_42 (dk_at dksX23_init_0 0 rfl rfl)
theorem dX23_init_1 : decode cX23_init 1 = .ok (.iload_n 1, 1) := dk_27 (dk_at dksX23_init_0 1 rfl rfl)
theorem dX23_init_2 : decode cX23_init 2 = .ok (.invokespecial 3, 3) := dk_183 0 3 (dk_at dksX23_init_0 2 rfl rfl)
theorem dX23_init_5 : decode cX23_init 5 = .ok (.aload_n 0, 1) := dk_42 (dk_at dksX23_init_0 5 rfl rfl)
theorem dX23_init_6 : decode cX23_init 6 = .ok (.iload_n 2, 1) := dk_28 (dk_at dksX23_init_0 6 rfl rfl)
theorem dX23_init_7 : decode cX23_init 7 = .ok (.putfield 9, 3) := dk_181 0 9 (dk_at dksX23_init_0 7 rfl rfl)
theorem dX23_init_10 : decode cX23_init 10 = .ok (.aload_n 0, 1) := dk_42 (dk_at dksX23_init_0 10 rfl rfl)
theorem dX23_init_11 : decode cX23_init 11 = .ok (.iload_n 3, 1) := dk_29 (dk_at dksX23_init_0 11 rfl rfl)
theorem dX23_init_12 : decode cX23_init 12 = .ok (.putfield 15, 3) := dk_181 0 15 (dk_at dksX23_init_0 12 rfl rfl)
theorem dX23_init_15 : decode cX23_init 15 = .ok (.return_, 1) := dk_177 (dk_at dksX23_init_0 15 rfl rfl)
theorem okX23_init_0 : XOkL xms rX23_init bX23_init_0 := xcP (xok_aload_n dX23_init_0 rfl) rfl (xcP (xok_iload_n dX23_init_1 rfl) rfl (xcC0 (xokc_I xm221 rfl rfl dX23_init_2 q1059 q1007 q164 q1008 rfl (by decide +kernel)) rfl (xcP (xok_aload_n dX23_init_5 rfl) rfl (xcP (xok_iload_n dX23_init_6 rfl) rfl (xcP (xok_putfield (ref := "WaysAtlas$SameRow") (Or.inl ⟨rfl, by decide, rfl⟩) dX23_init_7 (Or.inl ⟨q1060, (Or.inl rfl)⟩) (Or.inr ⟨rfl, rfl, ⟨q1060, (Or.inl rfl)⟩⟩) xh87) rfl (xcP (xok_aload_n dX23_init_10 rfl) rfl (xcP (xok_iload_n dX23_init_11 rfl) rfl (xcP (xok_putfield (ref := "WaysAtlas$SameRow") (Or.inl ⟨rfl, by decide, rfl⟩) dX23_init_12 (Or.inl ⟨q1061, (Or.inl rfl)⟩) (Or.inr ⟨rfl, rfl, ⟨q1061, (Or.inl rfl)⟩⟩) xh88) rfl (xcR ⟨dX23_init_15, rfl⟩)))))))))
theorem okM_X23_init : XOkM xms rX23_init := xokM0 (List.forall_mem_cons.mpr ⟨⟨rfl, okX23_init_0⟩, fun _ h => nomatch h⟩) (xokH0 rfl (fun _ _ => rfl)) (by decide +kernel) (by decide)
abbrev cX23_does : ByteArray := prog_24_method_2_code
def dkwX23_does_1 : List UInt8 := [180, 0, 18, 42, 180, 0, 15, 46, 79, 177]
abbrev dktX23_does_1 : List UInt8 := dkwX23_does_1 ++ []
def dkwX23_does_0 : List UInt8 := [44, 180, 0, 18, 42, 180, 0, 9, 42, 180, 0, 15, 16, 247, 160, 0, 8, 16, 247, 167, 0, 12, 44]
abbrev dktX23_does_0 : List UInt8 := dkwX23_does_0 ++ dktX23_does_1
theorem dksX23_does_0 : cX23_does.data.toList.drop 0 = dktX23_does_0 := by decide +kernel
theorem dksX23_does_1 : cX23_does.data.toList.drop 23 = dktX23_does_1 := dk_seg dksX23_does_0 23 rfl rfl
theorem dX23_does_0 : decode cX23_does 0 = .ok (.aload_n 2, 1) := dk_44 (dk_at dksX23_does_0 0 rfl rfl)
theorem dX23_does_1 : decode cX23_does 1 = .ok (.getfield 18, 3) := dk_180 0 18 (dk_at dksX23_does_0 1 rfl rfl)
theorem dX23_does_4 : decode cX23_does 4 = .ok (.aload_n 0, 1) := dk_42 (dk_at dksX23_does_0 4 rfl rfl)
theorem dX23_does_5 : decode cX23_does 5 = .ok (.getfield 9, 3) := dk_180 0 9 (dk_at dksX23_does_0 5 rfl rfl)
theorem dX23_does_8 : decode cX23_does 8 = .ok (.aload_n 0, 1) := dk_42 (dk_at dksX23_does_0 8 rfl rfl)
theorem dX23_does_9 : decode cX23_does 9 = .ok (.getfield 15, 3) := dk_180 0 15 (dk_at dksX23_does_0 9 rfl rfl)
theorem dX23_does_12 : decode cX23_does 12 = .ok (.bipush (-9), 2) := dk_16 247 (dk_at dksX23_does_0 12 rfl rfl)
theorem dX23_does_14 : decode cX23_does 14 = .ok (.if_icmp .ne 8, 3) := dk_160 0 8 (dk_at dksX23_does_0 14 rfl rfl)
theorem dX23_does_17 : decode cX23_does 17 = .ok (.bipush (-9), 2) := dk_16 247 (dk_at dksX23_does_0 17 rfl rfl)
theorem dX23_does_19 : decode cX23_does 19 = .ok (.goto 12, 3) := dk_167 0 12 (dk_at dksX23_does_0 19 rfl rfl)
theorem dX23_does_22 : decode cX23_does 22 = .ok (.aload_n 2, 1) := dk_44 (dk_at dksX23_does_0 22 rfl rfl)
theorem dX23_does_23 : decode cX23_does 23 = .ok (.getfield 18, 3) := dk_180 0 18 (dk_at dksX23_does_1 0 rfl rfl)
theorem dX23_does_26 : decode cX23_does 26 = .ok (.aload_n 0, 1) := dk_42 (dk_at dksX23_does_1 3 rfl rfl)
theorem dX23_does_27 : decode cX23_does 27 = .ok (.getfield 15, 3) := dk_180 0 15 (dk_at dksX23_does_1 4 rfl rfl)
theorem dX23_does_30 : decode cX23_does 30 = .ok (.iaload, 1) := dk_46 (dk_at dksX23_does_1 7 rfl rfl)
theorem dX23_does_31 : decode cX23_does 31 = .ok (.iastore, 1) := dk_79 (dk_at dksX23_does_1 8 rfl rfl)
theorem dX23_does_32 : decode cX23_does 32 = .ok (.return_, 1) := dk_177 (dk_at dksX23_does_1 9 rfl rfl)
theorem okX23_does_0 : XOkL xms rX23_does bX23_does_0 := xcP (xok_aload_n dX23_does_0 rfl) rfl (xcP (xok_getfield (ref := "WaysAtlas$Frame") (Or.inr ⟨rfl, by decide⟩) dX23_does_1 (Or.inr ⟨⟨"WaysAtlas", (List.mem_of_getElem? (i := 87) rfl)⟩, (Or.inl rfl)⟩) xh1054) rfl (xcP (xok_aload_n dX23_does_4 rfl) rfl (xcP (xok_getfield (ref := "WaysAtlas$SameRow") (Or.inl ⟨rfl, by decide⟩) dX23_does_5 (Or.inl ⟨q1060, (Or.inl rfl)⟩) xh87) rfl (xcP (xok_aload_n dX23_does_8 rfl) rfl (xcP (xok_getfield (ref := "WaysAtlas$SameRow") (Or.inl ⟨rfl, by decide⟩) dX23_does_9 (Or.inl ⟨q1061, (Or.inl rfl)⟩) xh88) rfl (xcP (xok_bipush dX23_does_12 rfl) rfl (xcP (xok_icmpne dX23_does_14 (by decide)) rfl (xcP (xok_bipush dX23_does_17 rfl) rfl (xcP (xok_goto dX23_does_19 (by decide)) rfl trivial)))))))))
theorem okX23_does_22 : XOkL xms rX23_does bX23_does_22 := xcP (xok_aload_n dX23_does_22 rfl) rfl (xcP (xok_getfield (ref := "WaysAtlas$Frame") (Or.inr ⟨rfl, by decide⟩) dX23_does_23 (Or.inr ⟨⟨"WaysAtlas", (List.mem_of_getElem? (i := 87) rfl)⟩, (Or.inl rfl)⟩) xh1054) rfl (xcP (xok_aload_n dX23_does_26 rfl) rfl (xcP (xok_getfield (ref := "WaysAtlas$SameRow") (Or.inl ⟨rfl, by decide⟩) dX23_does_27 (Or.inl ⟨q1061, (Or.inl rfl)⟩) xh88) rfl (xcP (xok_iaload dX23_does_30) rfl (xcP xok_fal rfl trivial)))))
theorem okX23_does_31 : XOkL xms rX23_does bX23_does_31 := xcP (xok_iastore dX23_does_31) rfl (xcR ⟨dX23_does_32, rfl⟩)
theorem okM_X23_does : XOkM xms rX23_does := xokM0 (List.forall_mem_cons.mpr ⟨⟨rfl, okX23_does_0⟩, List.forall_mem_cons.mpr ⟨⟨rfl, okX23_does_22⟩, List.forall_mem_cons.mpr ⟨⟨rfl, okX23_does_31⟩, fun _ h => nomatch h⟩⟩⟩) (xokH0 rfl (fun _ _ => rfl)) (by decide +kernel) (by decide)
abbrev cX24_init : ByteArray := prog_11_method_1_code
def dkwX24_init_0 : List UInt8 := [42, 27, 183, 0, 1, 42, 28, 181, 0, 7, 177]
abbrev dktX24_init_0 : List UInt8 := dkwX24_init_0 ++ []
theorem dksX24_init_0 : cX24_init.data.toList.drop 0 = dktX24_init_0 := by decide +kernel
theorem dX24_init_0 : decode cX24_init 0 = .ok (.aload_n 0, 1) := dk_42 (dk_at dksX24_init_0 0 rfl rfl)
theorem dX24_init_1 : decode cX24_init 1 = .ok (.iload_n 1, 1) := dk_27 (dk_at dksX24_init_0 1 rfl rfl)
theorem dX24_init_2 : decode cX24_init 2 = .ok (.invokespecial 1, 3) := dk_183 0 1 (dk_at dksX24_init_0 2 rfl rfl)
theorem dX24_init_5 : decode cX24_init 5 = .ok (.aload_n 0, 1) := dk_42 (dk_at dksX24_init_0 5 rfl rfl)
theorem dX24_init_6 : decode cX24_init 6 = .ok (.iload_n 2, 1) := dk_28 (dk_at dksX24_init_0 6 rfl rfl)
theorem dX24_init_7 : decode cX24_init 7 = .ok (.putfield 7, 3) := dk_181 0 7 (dk_at dksX24_init_0 7 rfl rfl)
theorem dX24_init_10 : decode cX24_init 10 = .ok (.return_, 1) := dk_177 (dk_at dksX24_init_0 10 rfl rfl)
theorem okX24_init_0 : XOkL xms rX24_init bX24_init_0 := xcP (xok_aload_n dX24_init_0 rfl) rfl (xcP (xok_iload_n dX24_init_1 rfl) rfl (xcC0 (xokc_I xm221 rfl rfl dX24_init_2 q1077 q1007 q164 q1008 rfl (by decide +kernel)) rfl (xcP (xok_aload_n dX24_init_5 rfl) rfl (xcP (xok_iload_n dX24_init_6 rfl) rfl (xcP (xok_putfield (ref := "WaysAtlas$Mark") (Or.inl ⟨rfl, by decide, rfl⟩) dX24_init_7 (Or.inl ⟨q1078, (Or.inl rfl)⟩) (Or.inr ⟨rfl, rfl, ⟨q1078, (Or.inl rfl)⟩⟩) xh89) rfl (xcR ⟨dX24_init_10, rfl⟩))))))
theorem okM_X24_init : XOkM xms rX24_init := xokM0 (List.forall_mem_cons.mpr ⟨⟨rfl, okX24_init_0⟩, fun _ h => nomatch h⟩) (xokH0 rfl (fun _ _ => rfl)) (by decide +kernel) (by decide)
abbrev cX24_isMark : ByteArray := prog_11_method_2_code
theorem dX24_isMark_0 : decode cX24_isMark 0 = .ok (.iconst 1, 1) := by decide +kernel
theorem dX24_isMark_1 : decode cX24_isMark 1 = .ok (.ireturn, 1) := by decide +kernel
theorem okX24_isMark_0 : XOkL xms rX24_isMark bX24_isMark_0 := xcP (xok_iconst dX24_isMark_0 rfl) rfl (xcR ⟨dX24_isMark_1, rfl⟩)
theorem okM_X24_isMark : XOkM xms rX24_isMark := xokM0 (List.forall_mem_cons.mpr ⟨⟨rfl, okX24_isMark_0⟩, fun _ h => nomatch h⟩) (xokH0 rfl (fun _ _ => rfl)) (by decide +kernel) (by decide)
abbrev cX24_does : ByteArray := prog_11_method_3_code
def dkwX24_does_0 : List UInt8 := [43, 42, 180, 0, 13, 42, 180, 0, 7, 182, 0, 16, 177]
abbrev dktX24_does_0 : List UInt8 := dkwX24_does_0 ++ []
theorem dksX24_does_0 : cX24_does.data.toList.drop 0 = dktX24_does_0 := by decide +kernel
theorem dX24_does_0 : decode cX24_does 0 = .ok (.aload_n 1, 1) := dk_43 (dk_at dksX24_does_0 0 rfl rfl)
theorem dX24_does_1 : decode cX24_does 1 = .ok (.aload_n 0, 1) := dk_42 (dk_at dksX24_does_0 1 rfl rfl)
theorem dX24_does_2 : decode cX24_does 2 = .ok (.getfield 13, 3) := dk_180 0 13 (dk_at dksX24_does_0 2 rfl rfl)
theorem dX24_does_5 : decode cX24_does 5 = .ok (.aload_n 0, 1) := dk_42 (dk_at dksX24_does_0 5 rfl rfl)
theorem dX24_does_6 : decode cX24_does 6 = .ok (.getfield 7, 3) := dk_180 0 7 (dk_at dksX24_does_0 6 rfl rfl)
theorem dX24_does_9 : decode cX24_does 9 = .ok (.invokevirtual 16, 3) := dk_182 0 16 (dk_at dksX24_does_0 9 rfl rfl)
theorem dX24_does_12 : decode cX24_does 12 = .ok (.return_, 1) := dk_177 (dk_at dksX24_does_0 12 rfl rfl)
theorem okX24_does_0 : XOkL xms rX24_does bX24_does_0 := xcP (xok_aload_n dX24_does_0 rfl) rfl (xcP (xok_aload_n dX24_does_1 rfl) rfl (xcP (xok_getfield (ref := "WaysAtlas$Mark") (Or.inl ⟨rfl, by decide⟩) dX24_does_2 (Or.inl ⟨q973, (Or.inr q974)⟩) xh82) rfl (xcP (xok_aload_n dX24_does_5 rfl) rfl (xcP (xok_getfield (ref := "WaysAtlas$Mark") (Or.inl ⟨rfl, by decide⟩) dX24_does_6 (Or.inl ⟨q1078, (Or.inl rfl)⟩) xh89) rfl (xcC0 (xokc_list (List.forall_mem_cons.mpr ⟨xokc_V (r := (RX5, TX5, 34)) xm90 (List.mem_of_getElem? (i := 5) rfl) (by decide) rfl dX24_does_9 q1733 q1734 q1735 q143 q1736 (by decide +kernel), fun _ h => nomatch h⟩)) rfl (xcR ⟨dX24_does_12, rfl⟩))))))
theorem okM_X24_does : XOkM xms rX24_does := xokM0 (List.forall_mem_cons.mpr ⟨⟨rfl, okX24_does_0⟩, fun _ h => nomatch h⟩) (xokH0 rfl (fun _ _ => rfl)) (by decide +kernel) (by decide)
abbrev cX25_init : ByteArray := prog_22_method_1_code
def dkwX25_init_0 : List UInt8 := [42, 27, 183, 0, 3, 42, 44, 181, 0, 9, 177]
abbrev dktX25_init_0 : List UInt8 := dkwX25_init_0 ++ []
theorem dksX25_init_0 : cX25_init.data.toList.drop 0 = dktX25_init_0 := by decide +kernel
theorem dX25_init_0 : decode cX25_init 0 = .ok (.aload_n 0, 1) := dk_42 (dk_at dksX25_init_0 0 rfl rfl)
theorem dX25_init_1 : decode cX25_init 1 = .ok (.iload_n 1, 1) := dk_27 (dk_at dksX25_init_0 1 rfl rfl)
theorem dX25_init_2 : decode cX25_init 2 = .ok (.invokespecial 3, 3) := dk_183 0 3 (dk_at dksX25_init_0 2 rfl rfl)
theorem dX25_init_5 : decode cX25_init 5 = .ok (.aload_n 0, 1) := dk_42 (dk_at dksX25_init_0 5 rfl rfl)
theorem dX25_init_6 : decode cX25_init 6 = .ok (.aload_n 2, 1) := dk_44 (dk_at dksX25_init_0 6 rfl rfl)
theorem dX25_init_7 : decode cX25_init 7 = .ok (.putfield 9, 3) := dk_181 0 9 (dk_at dksX25_init_0 7 rfl rfl)
theorem dX25_init_10 : decode cX25_init 10 = .ok (.return_, 1) := dk_177 (dk_at dksX25_init_0 10 rfl rfl)
theorem okX25_init_0 : XOkL xms rX25_init bX25_init_0 := xcP (xok_aload_n dX25_init_0 rfl) rfl (xcP (xok_iload_n dX25_init_1 rfl) rfl (xcC0 (xokc_I xm213 rfl rfl dX25_init_2 q1088 q961 q162 q962 rfl (by decide +kernel)) rfl (xcP (xok_aload_n dX25_init_5 rfl) rfl (xcP (xok_aload_n dX25_init_6 rfl) rfl (xcP (xok_putfield (ref := "WaysAtlas$Return") (Or.inr (Or.inr ⟨rfl, by decide, rfl⟩)) dX25_init_7 (Or.inl ⟨q1089, (Or.inl rfl)⟩) (Or.inr ⟨rfl, rfl, ⟨q1089, (Or.inl rfl)⟩⟩) xh1127) rfl (xcR ⟨dX25_init_10, rfl⟩))))))
theorem okM_X25_init : XOkM xms rX25_init := xokM0 (List.forall_mem_cons.mpr ⟨⟨rfl, okX25_init_0⟩, fun _ h => nomatch h⟩) (xokH0 rfl (fun _ _ => rfl)) (by decide +kernel) (by decide)
abbrev cX25_tells : ByteArray := prog_22_method_4_code
def dkwX25_tells_0 : List UInt8 := [43, 6, 42, 180, 0, 31, 3, 182, 0, 34, 87, 43, 4, 182, 0, 40, 177]
abbrev dktX25_tells_0 : List UInt8 := dkwX25_tells_0 ++ []
theorem dksX25_tells_0 : cX25_tells.data.toList.drop 0 = dktX25_tells_0 := by decide +kernel
theorem dX25_tells_0 : decode cX25_tells 0 = .ok (.aload_n 1, 1) := dk_43 (dk_at dksX25_tells_0 0 rfl rfl)
theorem dX25_tells_1 : decode cX25_tells 1 = .ok (.iconst 3, 1) := dk_6 (dk_at dksX25_tells_0 1 rfl rfl)
theorem dX25_tells_2 : decode cX25_tells 2 = .ok (.aload_n 0, 1) := dk_42 (dk_at dksX25_tells_0 2 rfl rfl)
theorem dX25_tells_3 : decode cX25_tells 3 = .ok (.getfield 31, 3) := dk_180 0 31 (dk_at dksX25_tells_0 3 rfl rfl)
theorem dX25_tells_6 : decode cX25_tells 6 = .ok (.iconst 0, 1) := dk_3 (dk_at dksX25_tells_0 6 rfl rfl)
theorem dX25_tells_7 : decode cX25_tells 7 = .ok (.invokevirtual 34, 3) := dk_182 0 34 (dk_at dksX25_tells_0 7 rfl rfl)
theorem dX25_tells_10 : decode cX25_tells 10 = .ok (.pop, 1) := dk_87 (dk_at dksX25_tells_0 10 rfl rfl)
theorem dX25_tells_11 : decode cX25_tells 11 = .ok (.aload_n 1, 1) := dk_43 (dk_at dksX25_tells_0 11 rfl rfl)
theorem dX25_tells_12 : decode cX25_tells 12 = .ok (.iconst 1, 1) := dk_4 (dk_at dksX25_tells_0 12 rfl rfl)
theorem dX25_tells_13 : decode cX25_tells 13 = .ok (.invokevirtual 40, 3) := dk_182 0 40 (dk_at dksX25_tells_0 13 rfl rfl)
theorem dX25_tells_16 : decode cX25_tells 16 = .ok (.return_, 1) := dk_177 (dk_at dksX25_tells_0 16 rfl rfl)
theorem okX25_tells_0 : XOkL xms rX25_tells bX25_tells_0 := xcP (xok_aload_n dX25_tells_0 rfl) rfl (xcP (xok_iconst dX25_tells_1 rfl) rfl (xcP (xok_aload_n dX25_tells_2 rfl) rfl (xcP (xok_getfield (ref := "WaysAtlas$Return") (Or.inl ⟨rfl, by decide⟩) dX25_tells_3 (Or.inl ⟨q983, (Or.inr q984)⟩) xh82) rfl (xcP (xok_iconst dX25_tells_6 rfl) rfl (xcC0 (xokc_list (List.forall_mem_cons.mpr ⟨xokc_V (r := (RX33, TX33, 6)) xm276 (List.mem_of_getElem? (i := 30) rfl) (by decide) rfl dX25_tells_7 q1470 q1280 q1281 q179 q1282 (by decide +kernel), fun _ h => nomatch h⟩)) rfl (xcP (xok_pop dX25_tells_10) rfl (xcP (xok_aload_n dX25_tells_11 rfl) rfl (xcP (xok_iconst dX25_tells_12 rfl) rfl (xcC0 (xokc_list (List.forall_mem_cons.mpr ⟨xokc_V (r := (RX33, TX33, 6)) xm288 (List.mem_of_getElem? (i := 30) rfl) (by decide) rfl dX25_tells_13 q1471 q1418 q1419 q179 q1420 (by decide +kernel), fun _ h => nomatch h⟩)) rfl (xcR ⟨dX25_tells_16, rfl⟩))))))))))
theorem okM_X25_tells : XOkM xms rX25_tells := xokM0 (List.forall_mem_cons.mpr ⟨⟨rfl, okX25_tells_0⟩, fun _ h => nomatch h⟩) (xokH0 rfl (fun _ _ => rfl)) (by decide +kernel) (by decide)
abbrev cX25_walk : ByteArray := prog_22_method_3_code
def dkwX25_walk_0 : List UInt8 := [42, 43, 44, 182, 0, 27, 4, 172]
abbrev dktX25_walk_0 : List UInt8 := dkwX25_walk_0 ++ []
theorem dksX25_walk_0 : cX25_walk.data.toList.drop 0 = dktX25_walk_0 := by decide +kernel
theorem dX25_walk_0 : decode cX25_walk 0 = .ok (.aload_n 0, 1) := dk_42 (dk_at dksX25_walk_0 0 rfl rfl)
theorem dX25_walk_1 : decode cX25_walk 1 = .ok (.aload_n 1, 1) := dk_43 (dk_at dksX25_walk_0 1 rfl rfl)
theorem dX25_walk_2 : decode cX25_walk 2 = .ok (.aload_n 2, 1) := dk_44 (dk_at dksX25_walk_0 2 rfl rfl)
theorem dX25_walk_3 : decode cX25_walk 3 = .ok (.invokevirtual 27, 3) := dk_182 0 27 (dk_at dksX25_walk_0 3 rfl rfl)
theorem dX25_walk_6 : decode cX25_walk 6 = .ok (.iconst 1, 1) := dk_4 (dk_at dksX25_walk_0 6 rfl rfl)
theorem dX25_walk_7 : decode cX25_walk 7 = .ok (.ireturn, 1) := dk_172 (dk_at dksX25_walk_0 7 rfl rfl)
theorem okX25_walk_0 : XOkL xms rX25_walk bX25_walk_0 := xcP (xok_aload_n dX25_walk_0 rfl) rfl (xcP (xok_aload_n dX25_walk_1 rfl) rfl (xcP (xok_aload_n dX25_walk_2 rfl) rfl (xcC0 (xokc_list (List.forall_mem_cons.mpr ⟨xokc_V (r := (RX25, TX25, 2)) xm238 (List.mem_of_getElem? (i := 22) rfl) (by decide) rfl dX25_walk_3 q1768 q1769 q1770 q170 q1771 (by decide +kernel), fun _ h => nomatch h⟩)) rfl (xcP (xok_iconst dX25_walk_6 rfl) rfl (xcR ⟨dX25_walk_7, rfl⟩)))))
theorem okM_X25_walk : XOkM xms rX25_walk := xokM0 (List.forall_mem_cons.mpr ⟨⟨rfl, okX25_walk_0⟩, fun _ h => nomatch h⟩) (xokH0 rfl (fun _ _ => rfl)) (by decide +kernel) (by decide)
abbrev cX25_does : ByteArray := prog_22_method_2_code
def dkwX25_does_0 : List UInt8 := [44, 42, 180, 0, 9, 43, 44, 182, 0, 15, 181, 0, 21, 177]
abbrev dktX25_does_0 : List UInt8 := dkwX25_does_0 ++ []
theorem dksX25_does_0 : cX25_does.data.toList.drop 0 = dktX25_does_0 := by decide +kernel
theorem dX25_does_0 : decode cX25_does 0 = .ok (.aload_n 2, 1) := dk_44 (dk_at dksX25_does_0 0 rfl rfl)
theorem dX25_does_1 : decode cX25_does 1 = .ok (.aload_n 0, 1) := dk_42 (dk_at dksX25_does_0 1 rfl rfl)
theorem dX25_does_2 : decode cX25_does 2 = .ok (.getfield 9, 3) := dk_180 0 9 (dk_at dksX25_does_0 2 rfl rfl)
theorem dX25_does_5 : decode cX25_does 5 = .ok (.aload_n 1, 1) := dk_43 (dk_at dksX25_does_0 5 rfl rfl)
theorem dX25_does_6 : decode cX25_does 6 = .ok (.aload_n 2, 1) := dk_44 (dk_at dksX25_does_0 6 rfl rfl)
theorem dX25_does_7 : decode cX25_does 7 = .ok (.invokevirtual 15, 3) := dk_182 0 15 (dk_at dksX25_does_0 7 rfl rfl)
theorem dX25_does_10 : decode cX25_does 10 = .ok (.putfield 21, 3) := dk_181 0 21 (dk_at dksX25_does_0 10 rfl rfl)
theorem dX25_does_13 : decode cX25_does 13 = .ok (.return_, 1) := dk_177 (dk_at dksX25_does_0 13 rfl rfl)
theorem okX25_does_0 : XOkL xms rX25_does bX25_does_0 := xcP (xok_aload_n dX25_does_0 rfl) rfl (xcP (xok_aload_n dX25_does_1 rfl) rfl (xcP (xok_getfield (ref := "WaysAtlas$Return") (Or.inr ⟨rfl, by decide⟩) dX25_does_2 (Or.inl ⟨q1089, (Or.inl rfl)⟩) xh1127) rfl (xcP (xok_aload_n dX25_does_5 rfl) rfl (xcP (xok_aload_n dX25_does_6 rfl) rfl (xcC0 (xokc_list (List.forall_mem_cons.mpr ⟨xokc_A (owner := "WaysAtlas$Node") (r := (RX13, TX13, 3)) xm205 (List.mem_of_getElem? (i := 12) rfl) (by decide) rfl dX25_does_7 q1772 q1624 (List.mem_of_getElem? (i := 0) rfl) q1644 q1633 q158 q1634 (by decide +kernel), List.forall_mem_cons.mpr ⟨xokc_A (owner := "WaysAtlas$Node") (r := (RX14, TX14, 1)) xm207 (List.mem_of_getElem? (i := 13) rfl) (by decide) rfl dX25_does_7 q1772 q1624 (List.mem_of_getElem? (i := 0) rfl) q1625 q1626 q159 q1627 (by decide +kernel), List.forall_mem_cons.mpr ⟨xokc_A (owner := "WaysAtlas$Node") (r := (RX15, TX15, 1)) xm209 (List.mem_of_getElem? (i := 14) rfl) (by decide) rfl dX25_does_7 q1772 q1624 (List.mem_of_getElem? (i := 0) rfl) q1645 q1636 q160 q1637 (by decide +kernel), List.forall_mem_cons.mpr ⟨xokc_A (owner := "WaysAtlas$Node") (r := (RX16, TX16, 2)) xm211 (List.mem_of_getElem? (i := 15) rfl) (by decide) rfl dX25_does_7 q1772 q1624 (List.mem_of_getElem? (i := 0) rfl) q1628 q1629 q161 q1630 (by decide +kernel), fun _ h => nomatch h⟩⟩⟩⟩)) rfl (xcP (xok_putfield (ref := "WaysAtlas$Frame") (Or.inl ⟨rfl, by decide, rfl⟩) dX25_does_10 (Or.inr ⟨⟨"WaysAtlas", (List.mem_of_getElem? (i := 83) rfl)⟩, (Or.inl rfl)⟩) (Or.inl rfl) xh34) rfl (xcR ⟨dX25_does_13, rfl⟩)))))))
theorem okM_X25_does : XOkM xms rX25_does := xokM0 (List.forall_mem_cons.mpr ⟨⟨rfl, okX25_does_0⟩, fun _ h => nomatch h⟩) (xokH0 rfl (fun _ _ => rfl)) (by decide +kernel) (by decide)
abbrev cX26_init : ByteArray := prog_7_method_1_code
def dkwX26_init_0 : List UInt8 := [42, 27, 183, 0, 3, 42, 44, 181, 0, 9, 42, 29, 181, 0, 15, 42, 25, 4, 181, 0, 19, 177]
abbrev dktX26_init_0 : List UInt8 := dkwX26_init_0 ++ []
theorem dksX26_init_0 : cX26_init.data.toList.drop 0 = dktX26_init_0 := by decide +kernel
theorem dX26_init_0 : decode cX26_init 0 = .ok (.aload_n 0, 1) := dk_42 (dk_at dksX26_init_0 0 rfl rfl)
theorem dX26_init_1 : decode cX26_init 1 = .ok (.iload_n 1, 1) := dk_27 (dk_at dksX26_init_0 1 rfl rfl)
theorem dX26_init_2 : decode cX26_init 2 = .ok (.invokespecial 3, 3) := dk_183 0 3 (dk_at dksX26_init_0 2 rfl rfl)
theorem dX26_init_5 : decode cX26_init 5 = .ok (.aload_n 0, 1) := dk_42 (dk_at dksX26_init_0 5 rfl rfl)
theorem dX26_init_6 : decode cX26_init 6 = .ok (.aload_n 2, 1) := dk_44 (dk_at dksX26_init_0 6 rfl rfl)
theorem dX26_init_7 : decode cX26_init 7 = .ok (.putfield 9, 3) := dk_181 0 9 (dk_at dksX26_init_0 7 rfl rfl)
theorem dX26_init_10 : decode cX26_init 10 = .ok (.aload_n 0, 1) := dk_42 (dk_at dksX26_init_0 10 rfl rfl)
theorem dX26_init_11 : decode cX26_init 11 = .ok (.iload_n 3, 1) := dk_29 (dk_at dksX26_init_0 11 rfl rfl)
theorem dX26_init_12 : decode cX26_init 12 = .ok (.putfield 15, 3) := dk_181 0 15 (dk_at dksX26_init_0 12 rfl rfl)
theorem dX26_init_15 : decode cX26_init 15 = .ok (.aload_n 0, 1) := dk_42 (dk_at dksX26_init_0 15 rfl rfl)
theorem dX26_init_16 : decode cX26_init 16 = .ok (.aload 4, 2) := dk_25 4 (dk_at dksX26_init_0 16 rfl rfl)
theorem dX26_init_18 : decode cX26_init 18 = .ok (.putfield 19, 3) := dk_181 0 19 (dk_at dksX26_init_0 18 rfl rfl)
theorem dX26_init_21 : decode cX26_init 21 = .ok (.return_, 1) := dk_177 (dk_at dksX26_init_0 21 rfl rfl)
theorem okX26_init_0 : XOkL xms rX26_init bX26_init_0 := xcP (xok_aload_n dX26_init_0 rfl) rfl (xcP (xok_iload_n dX26_init_1 rfl) rfl (xcC0 (xokc_I xm213 rfl rfl dX26_init_2 q1103 q961 q162 q962 rfl (by decide +kernel)) rfl (xcP (xok_aload_n dX26_init_5 rfl) rfl (xcP (xok_aload_n dX26_init_6 rfl) rfl (xcP (xok_putfield (ref := "WaysAtlas$If") (Or.inr (Or.inr ⟨rfl, by decide, rfl⟩)) dX26_init_7 (Or.inl ⟨q1104, (Or.inl rfl)⟩) (Or.inr ⟨rfl, rfl, ⟨q1104, (Or.inl rfl)⟩⟩) xh1128) rfl (xcP (xok_aload_n dX26_init_10 rfl) rfl (xcP (xok_iload_n dX26_init_11 rfl) rfl (xcP (xok_putfield (ref := "WaysAtlas$If") (Or.inl ⟨rfl, by decide, rfl⟩) dX26_init_12 (Or.inl ⟨q1105, (Or.inl rfl)⟩) (Or.inr ⟨rfl, rfl, ⟨q1105, (Or.inl rfl)⟩⟩) xh90) rfl (xcP (xok_aload_n dX26_init_15 rfl) rfl (xcP (xok_aload dX26_init_16) rfl (xcP (xok_putfield (ref := "WaysAtlas$If") (Or.inr (Or.inr ⟨rfl, by decide, rfl⟩)) dX26_init_18 (Or.inl ⟨q1106, (Or.inl rfl)⟩) (Or.inr ⟨rfl, rfl, ⟨q1106, (Or.inl rfl)⟩⟩) xh1129) rfl (xcR ⟨dX26_init_21, rfl⟩))))))))))))
theorem okM_X26_init : XOkM xms rX26_init := xokM0 (List.forall_mem_cons.mpr ⟨⟨rfl, okX26_init_0⟩, fun _ h => nomatch h⟩) (xokH0 rfl (fun _ _ => rfl)) (by decide +kernel) (by decide)
abbrev cX26_tells : ByteArray := prog_7_method_4_code
def dkwX26_tells_2 : List UInt8 := [180, 0, 56, 182, 0, 59, 177]
abbrev dktX26_tells_2 : List UInt8 := dkwX26_tells_2 ++ []
def dkwX26_tells_1 : List UInt8 := [182, 0, 46, 62, 43, 28, 43, 180, 0, 56, 182, 0, 59, 43, 42, 180, 0, 36, 182, 0, 52, 43, 29, 43]
abbrev dktX26_tells_1 : List UInt8 := dkwX26_tells_1 ++ dktX26_tells_2
def dkwX26_tells_0 : List UInt8 := [43, 7, 42, 180, 0, 43, 3, 182, 0, 46, 61, 43, 42, 180, 0, 32, 182, 0, 52, 43, 8, 3, 3]
abbrev dktX26_tells_0 : List UInt8 := dkwX26_tells_0 ++ dktX26_tells_1
theorem dksX26_tells_0 : cX26_tells.data.toList.drop 0 = dktX26_tells_0 := by decide +kernel
theorem dksX26_tells_1 : cX26_tells.data.toList.drop 23 = dktX26_tells_1 := dk_seg dksX26_tells_0 23 rfl rfl
theorem dksX26_tells_2 : cX26_tells.data.toList.drop 47 = dktX26_tells_2 := dk_seg dksX26_tells_1 24 rfl rfl
theorem dX26_tells_0 : decode cX26_tells 0 = .ok (.aload_n 1, 1) := dk_43 (dk_at dksX26_tells_0 0 rfl rfl)
theorem dX26_tells_1 : decode cX26_tells 1 = .ok (.iconst 4, 1) := dk_7 (dk_at dksX26_tells_0 1 rfl rfl)
theorem dX26_tells_2 : decode cX26_tells 2 = .ok (.aload_n 0, 1) := dk_42 (dk_at dksX26_tells_0 2 rfl rfl)
theorem dX26_tells_3 : decode cX26_tells 3 = .ok (.getfield 43, 3) := dk_180 0 43 (dk_at dksX26_tells_0 3 rfl rfl)
theorem dX26_tells_6 : decode cX26_tells 6 = .ok (.iconst 0, 1) := dk_3 (dk_at dksX26_tells_0 6 rfl rfl)
theorem dX26_tells_7 : decode cX26_tells 7 = .ok (.invokevirtual 46, 3) := dk_182 0 46 (dk_at dksX26_tells_0 7 rfl rfl)
theorem dX26_tells_10 : decode cX26_tells 10 = .ok (.istore_n 2, 1) := dk_61 (dk_at dksX26_tells_0 10 rfl rfl)
theorem dX26_tells_11 : decode cX26_tells 11 = .ok (.aload_n 1, 1) := dk_43 (dk_at dksX26_tells_0 11 rfl rfl)
theorem dX26_tells_12 : decode cX26_tells 12 = .ok (.aload_n 0, 1) := dk_42 (dk_at dksX26_tells_0 12 rfl rfl)
theorem dX26_tells_13 : decode cX26_tells 13 = .ok (.getfield 32, 3) := dk_180 0 32 (dk_at dksX26_tells_0 13 rfl rfl)
theorem dX26_tells_16 : decode cX26_tells 16 = .ok (.invokevirtual 52, 3) := dk_182 0 52 (dk_at dksX26_tells_0 16 rfl rfl)
theorem dX26_tells_19 : decode cX26_tells 19 = .ok (.aload_n 1, 1) := dk_43 (dk_at dksX26_tells_0 19 rfl rfl)
theorem dX26_tells_20 : decode cX26_tells 20 = .ok (.iconst 5, 1) := dk_8 (dk_at dksX26_tells_0 20 rfl rfl)
theorem dX26_tells_21 : decode cX26_tells 21 = .ok (.iconst 0, 1) := dk_3 (dk_at dksX26_tells_0 21 rfl rfl)
theorem dX26_tells_22 : decode cX26_tells 22 = .ok (.iconst 0, 1) := dk_3 (dk_at dksX26_tells_0 22 rfl rfl)
theorem dX26_tells_23 : decode cX26_tells 23 = .ok (.invokevirtual 46, 3) := dk_182 0 46 (dk_at dksX26_tells_1 0 rfl rfl)
theorem dX26_tells_26 : decode cX26_tells 26 = .ok (.istore_n 3, 1) := dk_62 (dk_at dksX26_tells_1 3 rfl rfl)
theorem dX26_tells_27 : decode cX26_tells 27 = .ok (.aload_n 1, 1) := dk_43 (dk_at dksX26_tells_1 4 rfl rfl)
theorem dX26_tells_28 : decode cX26_tells 28 = .ok (.iload_n 2, 1) := dk_28 (dk_at dksX26_tells_1 5 rfl rfl)
theorem dX26_tells_29 : decode cX26_tells 29 = .ok (.aload_n 1, 1) := dk_43 (dk_at dksX26_tells_1 6 rfl rfl)
theorem dX26_tells_30 : decode cX26_tells 30 = .ok (.getfield 56, 3) := dk_180 0 56 (dk_at dksX26_tells_1 7 rfl rfl)
theorem dX26_tells_33 : decode cX26_tells 33 = .ok (.invokevirtual 59, 3) := dk_182 0 59 (dk_at dksX26_tells_1 10 rfl rfl)
theorem dX26_tells_36 : decode cX26_tells 36 = .ok (.aload_n 1, 1) := dk_43 (dk_at dksX26_tells_1 13 rfl rfl)
theorem dX26_tells_37 : decode cX26_tells 37 = .ok (.aload_n 0, 1) := dk_42 (dk_at dksX26_tells_1 14 rfl rfl)
theorem dX26_tells_38 : decode cX26_tells 38 = .ok (.getfield 36, 3) := dk_180 0 36 (dk_at dksX26_tells_1 15 rfl rfl)
theorem dX26_tells_41 : decode cX26_tells 41 = .ok (.invokevirtual 52, 3) := dk_182 0 52 (dk_at dksX26_tells_1 18 rfl rfl)
theorem dX26_tells_44 : decode cX26_tells 44 = .ok (.aload_n 1, 1) := dk_43 (dk_at dksX26_tells_1 21 rfl rfl)
theorem dX26_tells_45 : decode cX26_tells 45 = .ok (.iload_n 3, 1) := dk_29 (dk_at dksX26_tells_1 22 rfl rfl)
theorem dX26_tells_46 : decode cX26_tells 46 = .ok (.aload_n 1, 1) := dk_43 (dk_at dksX26_tells_1 23 rfl rfl)
theorem dX26_tells_47 : decode cX26_tells 47 = .ok (.getfield 56, 3) := dk_180 0 56 (dk_at dksX26_tells_2 0 rfl rfl)
theorem dX26_tells_50 : decode cX26_tells 50 = .ok (.invokevirtual 59, 3) := dk_182 0 59 (dk_at dksX26_tells_2 3 rfl rfl)
theorem dX26_tells_53 : decode cX26_tells 53 = .ok (.return_, 1) := dk_177 (dk_at dksX26_tells_2 6 rfl rfl)
theorem okX26_tells_0 : XOkL xms rX26_tells bX26_tells_0 := xcP (xok_aload_n dX26_tells_0 rfl) rfl (xcP (xok_iconst dX26_tells_1 rfl) rfl (xcP (xok_aload_n dX26_tells_2 rfl) rfl (xcP (xok_getfield (ref := "WaysAtlas$If") (Or.inl ⟨rfl, by decide⟩) dX26_tells_3 (Or.inl ⟨q977, (Or.inr q978)⟩) xh82) rfl (xcP (xok_iconst dX26_tells_6 rfl) rfl (xcC0 (xokc_list (List.forall_mem_cons.mpr ⟨xokc_V (r := (RX33, TX33, 6)) xm276 (List.mem_of_getElem? (i := 30) rfl) (by decide) rfl dX26_tells_7 q1408 q1280 q1281 q179 q1282 (by decide +kernel), fun _ h => nomatch h⟩)) rfl (xcP (xok_istore_n dX26_tells_10 rfl) rfl (xcP (xok_aload_n dX26_tells_11 rfl) rfl (xcP (xok_aload_n dX26_tells_12 rfl) rfl (xcP (xok_getfield (ref := "WaysAtlas$If") (Or.inr ⟨rfl, by decide⟩) dX26_tells_13 (Or.inl ⟨q1107, (Or.inl rfl)⟩) xh1130) rfl (xcC0 (xokc_list (List.forall_mem_cons.mpr ⟨xokc_V (r := (RX33, TX33, 6)) xm275 (List.mem_of_getElem? (i := 30) rfl) (by decide) rfl dX26_tells_16 q1409 q1275 q1276 q179 q1277 (by decide +kernel), fun _ h => nomatch h⟩)) rfl (xcP (xok_aload_n dX26_tells_19 rfl) rfl (xcP (xok_iconst dX26_tells_20 rfl) rfl (xcP (xok_iconst dX26_tells_21 rfl) rfl (xcP (xok_iconst dX26_tells_22 rfl) rfl (xcC0 (xokc_list (List.forall_mem_cons.mpr ⟨xokc_V (r := (RX33, TX33, 6)) xm276 (List.mem_of_getElem? (i := 30) rfl) (by decide) rfl dX26_tells_23 q1408 q1280 q1281 q179 q1282 (by decide +kernel), fun _ h => nomatch h⟩)) rfl (xcP (xok_istore_n dX26_tells_26 rfl) rfl (xcP (xok_aload_n dX26_tells_27 rfl) rfl (xcP (xok_iload_n dX26_tells_28 rfl) rfl (xcP (xok_aload_n dX26_tells_29 rfl) rfl (xcP (xok_getfield (ref := "WaysAtlas$Lower") (Or.inl ⟨rfl, by decide⟩) dX26_tells_30 (Or.inr ⟨⟨"WaysAtlas", (List.mem_of_getElem? (i := 16) rfl)⟩, (Or.inl rfl)⟩) xh100) rfl (xcC0 (xokc_list (List.forall_mem_cons.mpr ⟨xokc_V (r := (RX33, TX33, 6)) xm284 (List.mem_of_getElem? (i := 30) rfl) (by decide) rfl dX26_tells_33 q1410 q1382 q1383 q179 q1384 (by decide +kernel), fun _ h => nomatch h⟩)) rfl (xcP (xok_aload_n dX26_tells_36 rfl) rfl (xcP (xok_aload_n dX26_tells_37 rfl) rfl (xcP (xok_getfield (ref := "WaysAtlas$If") (Or.inr ⟨rfl, by decide⟩) dX26_tells_38 (Or.inl ⟨q1109, (Or.inl rfl)⟩) xh1131) rfl (xcC0 (xokc_list (List.forall_mem_cons.mpr ⟨xokc_V (r := (RX33, TX33, 6)) xm275 (List.mem_of_getElem? (i := 30) rfl) (by decide) rfl dX26_tells_41 q1409 q1275 q1276 q179 q1277 (by decide +kernel), fun _ h => nomatch h⟩)) rfl (xcP (xok_aload_n dX26_tells_44 rfl) rfl (xcP (xok_iload_n dX26_tells_45 rfl) rfl (xcP (xok_aload_n dX26_tells_46 rfl) rfl (xcP (xok_getfield (ref := "WaysAtlas$Lower") (Or.inl ⟨rfl, by decide⟩) dX26_tells_47 (Or.inr ⟨⟨"WaysAtlas", (List.mem_of_getElem? (i := 16) rfl)⟩, (Or.inl rfl)⟩) xh100) rfl (xcC0 (xokc_list (List.forall_mem_cons.mpr ⟨xokc_V (r := (RX33, TX33, 6)) xm284 (List.mem_of_getElem? (i := 30) rfl) (by decide) rfl dX26_tells_50 q1410 q1382 q1383 q179 q1384 (by decide +kernel), fun _ h => nomatch h⟩)) rfl (xcR ⟨dX26_tells_53, rfl⟩)))))))))))))))))))))))))))))))
theorem okM_X26_tells : XOkM xms rX26_tells := xokM0 (List.forall_mem_cons.mpr ⟨⟨rfl, okX26_tells_0⟩, fun _ h => nomatch h⟩) (xokH0 rfl (fun _ _ => rfl)) (by decide +kernel) (by decide)
abbrev cX26_walk : ByteArray := prog_7_method_3_code
def dkwX26_walk_1 : List UInt8 := [184, 0, 39, 172]
abbrev dktX26_walk_1 : List UInt8 := dkwX26_walk_1 ++ []
def dkwX26_walk_0 : List UInt8 := [42, 43, 44, 182, 0, 28, 153, 0, 10, 42, 180, 0, 32, 167, 0, 7, 42, 180, 0, 36, 43, 44]
abbrev dktX26_walk_0 : List UInt8 := dkwX26_walk_0 ++ dktX26_walk_1
theorem dksX26_walk_0 : cX26_walk.data.toList.drop 0 = dktX26_walk_0 := by decide +kernel
theorem dksX26_walk_1 : cX26_walk.data.toList.drop 22 = dktX26_walk_1 := dk_seg dksX26_walk_0 22 rfl rfl
theorem dX26_walk_0 : decode cX26_walk 0 = .ok (.aload_n 0, 1) := dk_42 (dk_at dksX26_walk_0 0 rfl rfl)
theorem dX26_walk_1 : decode cX26_walk 1 = .ok (.aload_n 1, 1) := dk_43 (dk_at dksX26_walk_0 1 rfl rfl)
theorem dX26_walk_2 : decode cX26_walk 2 = .ok (.aload_n 2, 1) := dk_44 (dk_at dksX26_walk_0 2 rfl rfl)
theorem dX26_walk_3 : decode cX26_walk 3 = .ok (.invokevirtual 28, 3) := dk_182 0 28 (dk_at dksX26_walk_0 3 rfl rfl)
theorem dX26_walk_6 : decode cX26_walk 6 = .ok (.ifCond .eq 10, 3) := dk_153 0 10 (dk_at dksX26_walk_0 6 rfl rfl)
theorem dX26_walk_9 : decode cX26_walk 9 = .ok (.aload_n 0, 1) := dk_42 (dk_at dksX26_walk_0 9 rfl rfl)
theorem dX26_walk_10 : decode cX26_walk 10 = .ok (.getfield 32, 3) := dk_180 0 32 (dk_at dksX26_walk_0 10 rfl rfl)
theorem dX26_walk_13 : decode cX26_walk 13 = .ok (.goto 7, 3) := dk_167 0 7 (dk_at dksX26_walk_0 13 rfl rfl)
theorem dX26_walk_16 : decode cX26_walk 16 = .ok (.aload_n 0, 1) := dk_42 (dk_at dksX26_walk_0 16 rfl rfl)
theorem dX26_walk_17 : decode cX26_walk 17 = .ok (.getfield 36, 3) := dk_180 0 36 (dk_at dksX26_walk_0 17 rfl rfl)
theorem dX26_walk_20 : decode cX26_walk 20 = .ok (.aload_n 1, 1) := dk_43 (dk_at dksX26_walk_0 20 rfl rfl)
theorem dX26_walk_21 : decode cX26_walk 21 = .ok (.aload_n 2, 1) := dk_44 (dk_at dksX26_walk_0 21 rfl rfl)
theorem dX26_walk_22 : decode cX26_walk 22 = .ok (.invokestatic 39, 3) := dk_184 0 39 (dk_at dksX26_walk_1 0 rfl rfl)
theorem dX26_walk_25 : decode cX26_walk 25 = .ok (.ireturn, 1) := dk_172 (dk_at dksX26_walk_1 3 rfl rfl)
theorem okX26_walk_0 : XOkL xms rX26_walk bX26_walk_0 := xcP (xok_aload_n dX26_walk_0 rfl) rfl (xcP (xok_aload_n dX26_walk_1 rfl) rfl (xcP (xok_aload_n dX26_walk_2 rfl) rfl (xcC0 (xokc_list (List.forall_mem_cons.mpr ⟨xokc_V (r := (RX26, TX26, 6)) xm242 (List.mem_of_getElem? (i := 23) rfl) (by decide) rfl dX26_walk_3 q1699 q1700 q1701 q171 q1702 (by decide +kernel), fun _ h => nomatch h⟩)) rfl (xcP (xok_ifeq dX26_walk_6 (by decide)) rfl (xcP (xok_aload_n dX26_walk_9 rfl) rfl (xcP (xok_getfield (ref := "WaysAtlas$If") (Or.inr ⟨rfl, by decide⟩) dX26_walk_10 (Or.inl ⟨q1107, (Or.inl rfl)⟩) xh1130) rfl (xcP (xok_goto dX26_walk_13 (by decide)) rfl trivial)))))))
theorem okX26_walk_16 : XOkL xms rX26_walk bX26_walk_16 := xcP (xok_aload_n dX26_walk_16 rfl) rfl (xcP (xok_getfield (ref := "WaysAtlas$If") (Or.inr ⟨rfl, by decide⟩) dX26_walk_17 (Or.inl ⟨q1109, (Or.inl rfl)⟩) xh1131) rfl (xcP xok_fal rfl trivial))
theorem okX26_walk_20 : XOkL xms rX26_walk bX26_walk_20 := xcP (xok_aload_n dX26_walk_20 rfl) rfl (xcP (xok_aload_n dX26_walk_21 rfl) rfl (xcC0 (xokc_SN (host := "WaysAtlas") xm14 rfl dX26_walk_22 (List.mem_of_getElem? (i := 2) rfl) q1591 q138 q1592 (by decide +kernel)) rfl (xcR ⟨dX26_walk_25, rfl⟩)))
theorem okM_X26_walk : XOkM xms rX26_walk := xokM0 (List.forall_mem_cons.mpr ⟨⟨rfl, okX26_walk_0⟩, List.forall_mem_cons.mpr ⟨⟨rfl, okX26_walk_16⟩, List.forall_mem_cons.mpr ⟨⟨rfl, okX26_walk_20⟩, fun _ h => nomatch h⟩⟩⟩) (xokH0 rfl (fun _ _ => rfl)) (by decide +kernel) (by decide)
abbrev cX26_holds : ByteArray := prog_7_method_2_code
def dkwX26_holds_3 : List UInt8 := [21, 4, 164, 0, 7, 4, 167, 0, 4, 3, 172]
abbrev dktX26_holds_3 : List UInt8 := dkwX26_holds_3 ++ []
def dkwX26_holds_2 : List UInt8 := [180, 0, 15, 16, 60, 160, 0, 17, 29, 21, 4, 162, 0, 7, 4, 167, 0, 18, 3, 167, 0, 14, 29]
abbrev dktX26_holds_2 : List UInt8 := dkwX26_holds_2 ++ dktX26_holds_3
def dkwX26_holds_1 : List UInt8 := [180, 0, 15, 16, 61, 160, 0, 17, 29, 21, 4, 160, 0, 7, 4, 167, 0, 41, 3, 167, 0, 37, 42]
abbrev dktX26_holds_1 : List UInt8 := dkwX26_holds_1 ++ dktX26_holds_2
def dkwX26_holds_0 : List UInt8 := [42, 180, 0, 9, 43, 44, 182, 0, 22, 62, 42, 180, 0, 19, 43, 44, 182, 0, 22, 54, 4, 42]
abbrev dktX26_holds_0 : List UInt8 := dkwX26_holds_0 ++ dktX26_holds_1
theorem dksX26_holds_0 : cX26_holds.data.toList.drop 0 = dktX26_holds_0 := by decide +kernel
theorem dksX26_holds_1 : cX26_holds.data.toList.drop 22 = dktX26_holds_1 := dk_seg dksX26_holds_0 22 rfl rfl
theorem dksX26_holds_2 : cX26_holds.data.toList.drop 45 = dktX26_holds_2 := dk_seg dksX26_holds_1 23 rfl rfl
theorem dksX26_holds_3 : cX26_holds.data.toList.drop 68 = dktX26_holds_3 := dk_seg dksX26_holds_2 23 rfl rfl
theorem dX26_holds_0 : decode cX26_holds 0 = .ok (.aload_n 0, 1) := dk_42 (dk_at dksX26_holds_0 0 rfl rfl)
theorem dX26_holds_1 : decode cX26_holds 1 = .ok (.getfield 9, 3) := dk_180 0 9 (dk_at dksX26_holds_0 1 rfl rfl)
theorem dX26_holds_4 : decode cX26_holds 4 = .ok (.aload_n 1, 1) := dk_43 (dk_at dksX26_holds_0 4 rfl rfl)
theorem dX26_holds_5 : decode cX26_holds 5 = .ok (.aload_n 2, 1) := dk_44 (dk_at dksX26_holds_0 5 rfl rfl)
theorem dX26_holds_6 : decode cX26_holds 6 = .ok (.invokevirtual 22, 3) := dk_182 0 22 (dk_at dksX26_holds_0 6 rfl rfl)
theorem dX26_holds_9 : decode cX26_holds 9 = .ok (.istore_n 3, 1) := dk_62 (dk_at dksX26_holds_0 9 rfl rfl)
theorem dX26_holds_10 : decode cX26_holds 10 = .ok (.aload_n 0, 1) := dk_42 (dk_at dksX26_holds_0 10 rfl rfl)
theorem dX26_holds_11 : decode cX26_holds 11 = .ok (.getfield 19, 3) := dk_180 0 19 (dk_at dksX26_holds_0 11 rfl rfl)
theorem dX26_holds_14 : decode cX26_holds 14 = .ok (.aload_n 1, 1) := dk_43 (dk_at dksX26_holds_0 14 rfl rfl)
theorem dX26_holds_15 : decode cX26_holds 15 = .ok (.aload_n 2, 1) := dk_44 (dk_at dksX26_holds_0 15 rfl rfl)
theorem dX26_holds_16 : decode cX26_holds 16 = .ok (.invokevirtual 22, 3) := dk_182 0 22 (dk_at dksX26_holds_0 16 rfl rfl)
theorem dX26_holds_19 : decode cX26_holds 19 = .ok (.istore 4, 2) := dk_54 4 (dk_at dksX26_holds_0 19 rfl rfl)
theorem dX26_holds_21 : decode cX26_holds 21 = .ok (.aload_n 0, 1) := dk_42 (dk_at dksX26_holds_0 21 rfl rfl)
theorem dX26_holds_22 : decode cX26_holds 22 = .ok (.getfield 15, 3) := dk_180 0 15 (dk_at dksX26_holds_1 0 rfl rfl)
theorem dX26_holds_25 : decode cX26_holds 25 = .ok (.bipush 61, 2) := dk_16 61 (dk_at dksX26_holds_1 3 rfl rfl)
theorem dX26_holds_27 : decode cX26_holds 27 = .ok (.if_icmp .ne 17, 3) := dk_160 0 17 (dk_at dksX26_holds_1 5 rfl rfl)
theorem dX26_holds_30 : decode cX26_holds 30 = .ok (.iload_n 3, 1) := dk_29 (dk_at dksX26_holds_1 8 rfl rfl)
theorem dX26_holds_31 : decode cX26_holds 31 = .ok (.iload 4, 2) := dk_21 4 (dk_at dksX26_holds_1 9 rfl rfl)
theorem dX26_holds_33 : decode cX26_holds 33 = .ok (.if_icmp .ne 7, 3) := dk_160 0 7 (dk_at dksX26_holds_1 11 rfl rfl)
theorem dX26_holds_36 : decode cX26_holds 36 = .ok (.iconst 1, 1) := dk_4 (dk_at dksX26_holds_1 14 rfl rfl)
theorem dX26_holds_37 : decode cX26_holds 37 = .ok (.goto 41, 3) := dk_167 0 41 (dk_at dksX26_holds_1 15 rfl rfl)
theorem dX26_holds_40 : decode cX26_holds 40 = .ok (.iconst 0, 1) := dk_3 (dk_at dksX26_holds_1 18 rfl rfl)
theorem dX26_holds_41 : decode cX26_holds 41 = .ok (.goto 37, 3) := dk_167 0 37 (dk_at dksX26_holds_1 19 rfl rfl)
theorem dX26_holds_44 : decode cX26_holds 44 = .ok (.aload_n 0, 1) := dk_42 (dk_at dksX26_holds_1 22 rfl rfl)
theorem dX26_holds_45 : decode cX26_holds 45 = .ok (.getfield 15, 3) := dk_180 0 15 (dk_at dksX26_holds_2 0 rfl rfl)
theorem dX26_holds_48 : decode cX26_holds 48 = .ok (.bipush 60, 2) := dk_16 60 (dk_at dksX26_holds_2 3 rfl rfl)
theorem dX26_holds_50 : decode cX26_holds 50 = .ok (.if_icmp .ne 17, 3) := dk_160 0 17 (dk_at dksX26_holds_2 5 rfl rfl)
theorem dX26_holds_53 : decode cX26_holds 53 = .ok (.iload_n 3, 1) := dk_29 (dk_at dksX26_holds_2 8 rfl rfl)
theorem dX26_holds_54 : decode cX26_holds 54 = .ok (.iload 4, 2) := dk_21 4 (dk_at dksX26_holds_2 9 rfl rfl)
theorem dX26_holds_56 : decode cX26_holds 56 = .ok (.if_icmp .ge 7, 3) := dk_162 0 7 (dk_at dksX26_holds_2 11 rfl rfl)
theorem dX26_holds_59 : decode cX26_holds 59 = .ok (.iconst 1, 1) := dk_4 (dk_at dksX26_holds_2 14 rfl rfl)
theorem dX26_holds_60 : decode cX26_holds 60 = .ok (.goto 18, 3) := dk_167 0 18 (dk_at dksX26_holds_2 15 rfl rfl)
theorem dX26_holds_63 : decode cX26_holds 63 = .ok (.iconst 0, 1) := dk_3 (dk_at dksX26_holds_2 18 rfl rfl)
theorem dX26_holds_64 : decode cX26_holds 64 = .ok (.goto 14, 3) := dk_167 0 14 (dk_at dksX26_holds_2 19 rfl rfl)
theorem dX26_holds_67 : decode cX26_holds 67 = .ok (.iload_n 3, 1) := dk_29 (dk_at dksX26_holds_2 22 rfl rfl)
theorem dX26_holds_68 : decode cX26_holds 68 = .ok (.iload 4, 2) := dk_21 4 (dk_at dksX26_holds_3 0 rfl rfl)
theorem dX26_holds_70 : decode cX26_holds 70 = .ok (.if_icmp .le 7, 3) := dk_164 0 7 (dk_at dksX26_holds_3 2 rfl rfl)
theorem dX26_holds_73 : decode cX26_holds 73 = .ok (.iconst 1, 1) := dk_4 (dk_at dksX26_holds_3 5 rfl rfl)
theorem dX26_holds_74 : decode cX26_holds 74 = .ok (.goto 4, 3) := dk_167 0 4 (dk_at dksX26_holds_3 6 rfl rfl)
theorem dX26_holds_77 : decode cX26_holds 77 = .ok (.iconst 0, 1) := dk_3 (dk_at dksX26_holds_3 9 rfl rfl)
theorem dX26_holds_78 : decode cX26_holds 78 = .ok (.ireturn, 1) := dk_172 (dk_at dksX26_holds_3 10 rfl rfl)
theorem okX26_holds_0 : XOkL xms rX26_holds bX26_holds_0 := xcP (xok_aload_n dX26_holds_0 rfl) rfl (xcP (xok_getfield (ref := "WaysAtlas$If") (Or.inr ⟨rfl, by decide⟩) dX26_holds_1 (Or.inl ⟨q1104, (Or.inl rfl)⟩) xh1128) rfl (xcP (xok_aload_n dX26_holds_4 rfl) rfl (xcP (xok_aload_n dX26_holds_5 rfl) rfl (xcC0 (xokc_list (List.forall_mem_cons.mpr ⟨xokc_A (owner := "WaysAtlas$Node") (r := (RX13, TX13, 3)) xm205 (List.mem_of_getElem? (i := 12) rfl) (by decide) rfl dX26_holds_6 q1703 q1624 (List.mem_of_getElem? (i := 0) rfl) q1644 q1633 q158 q1634 (by decide +kernel), List.forall_mem_cons.mpr ⟨xokc_A (owner := "WaysAtlas$Node") (r := (RX14, TX14, 1)) xm207 (List.mem_of_getElem? (i := 13) rfl) (by decide) rfl dX26_holds_6 q1703 q1624 (List.mem_of_getElem? (i := 0) rfl) q1625 q1626 q159 q1627 (by decide +kernel), List.forall_mem_cons.mpr ⟨xokc_A (owner := "WaysAtlas$Node") (r := (RX15, TX15, 1)) xm209 (List.mem_of_getElem? (i := 14) rfl) (by decide) rfl dX26_holds_6 q1703 q1624 (List.mem_of_getElem? (i := 0) rfl) q1645 q1636 q160 q1637 (by decide +kernel), List.forall_mem_cons.mpr ⟨xokc_A (owner := "WaysAtlas$Node") (r := (RX16, TX16, 2)) xm211 (List.mem_of_getElem? (i := 15) rfl) (by decide) rfl dX26_holds_6 q1703 q1624 (List.mem_of_getElem? (i := 0) rfl) q1628 q1629 q161 q1630 (by decide +kernel), fun _ h => nomatch h⟩⟩⟩⟩)) rfl (xcP (xok_istore_n dX26_holds_9 rfl) rfl (xcP (xok_aload_n dX26_holds_10 rfl) rfl (xcP (xok_getfield (ref := "WaysAtlas$If") (Or.inr ⟨rfl, by decide⟩) dX26_holds_11 (Or.inl ⟨q1106, (Or.inl rfl)⟩) xh1129) rfl (xcP (xok_aload_n dX26_holds_14 rfl) rfl (xcP (xok_aload_n dX26_holds_15 rfl) rfl (xcC0 (xokc_list (List.forall_mem_cons.mpr ⟨xokc_A (owner := "WaysAtlas$Node") (r := (RX13, TX13, 3)) xm205 (List.mem_of_getElem? (i := 12) rfl) (by decide) rfl dX26_holds_16 q1703 q1624 (List.mem_of_getElem? (i := 0) rfl) q1644 q1633 q158 q1634 (by decide +kernel), List.forall_mem_cons.mpr ⟨xokc_A (owner := "WaysAtlas$Node") (r := (RX14, TX14, 1)) xm207 (List.mem_of_getElem? (i := 13) rfl) (by decide) rfl dX26_holds_16 q1703 q1624 (List.mem_of_getElem? (i := 0) rfl) q1625 q1626 q159 q1627 (by decide +kernel), List.forall_mem_cons.mpr ⟨xokc_A (owner := "WaysAtlas$Node") (r := (RX15, TX15, 1)) xm209 (List.mem_of_getElem? (i := 14) rfl) (by decide) rfl dX26_holds_16 q1703 q1624 (List.mem_of_getElem? (i := 0) rfl) q1645 q1636 q160 q1637 (by decide +kernel), List.forall_mem_cons.mpr ⟨xokc_A (owner := "WaysAtlas$Node") (r := (RX16, TX16, 2)) xm211 (List.mem_of_getElem? (i := 15) rfl) (by decide) rfl dX26_holds_16 q1703 q1624 (List.mem_of_getElem? (i := 0) rfl) q1628 q1629 q161 q1630 (by decide +kernel), fun _ h => nomatch h⟩⟩⟩⟩)) rfl (xcP (xok_istore dX26_holds_19) rfl (xcP (xok_aload_n dX26_holds_21 rfl) rfl (xcP (xok_getfield (ref := "WaysAtlas$If") (Or.inl ⟨rfl, by decide⟩) dX26_holds_22 (Or.inl ⟨q1105, (Or.inl rfl)⟩) xh90) rfl (xcP (xok_bipush dX26_holds_25 rfl) rfl (xcP (xok_icmpne dX26_holds_27 (by decide)) rfl (xcP (xok_iload_n dX26_holds_30 rfl) rfl (xcP (xok_iload dX26_holds_31) rfl (xcP (xok_icmpne dX26_holds_33 (by decide)) rfl (xcP (xok_iconst dX26_holds_36 rfl) rfl (xcP (xok_goto dX26_holds_37 (by decide)) rfl trivial))))))))))))))))))))
theorem okX26_holds_40 : XOkL xms rX26_holds bX26_holds_40 := xcP (xok_iconst dX26_holds_40 rfl) rfl (xcP (xok_goto dX26_holds_41 (by decide)) rfl trivial)
theorem okX26_holds_44 : XOkL xms rX26_holds bX26_holds_44 := xcP (xok_aload_n dX26_holds_44 rfl) rfl (xcP (xok_getfield (ref := "WaysAtlas$If") (Or.inl ⟨rfl, by decide⟩) dX26_holds_45 (Or.inl ⟨q1105, (Or.inl rfl)⟩) xh90) rfl (xcP (xok_bipush dX26_holds_48 rfl) rfl (xcP (xok_icmpne dX26_holds_50 (by decide)) rfl (xcP (xok_iload_n dX26_holds_53 rfl) rfl (xcP (xok_iload dX26_holds_54) rfl (xcP (xok_icmpge dX26_holds_56 (by decide)) rfl (xcP (xok_iconst dX26_holds_59 rfl) rfl (xcP (xok_goto dX26_holds_60 (by decide)) rfl trivial))))))))
theorem okX26_holds_63 : XOkL xms rX26_holds bX26_holds_63 := xcP (xok_iconst dX26_holds_63 rfl) rfl (xcP (xok_goto dX26_holds_64 (by decide)) rfl trivial)
theorem okX26_holds_67 : XOkL xms rX26_holds bX26_holds_67 := xcP (xok_iload_n dX26_holds_67 rfl) rfl (xcP (xok_iload dX26_holds_68) rfl (xcP (xok_icmple dX26_holds_70 (by decide)) rfl (xcP (xok_iconst dX26_holds_73 rfl) rfl (xcP (xok_goto dX26_holds_74 (by decide)) rfl trivial))))
theorem okX26_holds_77 : XOkL xms rX26_holds bX26_holds_77 := xcP (xok_iconst dX26_holds_77 rfl) rfl (xcP xok_fal rfl trivial)
theorem okX26_holds_78 : XOkL xms rX26_holds bX26_holds_78 := xcR ⟨dX26_holds_78, rfl⟩
theorem okM_X26_holds : XOkM xms rX26_holds := xokM0 (List.forall_mem_cons.mpr ⟨⟨rfl, okX26_holds_0⟩, List.forall_mem_cons.mpr ⟨⟨rfl, okX26_holds_40⟩, List.forall_mem_cons.mpr ⟨⟨rfl, okX26_holds_44⟩, List.forall_mem_cons.mpr ⟨⟨rfl, okX26_holds_63⟩, List.forall_mem_cons.mpr ⟨⟨rfl, okX26_holds_67⟩, List.forall_mem_cons.mpr ⟨⟨rfl, okX26_holds_77⟩, List.forall_mem_cons.mpr ⟨⟨rfl, okX26_holds_78⟩, fun _ h => nomatch h⟩⟩⟩⟩⟩⟩⟩) (xokH0 rfl (fun _ _ => rfl)) (by decide +kernel) (by decide)
abbrev cX27_init : ByteArray := prog_9_method_1_code
def dkwX27_init_0 : List UInt8 := [42, 27, 183, 0, 3, 42, 44, 181, 0, 9, 177]
abbrev dktX27_init_0 : List UInt8 := dkwX27_init_0 ++ []
theorem dksX27_init_0 : cX27_init.data.toList.drop 0 = dktX27_init_0 := by decide +kernel
theorem dX27_init_0 : decode cX27_init 0 = .ok (.aload_n 0, 1) := dk_42 (dk_at dksX27_init_0 0 rfl rfl)
theorem dX27_init_1 : decode cX27_init 1 = .ok (.iload_n 1, 1) := dk_27 (dk_at dksX27_init_0 1 rfl rfl)
theorem dX27_init_2 : decode cX27_init 2 = .ok (.invokespecial 3, 3) := dk_183 0 3 (dk_at dksX27_init_0 2 rfl rfl)
theorem dX27_init_5 : decode cX27_init 5 = .ok (.aload_n 0, 1) := dk_42 (dk_at dksX27_init_0 5 rfl rfl)
theorem dX27_init_6 : decode cX27_init 6 = .ok (.aload_n 2, 1) := dk_44 (dk_at dksX27_init_0 6 rfl rfl)
theorem dX27_init_7 : decode cX27_init 7 = .ok (.putfield 9, 3) := dk_181 0 9 (dk_at dksX27_init_0 7 rfl rfl)
theorem dX27_init_10 : decode cX27_init 10 = .ok (.return_, 1) := dk_177 (dk_at dksX27_init_0 10 rfl rfl)
theorem okX27_init_0 : XOkL xms rX27_init bX27_init_0 := xcP (xok_aload_n dX27_init_0 rfl) rfl (xcP (xok_iload_n dX27_init_1 rfl) rfl (xcC0 (xokc_I xm213 rfl rfl dX27_init_2 q1132 q961 q162 q962 rfl (by decide +kernel)) rfl (xcP (xok_aload_n dX27_init_5 rfl) rfl (xcP (xok_aload_n dX27_init_6 rfl) rfl (xcP (xok_putfield (ref := "WaysAtlas$Loop") (Or.inr (Or.inr ⟨rfl, by decide, rfl⟩)) dX27_init_7 (Or.inl ⟨q1133, (Or.inl rfl)⟩) (Or.inr ⟨rfl, rfl, ⟨q1133, (Or.inl rfl)⟩⟩) xh1132) rfl (xcR ⟨dX27_init_10, rfl⟩))))))
theorem okM_X27_init : XOkM xms rX27_init := xokM0 (List.forall_mem_cons.mpr ⟨⟨rfl, okX27_init_0⟩, fun _ h => nomatch h⟩) (xokH0 rfl (fun _ _ => rfl)) (by decide +kernel) (by decide)
abbrev cX27_tells : ByteArray := prog_9_method_5_code
def dkwX27_tells_3 : List UInt8 := [180, 0, 52, 182, 0, 70, 25, 4, 43, 43, 180, 0, 52, 182, 0, 74, 177]
abbrev dktX27_tells_3 : List UInt8 := dkwX27_tells_3 ++ []
def dkwX27_tells_2 : List UInt8 := [180, 0, 30, 182, 0, 64, 43, 182, 0, 67, 43, 8, 3, 28, 182, 0, 46, 54, 5, 43, 29, 43]
abbrev dktX27_tells_2 : List UInt8 := dkwX27_tells_2 ++ dktX27_tells_3
def dkwX27_tells_1 : List UInt8 := [180, 0, 38, 3, 182, 0, 46, 62, 43, 3, 42, 182, 0, 55, 58, 4, 25, 4, 28, 181, 0, 59, 43, 42]
abbrev dktX27_tells_1 : List UInt8 := dkwX27_tells_1 ++ dktX27_tells_2
def dkwX27_tells_0 : List UInt8 := [43, 16, 6, 42, 180, 0, 38, 42, 182, 0, 42, 182, 0, 46, 87, 43, 180, 0, 52, 61, 43, 16, 7, 42]
abbrev dktX27_tells_0 : List UInt8 := dkwX27_tells_0 ++ dktX27_tells_1
theorem dksX27_tells_0 : cX27_tells.data.toList.drop 0 = dktX27_tells_0 := by decide +kernel
theorem dksX27_tells_1 : cX27_tells.data.toList.drop 24 = dktX27_tells_1 := dk_seg dksX27_tells_0 24 rfl rfl
theorem dksX27_tells_2 : cX27_tells.data.toList.drop 48 = dktX27_tells_2 := dk_seg dksX27_tells_1 24 rfl rfl
theorem dksX27_tells_3 : cX27_tells.data.toList.drop 70 = dktX27_tells_3 := dk_seg dksX27_tells_2 22 rfl rfl
theorem dX27_tells_0 : decode cX27_tells 0 = .ok (.aload_n 1, 1) := dk_43 (dk_at dksX27_tells_0 0 rfl rfl)
theorem dX27_tells_1 : decode cX27_tells 1 = .ok (.bipush 6, 2) := dk_16 6 (dk_at dksX27_tells_0 1 rfl rfl)
theorem dX27_tells_3 : decode cX27_tells 3 = .ok (.aload_n 0, 1) := dk_42 (dk_at dksX27_tells_0 3 rfl rfl)
theorem dX27_tells_4 : decode cX27_tells 4 = .ok (.getfield 38, 3) := dk_180 0 38 (dk_at dksX27_tells_0 4 rfl rfl)
theorem dX27_tells_7 : decode cX27_tells 7 = .ok (.aload_n 0, 1) := dk_42 (dk_at dksX27_tells_0 7 rfl rfl)
theorem dX27_tells_8 : decode cX27_tells 8 = .ok (.invokevirtual 42, 3) := dk_182 0 42 (dk_at dksX27_tells_0 8 rfl rfl)
theorem dX27_tells_11 : decode cX27_tells 11 = .ok (.invokevirtual 46, 3) := dk_182 0 46 (dk_at dksX27_tells_0 11 rfl rfl)
theorem dX27_tells_14 : decode cX27_tells 14 = .ok (.pop, 1) := dk_87 (dk_at dksX27_tells_0 14 rfl rfl)
theorem dX27_tells_15 : decode cX27_tells 15 = .ok (.aload_n 1, 1) := dk_43 (dk_at dksX27_tells_0 15 rfl rfl)
theorem dX27_tells_16 : decode cX27_tells 16 = .ok (.getfield 52, 3) := dk_180 0 52 (dk_at dksX27_tells_0 16 rfl rfl)
theorem dX27_tells_19 : decode cX27_tells 19 = .ok (.istore_n 2, 1) := dk_61 (dk_at dksX27_tells_0 19 rfl rfl)
theorem dX27_tells_20 : decode cX27_tells 20 = .ok (.aload_n 1, 1) := dk_43 (dk_at dksX27_tells_0 20 rfl rfl)
theorem dX27_tells_21 : decode cX27_tells 21 = .ok (.bipush 7, 2) := dk_16 7 (dk_at dksX27_tells_0 21 rfl rfl)
theorem dX27_tells_23 : decode cX27_tells 23 = .ok (.aload_n 0, 1) := dk_42 (dk_at dksX27_tells_0 23 rfl rfl)
theorem dX27_tells_24 : decode cX27_tells 24 = .ok (.getfield 38, 3) := dk_180 0 38 (dk_at dksX27_tells_1 0 rfl rfl)
theorem dX27_tells_27 : decode cX27_tells 27 = .ok (.iconst 0, 1) := dk_3 (dk_at dksX27_tells_1 3 rfl rfl)
theorem dX27_tells_28 : decode cX27_tells 28 = .ok (.invokevirtual 46, 3) := dk_182 0 46 (dk_at dksX27_tells_1 4 rfl rfl)
theorem dX27_tells_31 : decode cX27_tells 31 = .ok (.istore_n 3, 1) := dk_62 (dk_at dksX27_tells_1 7 rfl rfl)
theorem dX27_tells_32 : decode cX27_tells 32 = .ok (.aload_n 1, 1) := dk_43 (dk_at dksX27_tells_1 8 rfl rfl)
theorem dX27_tells_33 : decode cX27_tells 33 = .ok (.iconst 0, 1) := dk_3 (dk_at dksX27_tells_1 9 rfl rfl)
theorem dX27_tells_34 : decode cX27_tells 34 = .ok (.aload_n 0, 1) := dk_42 (dk_at dksX27_tells_1 10 rfl rfl)
theorem dX27_tells_35 : decode cX27_tells 35 = .ok (.invokevirtual 55, 3) := dk_182 0 55 (dk_at dksX27_tells_1 11 rfl rfl)
theorem dX27_tells_38 : decode cX27_tells 38 = .ok (.astore 4, 2) := dk_58 4 (dk_at dksX27_tells_1 14 rfl rfl)
theorem dX27_tells_40 : decode cX27_tells 40 = .ok (.aload 4, 2) := dk_25 4 (dk_at dksX27_tells_1 16 rfl rfl)
theorem dX27_tells_42 : decode cX27_tells 42 = .ok (.iload_n 2, 1) := dk_28 (dk_at dksX27_tells_1 18 rfl rfl)
theorem dX27_tells_43 : decode cX27_tells 43 = .ok (.putfield 59, 3) := dk_181 0 59 (dk_at dksX27_tells_1 19 rfl rfl)
theorem dX27_tells_46 : decode cX27_tells 46 = .ok (.aload_n 1, 1) := dk_43 (dk_at dksX27_tells_1 22 rfl rfl)
theorem dX27_tells_47 : decode cX27_tells 47 = .ok (.aload_n 0, 1) := dk_42 (dk_at dksX27_tells_1 23 rfl rfl)
theorem dX27_tells_48 : decode cX27_tells 48 = .ok (.getfield 30, 3) := dk_180 0 30 (dk_at dksX27_tells_2 0 rfl rfl)
theorem dX27_tells_51 : decode cX27_tells 51 = .ok (.invokevirtual 64, 3) := dk_182 0 64 (dk_at dksX27_tells_2 3 rfl rfl)
theorem dX27_tells_54 : decode cX27_tells 54 = .ok (.aload_n 1, 1) := dk_43 (dk_at dksX27_tells_2 6 rfl rfl)
theorem dX27_tells_55 : decode cX27_tells 55 = .ok (.invokevirtual 67, 3) := dk_182 0 67 (dk_at dksX27_tells_2 7 rfl rfl)
theorem dX27_tells_58 : decode cX27_tells 58 = .ok (.aload_n 1, 1) := dk_43 (dk_at dksX27_tells_2 10 rfl rfl)
theorem dX27_tells_59 : decode cX27_tells 59 = .ok (.iconst 5, 1) := dk_8 (dk_at dksX27_tells_2 11 rfl rfl)
theorem dX27_tells_60 : decode cX27_tells 60 = .ok (.iconst 0, 1) := dk_3 (dk_at dksX27_tells_2 12 rfl rfl)
theorem dX27_tells_61 : decode cX27_tells 61 = .ok (.iload_n 2, 1) := dk_28 (dk_at dksX27_tells_2 13 rfl rfl)
theorem dX27_tells_62 : decode cX27_tells 62 = .ok (.invokevirtual 46, 3) := dk_182 0 46 (dk_at dksX27_tells_2 14 rfl rfl)
theorem dX27_tells_65 : decode cX27_tells 65 = .ok (.istore 5, 2) := dk_54 5 (dk_at dksX27_tells_2 17 rfl rfl)
theorem dX27_tells_67 : decode cX27_tells 67 = .ok (.aload_n 1, 1) := dk_43 (dk_at dksX27_tells_2 19 rfl rfl)
theorem dX27_tells_68 : decode cX27_tells 68 = .ok (.iload_n 3, 1) := dk_29 (dk_at dksX27_tells_2 20 rfl rfl)
theorem dX27_tells_69 : decode cX27_tells 69 = .ok (.aload_n 1, 1) := dk_43 (dk_at dksX27_tells_2 21 rfl rfl)
theorem dX27_tells_70 : decode cX27_tells 70 = .ok (.getfield 52, 3) := dk_180 0 52 (dk_at dksX27_tells_3 0 rfl rfl)
theorem dX27_tells_73 : decode cX27_tells 73 = .ok (.invokevirtual 70, 3) := dk_182 0 70 (dk_at dksX27_tells_3 3 rfl rfl)
theorem dX27_tells_76 : decode cX27_tells 76 = .ok (.aload 4, 2) := dk_25 4 (dk_at dksX27_tells_3 6 rfl rfl)
theorem dX27_tells_78 : decode cX27_tells 78 = .ok (.aload_n 1, 1) := dk_43 (dk_at dksX27_tells_3 8 rfl rfl)
theorem dX27_tells_79 : decode cX27_tells 79 = .ok (.aload_n 1, 1) := dk_43 (dk_at dksX27_tells_3 9 rfl rfl)
theorem dX27_tells_80 : decode cX27_tells 80 = .ok (.getfield 52, 3) := dk_180 0 52 (dk_at dksX27_tells_3 10 rfl rfl)
theorem dX27_tells_83 : decode cX27_tells 83 = .ok (.invokevirtual 74, 3) := dk_182 0 74 (dk_at dksX27_tells_3 13 rfl rfl)
theorem dX27_tells_86 : decode cX27_tells 86 = .ok (.return_, 1) := dk_177 (dk_at dksX27_tells_3 16 rfl rfl)
theorem okX27_tells_0 : XOkL xms rX27_tells bX27_tells_0 := xcP (xok_aload_n dX27_tells_0 rfl) rfl (xcP (xok_bipush dX27_tells_1 rfl) rfl (xcP (xok_aload_n dX27_tells_3 rfl) rfl (xcP (xok_getfield (ref := "WaysAtlas$Loop") (Or.inl ⟨rfl, by decide⟩) dX27_tells_4 (Or.inl ⟨q979, (Or.inr q980)⟩) xh82) rfl (xcP (xok_aload_n dX27_tells_7 rfl) rfl (xcC0 (xokc_list (List.forall_mem_cons.mpr ⟨xokc_V (r := (RX27, TX27, 3)) xm245 (List.mem_of_getElem? (i := 24) rfl) (by decide) rfl dX27_tells_8 q1441 q1442 q1443 q172 q1444 (by decide +kernel), fun _ h => nomatch h⟩)) rfl (xcC0 (xokc_list (List.forall_mem_cons.mpr ⟨xokc_V (r := (RX33, TX33, 6)) xm276 (List.mem_of_getElem? (i := 30) rfl) (by decide) rfl dX27_tells_11 q1445 q1280 q1281 q179 q1282 (by decide +kernel), fun _ h => nomatch h⟩)) rfl (xcP (xok_pop dX27_tells_14) rfl (xcP (xok_aload_n dX27_tells_15 rfl) rfl (xcP (xok_getfield (ref := "WaysAtlas$Lower") (Or.inl ⟨rfl, by decide⟩) dX27_tells_16 (Or.inr ⟨⟨"WaysAtlas", (List.mem_of_getElem? (i := 17) rfl)⟩, (Or.inl rfl)⟩) xh100) rfl (xcP (xok_istore_n dX27_tells_19 rfl) rfl (xcP (xok_aload_n dX27_tells_20 rfl) rfl (xcP (xok_bipush dX27_tells_21 rfl) rfl (xcP (xok_aload_n dX27_tells_23 rfl) rfl (xcP (xok_getfield (ref := "WaysAtlas$Loop") (Or.inl ⟨rfl, by decide⟩) dX27_tells_24 (Or.inl ⟨q979, (Or.inr q980)⟩) xh82) rfl (xcP (xok_iconst dX27_tells_27 rfl) rfl (xcC0 (xokc_list (List.forall_mem_cons.mpr ⟨xokc_V (r := (RX33, TX33, 6)) xm276 (List.mem_of_getElem? (i := 30) rfl) (by decide) rfl dX27_tells_28 q1445 q1280 q1281 q179 q1282 (by decide +kernel), fun _ h => nomatch h⟩)) rfl (xcP (xok_istore_n dX27_tells_31 rfl) rfl (xcP (xok_aload_n dX27_tells_32 rfl) rfl (xcP (xok_iconst dX27_tells_33 rfl) rfl (xcP (xok_aload_n dX27_tells_34 rfl) rfl (xcC0 (xokc_list (List.forall_mem_cons.mpr ⟨xokc_V (r := (RX33, TX33, 6)) xm280 (List.mem_of_getElem? (i := 30) rfl) (by decide) rfl dX27_tells_35 q1446 q1325 q1326 q179 q1327 (by decide +kernel), fun _ h => nomatch h⟩)) rfl (xcP (xok_astore dX27_tells_38) rfl (xcP (xok_aload dX27_tells_40) rfl (xcP (xok_iload_n dX27_tells_42 rfl) rfl (xcP (xok_putfield (ref := "WaysAtlas$Scope") (Or.inl ⟨rfl, by decide, rfl⟩) dX27_tells_43 (Or.inr ⟨⟨"WaysAtlas", (List.mem_of_getElem? (i := 18) rfl)⟩, (Or.inl rfl)⟩) (Or.inl rfl) xh99) rfl (xcP (xok_aload_n dX27_tells_46 rfl) rfl (xcP (xok_aload_n dX27_tells_47 rfl) rfl (xcP (xok_getfield (ref := "WaysAtlas$Loop") (Or.inr ⟨rfl, by decide⟩) dX27_tells_48 (Or.inl ⟨q1134, (Or.inl rfl)⟩) xh1133) rfl (xcC0 (xokc_list (List.forall_mem_cons.mpr ⟨xokc_V (r := (RX33, TX33, 6)) xm275 (List.mem_of_getElem? (i := 30) rfl) (by decide) rfl dX27_tells_51 q1447 q1275 q1276 q179 q1277 (by decide +kernel), fun _ h => nomatch h⟩)) rfl (xcP (xok_aload_n dX27_tells_54 rfl) rfl (xcC0 (xokc_list (List.forall_mem_cons.mpr ⟨xokc_V (r := (RX33, TX33, 6)) xm281 (List.mem_of_getElem? (i := 30) rfl) (by decide) rfl dX27_tells_55 q1448 q1366 q1367 q179 q1368 (by decide +kernel), fun _ h => nomatch h⟩)) rfl (xcP (xok_aload_n dX27_tells_58 rfl) rfl (xcP (xok_iconst dX27_tells_59 rfl) rfl (xcP (xok_iconst dX27_tells_60 rfl) rfl (xcP (xok_iload_n dX27_tells_61 rfl) rfl (xcC0 (xokc_list (List.forall_mem_cons.mpr ⟨xokc_V (r := (RX33, TX33, 6)) xm276 (List.mem_of_getElem? (i := 30) rfl) (by decide) rfl dX27_tells_62 q1445 q1280 q1281 q179 q1282 (by decide +kernel), fun _ h => nomatch h⟩)) rfl (xcP (xok_istore dX27_tells_65) rfl (xcP (xok_aload_n dX27_tells_67 rfl) rfl (xcP (xok_iload_n dX27_tells_68 rfl) rfl (xcP (xok_aload_n dX27_tells_69 rfl) rfl (xcP (xok_getfield (ref := "WaysAtlas$Lower") (Or.inl ⟨rfl, by decide⟩) dX27_tells_70 (Or.inr ⟨⟨"WaysAtlas", (List.mem_of_getElem? (i := 17) rfl)⟩, (Or.inl rfl)⟩) xh100) rfl (xcC0 (xokc_list (List.forall_mem_cons.mpr ⟨xokc_V (r := (RX33, TX33, 6)) xm284 (List.mem_of_getElem? (i := 30) rfl) (by decide) rfl dX27_tells_73 q1449 q1382 q1383 q179 q1384 (by decide +kernel), fun _ h => nomatch h⟩)) rfl (xcP (xok_aload dX27_tells_76) rfl (xcP (xok_aload_n dX27_tells_78 rfl) rfl (xcP (xok_aload_n dX27_tells_79 rfl) rfl (xcP (xok_getfield (ref := "WaysAtlas$Lower") (Or.inl ⟨rfl, by decide⟩) dX27_tells_80 (Or.inr ⟨⟨"WaysAtlas", (List.mem_of_getElem? (i := 17) rfl)⟩, (Or.inl rfl)⟩) xh100) rfl (xcC0 (xokc_list (List.forall_mem_cons.mpr ⟨xokc_V (r := (RX32, TX32, 8)) xm269 (List.mem_of_getElem? (i := 29) rfl) (by decide) rfl dX27_tells_83 q1450 q1390 q1391 q177 q1392 (by decide +kernel), fun _ h => nomatch h⟩)) rfl (xcR ⟨dX27_tells_86, rfl⟩))))))))))))))))))))))))))))))))))))))))))))))))
theorem okM_X27_tells : XOkM xms rX27_tells := xokM0 (List.forall_mem_cons.mpr ⟨⟨rfl, okX27_tells_0⟩, fun _ h => nomatch h⟩) (xokH0 rfl (fun _ _ => rfl)) (by decide +kernel) (by decide)
abbrev cX27_slot : ByteArray := prog_9_method_4_code
def dkwX27_slot_0 : List UInt8 := [16, 8, 42, 180, 0, 38, 104, 172]
abbrev dktX27_slot_0 : List UInt8 := dkwX27_slot_0 ++ []
theorem dksX27_slot_0 : cX27_slot.data.toList.drop 0 = dktX27_slot_0 := by decide +kernel
theorem dX27_slot_0 : decode cX27_slot 0 = .ok (.bipush 8, 2) := dk_16 8 (dk_at dksX27_slot_0 0 rfl rfl)
theorem dX27_slot_2 : decode cX27_slot 2 = .ok (.aload_n 0, 1) := dk_42 (dk_at dksX27_slot_0 2 rfl rfl)
theorem dX27_slot_3 : decode cX27_slot 3 = .ok (.getfield 38, 3) := dk_180 0 38 (dk_at dksX27_slot_0 3 rfl rfl)
theorem dX27_slot_6 : decode cX27_slot 6 = .ok (.imul, 1) := dk_104 (dk_at dksX27_slot_0 6 rfl rfl)
theorem dX27_slot_7 : decode cX27_slot 7 = .ok (.ireturn, 1) := dk_172 (dk_at dksX27_slot_0 7 rfl rfl)
theorem okX27_slot_0 : XOkL xms rX27_slot bX27_slot_0 := xcP (xok_bipush dX27_slot_0 rfl) rfl (xcP (xok_aload_n dX27_slot_2 rfl) rfl (xcP (xok_getfield (ref := "WaysAtlas$Loop") (Or.inl ⟨rfl, by decide⟩) dX27_slot_3 (Or.inl ⟨q979, (Or.inr q980)⟩) xh82) rfl (xcP (xok_imul dX27_slot_6) rfl (xcR ⟨dX27_slot_7, rfl⟩))))
theorem okM_X27_slot : XOkM xms rX27_slot := xokM0 (List.forall_mem_cons.mpr ⟨⟨rfl, okX27_slot_0⟩, fun _ h => nomatch h⟩) (xokH0 rfl (fun _ _ => rfl)) (by decide +kernel) (by decide)
abbrev cX27_walk : ByteArray := prog_9_method_3_code
def dkwX27_walk_3 : List UInt8 := [132, 4, 1, 167, 255, 192, 3, 172]
abbrev dktX27_walk_3 : List UInt8 := dkwX27_walk_3 ++ []
def dkwX27_walk_2 : List UInt8 := [160, 0, 7, 3, 167, 0, 18, 21, 5, 4, 164, 0, 10, 21, 5, 4, 100, 167, 0, 5, 21, 5, 172]
abbrev dktX27_walk_2 : List UInt8 := dkwX27_walk_2 ++ dktX27_walk_3
def dkwX27_walk_1 : List UInt8 := [43, 44, 184, 0, 34, 54, 5, 21, 5, 153, 0, 38, 21, 5, 17, 0, 201, 159, 0, 30, 21, 5, 16, 101]
abbrev dktX27_walk_1 : List UInt8 := dkwX27_walk_1 ++ dktX27_walk_2
def dkwX27_walk_0 : List UInt8 := [42, 43, 44, 182, 0, 21, 62, 3, 54, 4, 21, 4, 29, 162, 0, 64, 43, 182, 0, 24, 42, 180, 0, 30]
abbrev dktX27_walk_0 : List UInt8 := dkwX27_walk_0 ++ dktX27_walk_1
theorem dksX27_walk_0 : cX27_walk.data.toList.drop 0 = dktX27_walk_0 := by decide +kernel
theorem dksX27_walk_1 : cX27_walk.data.toList.drop 24 = dktX27_walk_1 := dk_seg dksX27_walk_0 24 rfl rfl
theorem dksX27_walk_2 : cX27_walk.data.toList.drop 48 = dktX27_walk_2 := dk_seg dksX27_walk_1 24 rfl rfl
theorem dksX27_walk_3 : cX27_walk.data.toList.drop 71 = dktX27_walk_3 := dk_seg dksX27_walk_2 23 rfl rfl
theorem dX27_walk_0 : decode cX27_walk 0 = .ok (.aload_n 0, 1) := dk_42 (dk_at dksX27_walk_0 0 rfl rfl)
theorem dX27_walk_1 : decode cX27_walk 1 = .ok (.aload_n 1, 1) := dk_43 (dk_at dksX27_walk_0 1 rfl rfl)
theorem dX27_walk_2 : decode cX27_walk 2 = .ok (.aload_n 2, 1) := dk_44 (dk_at dksX27_walk_0 2 rfl rfl)
theorem dX27_walk_3 : decode cX27_walk 3 = .ok (.invokevirtual 21, 3) := dk_182 0 21 (dk_at dksX27_walk_0 3 rfl rfl)
theorem dX27_walk_6 : decode cX27_walk 6 = .ok (.istore_n 3, 1) := dk_62 (dk_at dksX27_walk_0 6 rfl rfl)
theorem dX27_walk_7 : decode cX27_walk 7 = .ok (.iconst 0, 1) := dk_3 (dk_at dksX27_walk_0 7 rfl rfl)
theorem dX27_walk_8 : decode cX27_walk 8 = .ok (.istore 4, 2) := dk_54 4 (dk_at dksX27_walk_0 8 rfl rfl)
theorem dX27_walk_10 : decode cX27_walk 10 = .ok (.iload 4, 2) := dk_21 4 (dk_at dksX27_walk_0 10 rfl rfl)
theorem dX27_walk_12 : decode cX27_walk 12 = .ok (.iload_n 3, 1) := dk_29 (dk_at dksX27_walk_0 12 rfl rfl)
theorem dX27_walk_13 : decode cX27_walk 13 = .ok (.if_icmp .ge 64, 3) := dk_162 0 64 (dk_at dksX27_walk_0 13 rfl rfl)
theorem dX27_walk_16 : decode cX27_walk 16 = .ok (.aload_n 1, 1) := dk_43 (dk_at dksX27_walk_0 16 rfl rfl)
theorem dX27_walk_17 : decode cX27_walk 17 = .ok (.invokevirtual 24, 3) := dk_182 0 24 (dk_at dksX27_walk_0 17 rfl rfl)
theorem dX27_walk_20 : decode cX27_walk 20 = .ok (.aload_n 0, 1) := dk_42 (dk_at dksX27_walk_0 20 rfl rfl)
theorem dX27_walk_21 : decode cX27_walk 21 = .ok (.getfield 30, 3) := dk_180 0 30 (dk_at dksX27_walk_0 21 rfl rfl)
theorem dX27_walk_24 : decode cX27_walk 24 = .ok (.aload_n 1, 1) := dk_43 (dk_at dksX27_walk_1 0 rfl rfl)
theorem dX27_walk_25 : decode cX27_walk 25 = .ok (.aload_n 2, 1) := dk_44 (dk_at dksX27_walk_1 1 rfl rfl)
theorem dX27_walk_26 : decode cX27_walk 26 = .ok (.invokestatic 34, 3) := dk_184 0 34 (dk_at dksX27_walk_1 2 rfl rfl)
theorem dX27_walk_29 : decode cX27_walk 29 = .ok (.istore 5, 2) := dk_54 5 (dk_at dksX27_walk_1 5 rfl rfl)
theorem dX27_walk_31 : decode cX27_walk 31 = .ok (.iload 5, 2) := dk_21 5 (dk_at dksX27_walk_1 7 rfl rfl)
theorem dX27_walk_33 : decode cX27_walk 33 = .ok (.ifCond .eq 38, 3) := dk_153 0 38 (dk_at dksX27_walk_1 9 rfl rfl)
theorem dX27_walk_36 : decode cX27_walk 36 = .ok (.iload 5, 2) := dk_21 5 (dk_at dksX27_walk_1 12 rfl rfl)
theorem dX27_walk_38 : decode cX27_walk 38 = .ok (.sipush 201, 3) := dk_17 0 201 (dk_at dksX27_walk_1 14 rfl rfl)
theorem dX27_walk_41 : decode cX27_walk 41 = .ok (.if_icmp .eq 30, 3) := dk_159 0 30 (dk_at dksX27_walk_1 17 rfl rfl)
theorem dX27_walk_44 : decode cX27_walk 44 = .ok (.iload 5, 2) := dk_21 5 (dk_at dksX27_walk_1 20 rfl rfl)
theorem dX27_walk_46 : decode cX27_walk 46 = .ok (.bipush 101, 2) := dk_16 101 (dk_at dksX27_walk_1 22 rfl rfl)
theorem dX27_walk_48 : decode cX27_walk 48 = .ok (.if_icmp .ne 7, 3) := dk_160 0 7 (dk_at dksX27_walk_2 0 rfl rfl)
theorem dX27_walk_51 : decode cX27_walk 51 = .ok (.iconst 0, 1) := dk_3 (dk_at dksX27_walk_2 3 rfl rfl)
theorem dX27_walk_52 : decode cX27_walk 52 = .ok (.goto 18, 3) := dk_167 0 18 (dk_at dksX27_walk_2 4 rfl rfl)
theorem dX27_walk_55 : decode cX27_walk 55 = .ok (.iload 5, 2) := dk_21 5 (dk_at dksX27_walk_2 7 rfl rfl)
theorem dX27_walk_57 : decode cX27_walk 57 = .ok (.iconst 1, 1) := dk_4 (dk_at dksX27_walk_2 9 rfl rfl)
theorem dX27_walk_58 : decode cX27_walk 58 = .ok (.if_icmp .le 10, 3) := dk_164 0 10 (dk_at dksX27_walk_2 10 rfl rfl)
theorem dX27_walk_61 : decode cX27_walk 61 = .ok (.iload 5, 2) := dk_21 5 (dk_at dksX27_walk_2 13 rfl rfl)
theorem dX27_walk_63 : decode cX27_walk 63 = .ok (.iconst 1, 1) := dk_4 (dk_at dksX27_walk_2 15 rfl rfl)
theorem dX27_walk_64 : decode cX27_walk 64 = .ok (.isub, 1) := dk_100 (dk_at dksX27_walk_2 16 rfl rfl)
theorem dX27_walk_65 : decode cX27_walk 65 = .ok (.goto 5, 3) := dk_167 0 5 (dk_at dksX27_walk_2 17 rfl rfl)
theorem dX27_walk_68 : decode cX27_walk 68 = .ok (.iload 5, 2) := dk_21 5 (dk_at dksX27_walk_2 20 rfl rfl)
theorem dX27_walk_70 : decode cX27_walk 70 = .ok (.ireturn, 1) := dk_172 (dk_at dksX27_walk_2 22 rfl rfl)
theorem dX27_walk_71 : decode cX27_walk 71 = .ok (.iinc 4 1, 3) := dk_132 4 1 (dk_at dksX27_walk_3 0 rfl rfl)
theorem dX27_walk_74 : decode cX27_walk 74 = .ok (.goto (-64), 3) := dk_167 255 192 (dk_at dksX27_walk_3 3 rfl rfl)
theorem dX27_walk_77 : decode cX27_walk 77 = .ok (.iconst 0, 1) := dk_3 (dk_at dksX27_walk_3 6 rfl rfl)
theorem dX27_walk_78 : decode cX27_walk 78 = .ok (.ireturn, 1) := dk_172 (dk_at dksX27_walk_3 7 rfl rfl)
theorem okX27_walk_0 : XOkL xms rX27_walk bX27_walk_0 := xcP (xok_aload_n dX27_walk_0 rfl) rfl (xcP (xok_aload_n dX27_walk_1 rfl) rfl (xcP (xok_aload_n dX27_walk_2 rfl) rfl (xcC0 (xokc_list (List.forall_mem_cons.mpr ⟨xokc_V (r := (RX27, TX27, 3)) xm247 (List.mem_of_getElem? (i := 24) rfl) (by decide) rfl dX27_walk_3 q1715 q1716 q1717 q172 q1718 (by decide +kernel), fun _ h => nomatch h⟩)) rfl (xcP (xok_istore_n dX27_walk_6 rfl) rfl (xcP (xok_iconst dX27_walk_7 rfl) rfl (xcP (xok_istore dX27_walk_8) rfl (xcP xok_fal rfl trivial)))))))
theorem okX27_walk_10 : XOkL xms rX27_walk bX27_walk_10 := xcP (xok_iload dX27_walk_10) rfl (xcP (xok_iload_n dX27_walk_12 rfl) rfl (xcP (xok_icmpge dX27_walk_13 (by decide)) rfl (xcP (xok_aload_n dX27_walk_16 rfl) rfl (xcC0 (xokc_list (List.forall_mem_cons.mpr ⟨xokc_V (r := (RX5, TX5, 34)) xm85 (List.mem_of_getElem? (i := 5) rfl) (by decide) rfl dX27_walk_17 q1720 q1594 q1595 q143 q1596 (by decide +kernel), fun _ h => nomatch h⟩)) rfl (xcP (xok_aload_n dX27_walk_20 rfl) rfl (xcP (xok_getfield (ref := "WaysAtlas$Loop") (Or.inr ⟨rfl, by decide⟩) dX27_walk_21 (Or.inl ⟨q1134, (Or.inl rfl)⟩) xh1133) rfl (xcP (xok_aload_n dX27_walk_24 rfl) rfl (xcP (xok_aload_n dX27_walk_25 rfl) rfl (xcC0 (xokc_SN (host := "WaysAtlas") xm14 rfl dX27_walk_26 (List.mem_of_getElem? (i := 3) rfl) q1591 q138 q1592 (by decide +kernel)) rfl (xcP (xok_istore dX27_walk_29) rfl (xcP (xok_iload dX27_walk_31) rfl (xcP (xok_ifeq dX27_walk_33 (by decide)) rfl (xcP (xok_iload dX27_walk_36) rfl (xcP (xok_sipush dX27_walk_38 rfl) rfl (xcP (xok_icmpeq dX27_walk_41 (by decide)) rfl (xcP (xok_iload dX27_walk_44) rfl (xcP (xok_bipush dX27_walk_46 rfl) rfl (xcP (xok_icmpne dX27_walk_48 (by decide)) rfl (xcP (xok_iconst dX27_walk_51 rfl) rfl (xcP (xok_goto dX27_walk_52 (by decide)) rfl trivial))))))))))))))))))))
theorem okX27_walk_55 : XOkL xms rX27_walk bX27_walk_55 := xcP (xok_iload dX27_walk_55) rfl (xcP (xok_iconst dX27_walk_57 rfl) rfl (xcP (xok_icmple dX27_walk_58 (by decide)) rfl (xcP (xok_iload dX27_walk_61) rfl (xcP (xok_iconst dX27_walk_63 rfl) rfl (xcP (xok_isub dX27_walk_64) rfl (xcP (xok_goto dX27_walk_65 (by decide)) rfl trivial))))))
theorem okX27_walk_68 : XOkL xms rX27_walk bX27_walk_68 := xcP (xok_iload dX27_walk_68) rfl (xcP xok_fal rfl trivial)
theorem okX27_walk_70 : XOkL xms rX27_walk bX27_walk_70 := xcR ⟨dX27_walk_70, rfl⟩
theorem okX27_walk_71 : XOkL xms rX27_walk bX27_walk_71 := xcP (xok_iinc dX27_walk_71 rfl) rfl (xcP (xok_goto dX27_walk_74 (by decide)) rfl trivial)
theorem okX27_walk_77 : XOkL xms rX27_walk bX27_walk_77 := xcP (xok_iconst dX27_walk_77 rfl) rfl (xcR ⟨dX27_walk_78, rfl⟩)
theorem okM_X27_walk : XOkM xms rX27_walk := xokM0 (List.forall_mem_cons.mpr ⟨⟨rfl, okX27_walk_0⟩, List.forall_mem_cons.mpr ⟨⟨rfl, okX27_walk_10⟩, List.forall_mem_cons.mpr ⟨⟨rfl, okX27_walk_55⟩, List.forall_mem_cons.mpr ⟨⟨rfl, okX27_walk_68⟩, List.forall_mem_cons.mpr ⟨⟨rfl, okX27_walk_70⟩, List.forall_mem_cons.mpr ⟨⟨rfl, okX27_walk_71⟩, List.forall_mem_cons.mpr ⟨⟨rfl, okX27_walk_77⟩, fun _ h => nomatch h⟩⟩⟩⟩⟩⟩⟩) (xokH0 rfl (fun _ _ => rfl)) (by decide +kernel) (by decide)
abbrev cX27_turns : ByteArray := prog_9_method_2_code
def dkwX27_turns_0 : List UInt8 := [42, 180, 0, 9, 43, 44, 182, 0, 15, 172]
abbrev dktX27_turns_0 : List UInt8 := dkwX27_turns_0 ++ []
theorem dksX27_turns_0 : cX27_turns.data.toList.drop 0 = dktX27_turns_0 := by decide +kernel
theorem dX27_turns_0 : decode cX27_turns 0 = .ok (.aload_n 0, 1) := dk_42 (dk_at dksX27_turns_0 0 rfl rfl)
theorem dX27_turns_1 : decode cX27_turns 1 = .ok (.getfield 9, 3) := dk_180 0 9 (dk_at dksX27_turns_0 1 rfl rfl)
theorem dX27_turns_4 : decode cX27_turns 4 = .ok (.aload_n 1, 1) := dk_43 (dk_at dksX27_turns_0 4 rfl rfl)
theorem dX27_turns_5 : decode cX27_turns 5 = .ok (.aload_n 2, 1) := dk_44 (dk_at dksX27_turns_0 5 rfl rfl)
theorem dX27_turns_6 : decode cX27_turns 6 = .ok (.invokevirtual 15, 3) := dk_182 0 15 (dk_at dksX27_turns_0 6 rfl rfl)
theorem dX27_turns_9 : decode cX27_turns 9 = .ok (.ireturn, 1) := dk_172 (dk_at dksX27_turns_0 9 rfl rfl)
theorem okX27_turns_0 : XOkL xms rX27_turns bX27_turns_0 := xcP (xok_aload_n dX27_turns_0 rfl) rfl (xcP (xok_getfield (ref := "WaysAtlas$Loop") (Or.inr ⟨rfl, by decide⟩) dX27_turns_1 (Or.inl ⟨q1133, (Or.inl rfl)⟩) xh1132) rfl (xcP (xok_aload_n dX27_turns_4 rfl) rfl (xcP (xok_aload_n dX27_turns_5 rfl) rfl (xcC0 (xokc_list (List.forall_mem_cons.mpr ⟨xokc_A (owner := "WaysAtlas$Node") (r := (RX13, TX13, 3)) xm205 (List.mem_of_getElem? (i := 12) rfl) (by decide) rfl dX27_turns_6 q1719 q1624 (List.mem_of_getElem? (i := 0) rfl) q1644 q1633 q158 q1634 (by decide +kernel), List.forall_mem_cons.mpr ⟨xokc_A (owner := "WaysAtlas$Node") (r := (RX14, TX14, 1)) xm207 (List.mem_of_getElem? (i := 13) rfl) (by decide) rfl dX27_turns_6 q1719 q1624 (List.mem_of_getElem? (i := 0) rfl) q1625 q1626 q159 q1627 (by decide +kernel), List.forall_mem_cons.mpr ⟨xokc_A (owner := "WaysAtlas$Node") (r := (RX15, TX15, 1)) xm209 (List.mem_of_getElem? (i := 14) rfl) (by decide) rfl dX27_turns_6 q1719 q1624 (List.mem_of_getElem? (i := 0) rfl) q1645 q1636 q160 q1637 (by decide +kernel), List.forall_mem_cons.mpr ⟨xokc_A (owner := "WaysAtlas$Node") (r := (RX16, TX16, 2)) xm211 (List.mem_of_getElem? (i := 15) rfl) (by decide) rfl dX27_turns_6 q1719 q1624 (List.mem_of_getElem? (i := 0) rfl) q1628 q1629 q161 q1630 (by decide +kernel), fun _ h => nomatch h⟩⟩⟩⟩)) rfl (xcR ⟨dX27_turns_9, rfl⟩)))))
theorem okM_X27_turns : XOkM xms rX27_turns := xokM0 (List.forall_mem_cons.mpr ⟨⟨rfl, okX27_turns_0⟩, fun _ h => nomatch h⟩) (xokH0 rfl (fun _ _ => rfl)) (by decide +kernel) (by decide)
abbrev cX28_init : ByteArray := prog_8_method_1_code
def dkwX28_init_0 : List UInt8 := [42, 27, 183, 0, 1, 42, 28, 181, 0, 7, 177]
abbrev dktX28_init_0 : List UInt8 := dkwX28_init_0 ++ []
theorem dksX28_init_0 : cX28_init.data.toList.drop 0 = dktX28_init_0 := by decide +kernel
theorem dX28_init_0 : decode cX28_init 0 = .ok (.aload_n 0, 1) := dk_42 (dk_at dksX28_init_0 0 rfl rfl)
theorem dX28_init_1 : decode cX28_init 1 = .ok (.iload_n 1, 1) := dk_27 (dk_at dksX28_init_0 1 rfl rfl)
theorem dX28_init_2 : decode cX28_init 2 = .ok (.invokespecial 1, 3) := dk_183 0 1 (dk_at dksX28_init_0 2 rfl rfl)
theorem dX28_init_5 : decode cX28_init 5 = .ok (.aload_n 0, 1) := dk_42 (dk_at dksX28_init_0 5 rfl rfl)
theorem dX28_init_6 : decode cX28_init 6 = .ok (.iload_n 2, 1) := dk_28 (dk_at dksX28_init_0 6 rfl rfl)
theorem dX28_init_7 : decode cX28_init 7 = .ok (.putfield 7, 3) := dk_181 0 7 (dk_at dksX28_init_0 7 rfl rfl)
theorem dX28_init_10 : decode cX28_init 10 = .ok (.return_, 1) := dk_177 (dk_at dksX28_init_0 10 rfl rfl)
theorem okX28_init_0 : XOkL xms rX28_init bX28_init_0 := xcP (xok_aload_n dX28_init_0 rfl) rfl (xcP (xok_iload_n dX28_init_1 rfl) rfl (xcC0 (xokc_I xm213 rfl rfl dX28_init_2 q1147 q961 q162 q962 rfl (by decide +kernel)) rfl (xcP (xok_aload_n dX28_init_5 rfl) rfl (xcP (xok_iload_n dX28_init_6 rfl) rfl (xcP (xok_putfield (ref := "WaysAtlas$Leave") (Or.inl ⟨rfl, by decide, rfl⟩) dX28_init_7 (Or.inl ⟨q1148, (Or.inl rfl)⟩) (Or.inr ⟨rfl, rfl, ⟨q1148, (Or.inl rfl)⟩⟩) xh91) rfl (xcR ⟨dX28_init_10, rfl⟩))))))
theorem okM_X28_init : XOkM xms rX28_init := xokM0 (List.forall_mem_cons.mpr ⟨⟨rfl, okX28_init_0⟩, fun _ h => nomatch h⟩) (xokH0 rfl (fun _ _ => rfl)) (by decide +kernel) (by decide)
abbrev cX28_tells : ByteArray := prog_8_method_3_code
def dkwX28_tells_0 : List UInt8 := [43, 42, 180, 0, 7, 182, 0, 13, 177]
abbrev dktX28_tells_0 : List UInt8 := dkwX28_tells_0 ++ []
theorem dksX28_tells_0 : cX28_tells.data.toList.drop 0 = dktX28_tells_0 := by decide +kernel
theorem dX28_tells_0 : decode cX28_tells 0 = .ok (.aload_n 1, 1) := dk_43 (dk_at dksX28_tells_0 0 rfl rfl)
theorem dX28_tells_1 : decode cX28_tells 1 = .ok (.aload_n 0, 1) := dk_42 (dk_at dksX28_tells_0 1 rfl rfl)
theorem dX28_tells_2 : decode cX28_tells 2 = .ok (.getfield 7, 3) := dk_180 0 7 (dk_at dksX28_tells_0 2 rfl rfl)
theorem dX28_tells_5 : decode cX28_tells 5 = .ok (.invokevirtual 13, 3) := dk_182 0 13 (dk_at dksX28_tells_0 5 rfl rfl)
theorem dX28_tells_8 : decode cX28_tells 8 = .ok (.return_, 1) := dk_177 (dk_at dksX28_tells_0 8 rfl rfl)
theorem okX28_tells_0 : XOkL xms rX28_tells bX28_tells_0 := xcP (xok_aload_n dX28_tells_0 rfl) rfl (xcP (xok_aload_n dX28_tells_1 rfl) rfl (xcP (xok_getfield (ref := "WaysAtlas$Leave") (Or.inl ⟨rfl, by decide⟩) dX28_tells_2 (Or.inl ⟨q1148, (Or.inl rfl)⟩) xh91) rfl (xcC0 (xokc_list (List.forall_mem_cons.mpr ⟨xokc_V (r := (RX33, TX33, 6)) xm288 (List.mem_of_getElem? (i := 30) rfl) (by decide) rfl dX28_tells_5 q1417 q1418 q1419 q179 q1420 (by decide +kernel), fun _ h => nomatch h⟩)) rfl (xcR ⟨dX28_tells_8, rfl⟩))))
theorem okM_X28_tells : XOkM xms rX28_tells := xokM0 (List.forall_mem_cons.mpr ⟨⟨rfl, okX28_tells_0⟩, fun _ h => nomatch h⟩) (xokH0 rfl (fun _ _ => rfl)) (by decide +kernel) (by decide)
abbrev cX28_walk : ByteArray := prog_8_method_2_code
theorem dX28_walk_0 : decode cX28_walk 0 = .ok (.aload_n 0, 1) := by decide +kernel
theorem dX28_walk_1 : decode cX28_walk 1 = .ok (.getfield 7, 3) := by decide +kernel
theorem dX28_walk_4 : decode cX28_walk 4 = .ok (.ireturn, 1) := by decide +kernel
theorem okX28_walk_0 : XOkL xms rX28_walk bX28_walk_0 := xcP (xok_aload_n dX28_walk_0 rfl) rfl (xcP (xok_getfield (ref := "WaysAtlas$Leave") (Or.inl ⟨rfl, by decide⟩) dX28_walk_1 (Or.inl ⟨q1148, (Or.inl rfl)⟩) xh91) rfl (xcR ⟨dX28_walk_4, rfl⟩))
theorem okM_X28_walk : XOkM xms rX28_walk := xokM0 (List.forall_mem_cons.mpr ⟨⟨rfl, okX28_walk_0⟩, fun _ h => nomatch h⟩) (xokH0 rfl (fun _ _ => rfl)) (by decide +kernel) (by decide)
abbrev cX29_init : ByteArray := prog_31_method_1_code
def dkwX29_init_0 : List UInt8 := [42, 27, 183, 0, 1, 42, 28, 181, 0, 7, 177]
abbrev dktX29_init_0 : List UInt8 := dkwX29_init_0 ++ []
theorem dksX29_init_0 : cX29_init.data.toList.drop 0 = dktX29_init_0 := by decide +kernel
theorem dX29_init_0 : decode cX29_init 0 = .ok (.aload_n 0, 1) := dk_42 (dk_at dksX29_init_0 0 rfl rfl)
theorem dX29_init_1 : decode cX29_init 1 = .ok (.iload_n 1, 1) := dk_27 (dk_at dksX29_init_0 1 rfl rfl)
theorem dX29_init_2 : decode cX29_init 2 = .ok (.invokespecial 1, 3) := dk_183 0 1 (dk_at dksX29_init_0 2 rfl rfl)
theorem dX29_init_5 : decode cX29_init 5 = .ok (.aload_n 0, 1) := dk_42 (dk_at dksX29_init_0 5 rfl rfl)
theorem dX29_init_6 : decode cX29_init 6 = .ok (.iload_n 2, 1) := dk_28 (dk_at dksX29_init_0 6 rfl rfl)
theorem dX29_init_7 : decode cX29_init 7 = .ok (.putfield 7, 3) := dk_181 0 7 (dk_at dksX29_init_0 7 rfl rfl)
theorem dX29_init_10 : decode cX29_init 10 = .ok (.return_, 1) := dk_177 (dk_at dksX29_init_0 10 rfl rfl)
theorem okX29_init_0 : XOkL xms rX29_init bX29_init_0 := xcP (xok_aload_n dX29_init_0 rfl) rfl (xcP (xok_iload_n dX29_init_1 rfl) rfl (xcC0 (xokc_I xm221 rfl rfl dX29_init_2 q1158 q1007 q164 q1008 rfl (by decide +kernel)) rfl (xcP (xok_aload_n dX29_init_5 rfl) rfl (xcP (xok_iload_n dX29_init_6 rfl) rfl (xcP (xok_putfield (ref := "WaysAtlas$Throw") (Or.inl ⟨rfl, by decide, rfl⟩) dX29_init_7 (Or.inl ⟨q1159, (Or.inl rfl)⟩) (Or.inr ⟨rfl, rfl, ⟨q1159, (Or.inl rfl)⟩⟩) xh92) rfl (xcR ⟨dX29_init_10, rfl⟩))))))
theorem okM_X29_init : XOkM xms rX29_init := xokM0 (List.forall_mem_cons.mpr ⟨⟨rfl, okX29_init_0⟩, fun _ h => nomatch h⟩) (xokH0 rfl (fun _ _ => rfl)) (by decide +kernel) (by decide)
abbrev cX29_does : ByteArray := prog_31_method_2_code
def dkwX29_does_0 : List UInt8 := [43, 42, 180, 0, 7, 182, 0, 13, 191]
abbrev dktX29_does_0 : List UInt8 := dkwX29_does_0 ++ []
theorem dksX29_does_0 : cX29_does.data.toList.drop 0 = dktX29_does_0 := by decide +kernel
theorem dX29_does_0 : decode cX29_does 0 = .ok (.aload_n 1, 1) := dk_43 (dk_at dksX29_does_0 0 rfl rfl)
theorem dX29_does_1 : decode cX29_does 1 = .ok (.aload_n 0, 1) := dk_42 (dk_at dksX29_does_0 1 rfl rfl)
theorem dX29_does_2 : decode cX29_does 2 = .ok (.getfield 7, 3) := dk_180 0 7 (dk_at dksX29_does_0 2 rfl rfl)
theorem dX29_does_5 : decode cX29_does 5 = .ok (.invokevirtual 13, 3) := dk_182 0 13 (dk_at dksX29_does_0 5 rfl rfl)
theorem dX29_does_8 : decode cX29_does 8 = .ok (.athrow, 1) := dk_191 (dk_at dksX29_does_0 8 rfl rfl)
theorem okX29_does_0 : XOkL xms rX29_does bX29_does_0 := xcP (xok_aload_n dX29_does_0 rfl) rfl (xcP (xok_aload_n dX29_does_1 rfl) rfl (xcP (xok_getfield (ref := "WaysAtlas$Throw") (Or.inl ⟨rfl, by decide⟩) dX29_does_2 (Or.inl ⟨q1159, (Or.inl rfl)⟩) xh92) rfl (xcC0 (xokc_list (List.forall_mem_cons.mpr ⟨xokc_V (r := (RX5, TX5, 34)) xm82 (List.mem_of_getElem? (i := 5) rfl) (by decide) rfl dX29_does_5 q1758 q1564 q1565 q143 q1566 (by decide +kernel), fun _ h => nomatch h⟩)) rfl (xcT dX29_does_8))))
theorem okM_X29_does : XOkM xms rX29_does := xokM0 (List.forall_mem_cons.mpr ⟨⟨rfl, okX29_does_0⟩, fun _ h => nomatch h⟩) (xokH0 rfl (fun _ _ => rfl)) (by decide +kernel) (by decide)
abbrev cX30_init : ByteArray := prog_2_method_1_code
def dkwX30_init_0 : List UInt8 := [42, 27, 183, 0, 3, 42, 28, 181, 0, 9, 42, 45, 181, 0, 15, 177]
abbrev dktX30_init_0 : List UInt8 := dkwX30_init_0 ++ []
theorem dksX30_init_0 : cX30_init.data.toList.drop 0 = dktX30_init_0 := by decide +kernel
theorem dX30_init_0 : decode cX30_init 0 = .ok (.aload_n 0, 1) := dk_42 (dk_at dksX30_init_0 0 rfl rfl)
theorem dX30_init_1 : decode cX30_init 1 = .ok (.iload_n 1, 1) := dk_27 (dk_at dksX30_init_0 1 rfl rfl)
theorem dX30_init_2 : decode cX30_init 2 = .ok (.invokespecial 3, 3) := dk_183 0 3 (dk_at dksX30_init_0 2 rfl rfl)
theorem dX30_init_5 : decode cX30_init 5 = .ok (.aload_n 0, 1) := dk_42 (dk_at dksX30_init_0 5 rfl rfl)
theorem dX30_init_6 : decode cX30_init 6 = .ok (.iload_n 2, 1) := dk_28 (dk_at dksX30_init_0 6 rfl rfl)
theorem dX30_init_7 : decode cX30_init 7 = .ok (.putfield 9, 3) := dk_181 0 9 (dk_at dksX30_init_0 7 rfl rfl)
theorem dX30_init_10 : decode cX30_init 10 = .ok (.aload_n 0, 1) := dk_42 (dk_at dksX30_init_0 10 rfl rfl)
theorem dX30_init_11 : decode cX30_init 11 = .ok (.aload_n 3, 1) := dk_45 (dk_at dksX30_init_0 11 rfl rfl)
theorem dX30_init_12 : decode cX30_init 12 = .ok (.putfield 15, 3) := dk_181 0 15 (dk_at dksX30_init_0 12 rfl rfl)
theorem dX30_init_15 : decode cX30_init 15 = .ok (.return_, 1) := dk_177 (dk_at dksX30_init_0 15 rfl rfl)
theorem okX30_init_0 : XOkL xms rX30_init bX30_init_0 := xcP (xok_aload_n dX30_init_0 rfl) rfl (xcP (xok_iload_n dX30_init_1 rfl) rfl (xcC0 (xokc_I xm213 rfl rfl dX30_init_2 q1169 q961 q162 q962 rfl (by decide +kernel)) rfl (xcP (xok_aload_n dX30_init_5 rfl) rfl (xcP (xok_iload_n dX30_init_6 rfl) rfl (xcP (xok_putfield (ref := "WaysAtlas$Again") (Or.inl ⟨rfl, by decide, rfl⟩) dX30_init_7 (Or.inl ⟨q1170, (Or.inl rfl)⟩) (Or.inr ⟨rfl, rfl, ⟨q1170, (Or.inl rfl)⟩⟩) xh93) rfl (xcP (xok_aload_n dX30_init_10 rfl) rfl (xcP (xok_aload_n dX30_init_11 rfl) rfl (xcP (xok_putfield (ref := "WaysAtlas$Again") (Or.inr (Or.inr ⟨rfl, by decide, rfl⟩)) dX30_init_12 (Or.inl ⟨q1171, (Or.inl rfl)⟩) (Or.inr ⟨rfl, rfl, ⟨q1171, (Or.inl rfl)⟩⟩) xh1134) rfl (xcR ⟨dX30_init_15, rfl⟩)))))))))
theorem okM_X30_init : XOkM xms rX30_init := xokM0 (List.forall_mem_cons.mpr ⟨⟨rfl, okX30_init_0⟩, fun _ h => nomatch h⟩) (xokH0 rfl (fun _ _ => rfl)) (by decide +kernel) (by decide)
abbrev cX30_tells : ByteArray := prog_2_method_4_code
def dkwX30_tells_0 : List UInt8 := [43, 16, 8, 42, 180, 0, 51, 3, 182, 0, 54, 87, 177]
abbrev dktX30_tells_0 : List UInt8 := dkwX30_tells_0 ++ []
theorem dksX30_tells_0 : cX30_tells.data.toList.drop 0 = dktX30_tells_0 := by decide +kernel
theorem dX30_tells_0 : decode cX30_tells 0 = .ok (.aload_n 1, 1) := dk_43 (dk_at dksX30_tells_0 0 rfl rfl)
theorem dX30_tells_1 : decode cX30_tells 1 = .ok (.bipush 8, 2) := dk_16 8 (dk_at dksX30_tells_0 1 rfl rfl)
theorem dX30_tells_3 : decode cX30_tells 3 = .ok (.aload_n 0, 1) := dk_42 (dk_at dksX30_tells_0 3 rfl rfl)
theorem dX30_tells_4 : decode cX30_tells 4 = .ok (.getfield 51, 3) := dk_180 0 51 (dk_at dksX30_tells_0 4 rfl rfl)
theorem dX30_tells_7 : decode cX30_tells 7 = .ok (.iconst 0, 1) := dk_3 (dk_at dksX30_tells_0 7 rfl rfl)
theorem dX30_tells_8 : decode cX30_tells 8 = .ok (.invokevirtual 54, 3) := dk_182 0 54 (dk_at dksX30_tells_0 8 rfl rfl)
theorem dX30_tells_11 : decode cX30_tells 11 = .ok (.pop, 1) := dk_87 (dk_at dksX30_tells_0 11 rfl rfl)
theorem dX30_tells_12 : decode cX30_tells 12 = .ok (.return_, 1) := dk_177 (dk_at dksX30_tells_0 12 rfl rfl)
theorem okX30_tells_0 : XOkL xms rX30_tells bX30_tells_0 := xcP (xok_aload_n dX30_tells_0 rfl) rfl (xcP (xok_bipush dX30_tells_1 rfl) rfl (xcP (xok_aload_n dX30_tells_3 rfl) rfl (xcP (xok_getfield (ref := "WaysAtlas$Again") (Or.inl ⟨rfl, by decide⟩) dX30_tells_4 (Or.inl ⟨q985, (Or.inr q986)⟩) xh82) rfl (xcP (xok_iconst dX30_tells_7 rfl) rfl (xcC0 (xokc_list (List.forall_mem_cons.mpr ⟨xokc_V (r := (RX33, TX33, 6)) xm276 (List.mem_of_getElem? (i := 30) rfl) (by decide) rfl dX30_tells_8 q1294 q1280 q1281 q179 q1282 (by decide +kernel), fun _ h => nomatch h⟩)) rfl (xcP (xok_pop dX30_tells_11) rfl (xcR ⟨dX30_tells_12, rfl⟩)))))))
theorem okM_X30_tells : XOkM xms rX30_tells := xokM0 (List.forall_mem_cons.mpr ⟨⟨rfl, okX30_tells_0⟩, fun _ h => nomatch h⟩) (xokH0 rfl (fun _ _ => rfl)) (by decide +kernel) (by decide)
abbrev cX30_walk : ByteArray := prog_2_method_3_code
def dkwX30_walk_0 : List UInt8 := [42, 43, 44, 182, 0, 47, 3, 172]
abbrev dktX30_walk_0 : List UInt8 := dkwX30_walk_0 ++ []
theorem dksX30_walk_0 : cX30_walk.data.toList.drop 0 = dktX30_walk_0 := by decide +kernel
theorem dX30_walk_0 : decode cX30_walk 0 = .ok (.aload_n 0, 1) := dk_42 (dk_at dksX30_walk_0 0 rfl rfl)
theorem dX30_walk_1 : decode cX30_walk 1 = .ok (.aload_n 1, 1) := dk_43 (dk_at dksX30_walk_0 1 rfl rfl)
theorem dX30_walk_2 : decode cX30_walk 2 = .ok (.aload_n 2, 1) := dk_44 (dk_at dksX30_walk_0 2 rfl rfl)
theorem dX30_walk_3 : decode cX30_walk 3 = .ok (.invokevirtual 47, 3) := dk_182 0 47 (dk_at dksX30_walk_0 3 rfl rfl)
theorem dX30_walk_6 : decode cX30_walk 6 = .ok (.iconst 0, 1) := dk_3 (dk_at dksX30_walk_0 6 rfl rfl)
theorem dX30_walk_7 : decode cX30_walk 7 = .ok (.ireturn, 1) := dk_172 (dk_at dksX30_walk_0 7 rfl rfl)
theorem okX30_walk_0 : XOkL xms rX30_walk bX30_walk_0 := xcP (xok_aload_n dX30_walk_0 rfl) rfl (xcP (xok_aload_n dX30_walk_1 rfl) rfl (xcP (xok_aload_n dX30_walk_2 rfl) rfl (xcC0 (xokc_list (List.forall_mem_cons.mpr ⟨xokc_V (r := (RX30, TX30, 3)) xm256 (List.mem_of_getElem? (i := 27) rfl) (by decide) rfl dX30_walk_3 q1606 q1607 q1608 q175 q1609 (by decide +kernel), fun _ h => nomatch h⟩)) rfl (xcP (xok_iconst dX30_walk_6 rfl) rfl (xcR ⟨dX30_walk_7, rfl⟩)))))
theorem okM_X30_walk : XOkM xms rX30_walk := xokM0 (List.forall_mem_cons.mpr ⟨⟨rfl, okX30_walk_0⟩, fun _ h => nomatch h⟩) (xokH0 rfl (fun _ _ => rfl)) (by decide +kernel) (by decide)
abbrev cX30_does : ByteArray := prog_2_method_2_code
def dkwX30_does_1 : List UInt8 := [160, 0, 7, 29, 167, 0, 12, 43, 42, 180, 0, 9, 29, 182, 0, 37, 182, 0, 41, 191]
abbrev dktX30_does_1 : List UInt8 := dkwX30_does_1 ++ []
def dkwX30_does_0 : List UInt8 := [44, 180, 0, 19, 42, 180, 0, 15, 3, 182, 0, 27, 46, 62, 43, 180, 0, 31, 42, 180, 0, 9, 16, 247]
abbrev dktX30_does_0 : List UInt8 := dkwX30_does_0 ++ dktX30_does_1
theorem dksX30_does_0 : cX30_does.data.toList.drop 0 = dktX30_does_0 := by decide +kernel
theorem dksX30_does_1 : cX30_does.data.toList.drop 24 = dktX30_does_1 := dk_seg dksX30_does_0 24 rfl rfl
theorem dX30_does_0 : decode cX30_does 0 = .ok (.aload_n 2, 1) := dk_44 (dk_at dksX30_does_0 0 rfl rfl)
theorem dX30_does_1 : decode cX30_does 1 = .ok (.getfield 19, 3) := dk_180 0 19 (dk_at dksX30_does_0 1 rfl rfl)
theorem dX30_does_4 : decode cX30_does 4 = .ok (.aload_n 0, 1) := dk_42 (dk_at dksX30_does_0 4 rfl rfl)
theorem dX30_does_5 : decode cX30_does 5 = .ok (.getfield 15, 3) := dk_180 0 15 (dk_at dksX30_does_0 5 rfl rfl)
theorem dX30_does_8 : decode cX30_does 8 = .ok (.iconst 0, 1) := dk_3 (dk_at dksX30_does_0 8 rfl rfl)
theorem dX30_does_9 : decode cX30_does 9 = .ok (.invokevirtual 27, 3) := dk_182 0 27 (dk_at dksX30_does_0 9 rfl rfl)
theorem dX30_does_12 : decode cX30_does 12 = .ok (.iaload, 1) := dk_46 (dk_at dksX30_does_0 12 rfl rfl)
theorem dX30_does_13 : decode cX30_does 13 = .ok (.istore_n 3, 1) := dk_62 (dk_at dksX30_does_0 13 rfl rfl)
theorem dX30_does_14 : decode cX30_does 14 = .ok (.aload_n 1, 1) := dk_43 (dk_at dksX30_does_0 14 rfl rfl)
theorem dX30_does_15 : decode cX30_does 15 = .ok (.getfield 31, 3) := dk_180 0 31 (dk_at dksX30_does_0 15 rfl rfl)
theorem dX30_does_18 : decode cX30_does 18 = .ok (.aload_n 0, 1) := dk_42 (dk_at dksX30_does_0 18 rfl rfl)
theorem dX30_does_19 : decode cX30_does 19 = .ok (.getfield 9, 3) := dk_180 0 9 (dk_at dksX30_does_0 19 rfl rfl)
theorem dX30_does_22 : decode cX30_does 22 = .ok (.bipush (-9), 2) := dk_16 247 (dk_at dksX30_does_0 22 rfl rfl)
theorem dX30_does_24 : decode cX30_does 24 = .ok (.if_icmp .ne 7, 3) := dk_160 0 7 (dk_at dksX30_does_1 0 rfl rfl)
theorem dX30_does_27 : decode cX30_does 27 = .ok (.iload_n 3, 1) := dk_29 (dk_at dksX30_does_1 3 rfl rfl)
theorem dX30_does_28 : decode cX30_does 28 = .ok (.goto 12, 3) := dk_167 0 12 (dk_at dksX30_does_1 4 rfl rfl)
theorem dX30_does_31 : decode cX30_does 31 = .ok (.aload_n 1, 1) := dk_43 (dk_at dksX30_does_1 7 rfl rfl)
theorem dX30_does_32 : decode cX30_does 32 = .ok (.aload_n 0, 1) := dk_42 (dk_at dksX30_does_1 8 rfl rfl)
theorem dX30_does_33 : decode cX30_does 33 = .ok (.getfield 9, 3) := dk_180 0 9 (dk_at dksX30_does_1 9 rfl rfl)
theorem dX30_does_36 : decode cX30_does 36 = .ok (.iload_n 3, 1) := dk_29 (dk_at dksX30_does_1 12 rfl rfl)
theorem dX30_does_37 : decode cX30_does 37 = .ok (.invokevirtual 37, 3) := dk_182 0 37 (dk_at dksX30_does_1 13 rfl rfl)
theorem dX30_does_40 : decode cX30_does 40 = .ok (.invokevirtual 41, 3) := dk_182 0 41 (dk_at dksX30_does_1 16 rfl rfl)
theorem dX30_does_43 : decode cX30_does 43 = .ok (.athrow, 1) := dk_191 (dk_at dksX30_does_1 19 rfl rfl)
theorem okX30_does_0 : XOkL xms rX30_does bX30_does_0 := xcP (xok_aload_n dX30_does_0 rfl) rfl (xcP (xok_getfield (ref := "WaysAtlas$Frame") (Or.inr ⟨rfl, by decide⟩) dX30_does_1 (Or.inr ⟨⟨"WaysAtlas", (List.mem_of_getElem? (i := 0) rfl)⟩, (Or.inl rfl)⟩) xh1055) rfl (xcP (xok_aload_n dX30_does_4 rfl) rfl (xcP (xok_getfield (ref := "WaysAtlas$Again") (Or.inr ⟨rfl, by decide⟩) dX30_does_5 (Or.inl ⟨q1171, (Or.inl rfl)⟩) xh1134) rfl (xcP (xok_iconst dX30_does_8 rfl) rfl (xcC0 (xokc_list (List.forall_mem_cons.mpr ⟨xokc_V (r := (RX31, TX31, 7)) xm261 (List.mem_of_getElem? (i := 28) rfl) (by decide) rfl dX30_does_9 q1610 q1370 q1371 q176 q1372 (by decide +kernel), fun _ h => nomatch h⟩)) rfl (xcP (xok_iaload dX30_does_12) rfl (xcP (xok_istore_n dX30_does_13 rfl) rfl (xcP (xok_aload_n dX30_does_14 rfl) rfl (xcP (xok_getfield (ref := "WaysAtlas$Run") (Or.inr ⟨rfl, by decide⟩) dX30_does_15 (Or.inr ⟨⟨"WaysAtlas", (List.mem_of_getElem? (i := 1) rfl)⟩, (Or.inl rfl)⟩) xh1046) rfl (xcP (xok_aload_n dX30_does_18 rfl) rfl (xcP (xok_getfield (ref := "WaysAtlas$Again") (Or.inl ⟨rfl, by decide⟩) dX30_does_19 (Or.inl ⟨q1170, (Or.inl rfl)⟩) xh93) rfl (xcP (xok_bipush dX30_does_22 rfl) rfl (xcP (xok_icmpne dX30_does_24 (by decide)) rfl (xcP (xok_iload_n dX30_does_27 rfl) rfl (xcP (xok_goto dX30_does_28 (by decide)) rfl trivial)))))))))))))))
theorem okX30_does_31 : XOkL xms rX30_does bX30_does_31 := xcP (xok_aload_n dX30_does_31 rfl) rfl (xcP (xok_aload_n dX30_does_32 rfl) rfl (xcP (xok_getfield (ref := "WaysAtlas$Again") (Or.inl ⟨rfl, by decide⟩) dX30_does_33 (Or.inl ⟨q1170, (Or.inl rfl)⟩) xh93) rfl (xcP (xok_iload_n dX30_does_36 rfl) rfl (xcC0 (xokc_list (List.forall_mem_cons.mpr ⟨xokc_V (r := (RX5, TX5, 34)) xm83 (List.mem_of_getElem? (i := 5) rfl) (by decide) rfl dX30_does_37 q1611 q1568 q1569 q143 q1570 (by decide +kernel), fun _ h => nomatch h⟩)) rfl (xcP xok_fal rfl trivial)))))
theorem okX30_does_40 : XOkL xms rX30_does bX30_does_40 := xcC0 (xokc_list (List.forall_mem_cons.mpr ⟨xokc_V (r := (RX6, TX6, 7)) xm93 (List.mem_of_getElem? (i := 6) rfl) (by decide) rfl dX30_does_40 q1612 q1576 q1577 q146 q1578 (by decide +kernel), fun _ h => nomatch h⟩)) rfl (xcT dX30_does_43)
theorem okM_X30_does : XOkM xms rX30_does := xokM0 (List.forall_mem_cons.mpr ⟨⟨rfl, okX30_does_0⟩, List.forall_mem_cons.mpr ⟨⟨rfl, okX30_does_31⟩, List.forall_mem_cons.mpr ⟨⟨rfl, okX30_does_40⟩, fun _ h => nomatch h⟩⟩⟩) (xokH0 rfl (fun _ _ => rfl)) (by decide +kernel) (by decide)
