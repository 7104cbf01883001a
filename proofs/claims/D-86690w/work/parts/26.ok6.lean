set_option maxRecDepth 100000
abbrev cX9_outside : ByteArray := prog_36_method_50_code
def dkwX9_outside_10 : List UInt8 := [3, 2, 182, 1, 145, 79, 167, 0, 7, 42, 182, 1, 51, 177]
abbrev dktX9_outside_10 : List UInt8 := dkwX9_outside_10 ++ []
def dkwX9_outside_9 : List UInt8 := [42, 180, 0, 87, 16, 8, 42, 180, 1, 32, 104, 42, 180, 0, 90, 42, 180, 1, 32, 46, 96, 4, 100, 42]
abbrev dktX9_outside_9 : List UInt8 := dkwX9_outside_9 ++ dktX9_outside_10
def dkwX9_outside_8 : List UInt8 := [180, 1, 23, 182, 1, 41, 177, 42, 182, 1, 54, 42, 180, 0, 90, 42, 180, 1, 32, 92, 46, 4, 96, 79]
abbrev dktX9_outside_8 : List UInt8 := dkwX9_outside_8 ++ dktX9_outside_9
def dkwX9_outside_7 : List UInt8 := [182, 1, 89, 153, 0, 77, 42, 180, 0, 90, 42, 180, 1, 32, 46, 16, 8, 160, 0, 13, 42, 5, 42]
abbrev dktX9_outside_7 : List UInt8 := dkwX9_outside_7 ++ dktX9_outside_8
def dkwX9_outside_6 : List UInt8 := [180, 0, 96, 42, 180, 1, 32, 92, 46, 4, 96, 79, 42, 16, 59, 182, 1, 129, 167, 0, 90, 42, 16, 20]
abbrev dktX9_outside_6 : List UInt8 := dkwX9_outside_6 ++ dktX9_outside_7
def dkwX9_outside_5 : List UInt8 := [180, 0, 93, 16, 16, 42, 180, 1, 32, 104, 42, 180, 0, 96, 42, 180, 1, 32, 46, 96, 29, 79, 42]
abbrev dktX9_outside_5 : List UInt8 := dkwX9_outside_5 ++ dktX9_outside_6
def dkwX9_outside_4 : List UInt8 := [180, 0, 99, 28, 29, 42, 180, 0, 96, 42, 180, 1, 32, 46, 162, 0, 7, 3, 167, 0, 4, 7, 79, 42]
abbrev dktX9_outside_4 : List UInt8 := dkwX9_outside_4 ++ dktX9_outside_5
def dkwX9_outside_3 : List UInt8 := [180, 1, 23, 60, 42, 180, 1, 45, 61, 42, 5, 182, 1, 149, 62, 42, 180, 1, 35, 154, 0, 27, 42]
abbrev dktX9_outside_3 : List UInt8 := dkwX9_outside_3 ++ dktX9_outside_4
def dkwX9_outside_2 : List UInt8 := [182, 1, 54, 42, 16, 19, 182, 1, 89, 154, 0, 8, 42, 182, 1, 51, 177, 42, 182, 1, 54, 42]
abbrev dktX9_outside_2 : List UInt8 := dkwX9_outside_2 ++ dktX9_outside_3
def dkwX9_outside_1 : List UInt8 := [180, 0, 96, 42, 180, 1, 32, 46, 16, 16, 160, 0, 13, 42, 5, 42, 180, 1, 23, 182, 1, 41, 177, 42]
abbrev dktX9_outside_1 : List UInt8 := dkwX9_outside_1 ++ dktX9_outside_2
def dkwX9_outside_0 : List UInt8 := [42, 16, 18, 182, 1, 89, 153, 0, 153, 42, 180, 0, 90, 42, 180, 1, 32, 46, 154, 0, 141, 42]
abbrev dktX9_outside_0 : List UInt8 := dkwX9_outside_0 ++ dktX9_outside_1
theorem dksX9_outside_0 : cX9_outside.data.toList.drop 0 = dktX9_outside_0 := by decide +kernel
theorem dksX9_outside_1 : cX9_outside.data.toList.drop 22 = dktX9_outside_1 := dk_seg dksX9_outside_0 22 rfl rfl
theorem dksX9_outside_2 : cX9_outside.data.toList.drop 46 = dktX9_outside_2 := dk_seg dksX9_outside_1 24 rfl rfl
theorem dksX9_outside_3 : cX9_outside.data.toList.drop 68 = dktX9_outside_3 := dk_seg dksX9_outside_2 22 rfl rfl
theorem dksX9_outside_4 : cX9_outside.data.toList.drop 91 = dktX9_outside_4 := dk_seg dksX9_outside_3 23 rfl rfl
theorem dksX9_outside_5 : cX9_outside.data.toList.drop 115 = dktX9_outside_5 := dk_seg dksX9_outside_4 24 rfl rfl
theorem dksX9_outside_6 : cX9_outside.data.toList.drop 138 = dktX9_outside_6 := dk_seg dksX9_outside_5 23 rfl rfl
theorem dksX9_outside_7 : cX9_outside.data.toList.drop 162 = dktX9_outside_7 := dk_seg dksX9_outside_6 24 rfl rfl
theorem dksX9_outside_8 : cX9_outside.data.toList.drop 185 = dktX9_outside_8 := dk_seg dksX9_outside_7 23 rfl rfl
theorem dksX9_outside_9 : cX9_outside.data.toList.drop 209 = dktX9_outside_9 := dk_seg dksX9_outside_8 24 rfl rfl
theorem dksX9_outside_10 : cX9_outside.data.toList.drop 233 = dktX9_outside_10 := dk_seg dksX9_outside_9 24 rfl rfl
theorem dX9_outside_0 : decode cX9_outside 0 = .ok (.aload_n 0, 1) := dk_42 (dk_at dksX9_outside_0 0 rfl rfl)
theorem dX9_outside_1 : decode cX9_outside 1 = .ok (.bipush 18, 2) := dk_16 18 (dk_at dksX9_outside_0 1 rfl rfl)
theorem dX9_outside_3 : decode cX9_outside 3 = .ok (.invokevirtual 345, 3) := dk_182 1 89 (dk_at dksX9_outside_0 3 rfl rfl)
theorem dX9_outside_6 : decode cX9_outside 6 = .ok (.ifCond .eq 153, 3) := dk_153 0 153 (dk_at dksX9_outside_0 6 rfl rfl)
theorem dX9_outside_9 : decode cX9_outside 9 = .ok (.aload_n 0, 1) := dk_42 (dk_at dksX9_outside_0 9 rfl rfl)
theorem dX9_outside_10 : decode cX9_outside 10 = .ok (.getfield 90, 3) := dk_180 0 90 (dk_at dksX9_outside_0 10 rfl rfl)
theorem dX9_outside_13 : decode cX9_outside 13 = .ok (.aload_n 0, 1) := dk_42 (dk_at dksX9_outside_0 13 rfl rfl)
theorem dX9_outside_14 : decode cX9_outside 14 = .ok (.getfield 288, 3) := dk_180 1 32 (dk_at dksX9_outside_0 14 rfl rfl)
theorem dX9_outside_17 : decode cX9_outside 17 = .ok (.iaload, 1) := dk_46 (dk_at dksX9_outside_0 17 rfl rfl)
theorem dX9_outside_18 : decode cX9_outside 18 = .ok (.ifCond .ne 141, 3) := dk_154 0 141 (dk_at dksX9_outside_0 18 rfl rfl)
theorem dX9_outside_21 : decode cX9_outside 21 = .ok (.aload_n 0, 1) := dk_42 (dk_at dksX9_outside_0 21 rfl rfl)
theorem dX9_outside_22 : decode cX9_outside 22 = .ok (.getfield 96, 3) := dk_180 0 96 (dk_at dksX9_outside_1 0 rfl rfl)
theorem dX9_outside_25 : decode cX9_outside 25 = .ok (.aload_n 0, 1) := dk_42 (dk_at dksX9_outside_1 3 rfl rfl)
theorem dX9_outside_26 : decode cX9_outside 26 = .ok (.getfield 288, 3) := dk_180 1 32 (dk_at dksX9_outside_1 4 rfl rfl)
theorem dX9_outside_29 : decode cX9_outside 29 = .ok (.iaload, 1) := dk_46 (dk_at dksX9_outside_1 7 rfl rfl)
theorem dX9_outside_30 : decode cX9_outside 30 = .ok (.bipush 16, 2) := dk_16 16 (dk_at dksX9_outside_1 8 rfl rfl)
theorem dX9_outside_32 : decode cX9_outside 32 = .ok (.if_icmp .ne 13, 3) := dk_160 0 13 (dk_at dksX9_outside_1 10 rfl rfl)
theorem dX9_outside_35 : decode cX9_outside 35 = .ok (.aload_n 0, 1) := dk_42 (dk_at dksX9_outside_1 13 rfl rfl)
theorem dX9_outside_36 : decode cX9_outside 36 = .ok (.iconst 2, 1) := dk_5 (dk_at dksX9_outside_1 14 rfl rfl)
theorem dX9_outside_37 : decode cX9_outside 37 = .ok (.aload_n 0, 1) := dk_42 (dk_at dksX9_outside_1 15 rfl rfl)
theorem dX9_outside_38 : decode cX9_outside 38 = .ok (.getfield 279, 3) := dk_180 1 23 (dk_at dksX9_outside_1 16 rfl rfl)
theorem dX9_outside_41 : decode cX9_outside 41 = .ok (.invokevirtual 297, 3) := dk_182 1 41 (dk_at dksX9_outside_1 19 rfl rfl)
theorem dX9_outside_44 : decode cX9_outside 44 = .ok (.return_, 1) := dk_177 (dk_at dksX9_outside_1 22 rfl rfl)
theorem dX9_outside_45 : decode cX9_outside 45 = .ok (.aload_n 0, 1) := dk_42 (dk_at dksX9_outside_1 23 rfl rfl)
theorem dX9_outside_46 : decode cX9_outside 46 = .ok (.invokevirtual 310, 3) := dk_182 1 54 (dk_at dksX9_outside_2 0 rfl rfl)
theorem dX9_outside_49 : decode cX9_outside 49 = .ok (.aload_n 0, 1) := dk_42 (dk_at dksX9_outside_2 3 rfl rfl)
theorem dX9_outside_50 : decode cX9_outside 50 = .ok (.bipush 19, 2) := dk_16 19 (dk_at dksX9_outside_2 4 rfl rfl)
theorem dX9_outside_52 : decode cX9_outside 52 = .ok (.invokevirtual 345, 3) := dk_182 1 89 (dk_at dksX9_outside_2 6 rfl rfl)
theorem dX9_outside_55 : decode cX9_outside 55 = .ok (.ifCond .ne 8, 3) := dk_154 0 8 (dk_at dksX9_outside_2 9 rfl rfl)
theorem dX9_outside_58 : decode cX9_outside 58 = .ok (.aload_n 0, 1) := dk_42 (dk_at dksX9_outside_2 12 rfl rfl)
theorem dX9_outside_59 : decode cX9_outside 59 = .ok (.invokevirtual 307, 3) := dk_182 1 51 (dk_at dksX9_outside_2 13 rfl rfl)
theorem dX9_outside_62 : decode cX9_outside 62 = .ok (.return_, 1) := dk_177 (dk_at dksX9_outside_2 16 rfl rfl)
theorem dX9_outside_63 : decode cX9_outside 63 = .ok (.aload_n 0, 1) := dk_42 (dk_at dksX9_outside_2 17 rfl rfl)
theorem dX9_outside_64 : decode cX9_outside 64 = .ok (.invokevirtual 310, 3) := dk_182 1 54 (dk_at dksX9_outside_2 18 rfl rfl)
theorem dX9_outside_67 : decode cX9_outside 67 = .ok (.aload_n 0, 1) := dk_42 (dk_at dksX9_outside_2 21 rfl rfl)
theorem dX9_outside_68 : decode cX9_outside 68 = .ok (.getfield 279, 3) := dk_180 1 23 (dk_at dksX9_outside_3 0 rfl rfl)
theorem dX9_outside_71 : decode cX9_outside 71 = .ok (.istore_n 1, 1) := dk_60 (dk_at dksX9_outside_3 3 rfl rfl)
theorem dX9_outside_72 : decode cX9_outside 72 = .ok (.aload_n 0, 1) := dk_42 (dk_at dksX9_outside_3 4 rfl rfl)
theorem dX9_outside_73 : decode cX9_outside 73 = .ok (.getfield 301, 3) := dk_180 1 45 (dk_at dksX9_outside_3 5 rfl rfl)
theorem dX9_outside_76 : decode cX9_outside 76 = .ok (.istore_n 2, 1) := dk_61 (dk_at dksX9_outside_3 8 rfl rfl)
theorem dX9_outside_77 : decode cX9_outside 77 = .ok (.aload_n 0, 1) := dk_42 (dk_at dksX9_outside_3 9 rfl rfl)
theorem dX9_outside_78 : decode cX9_outside 78 = .ok (.iconst 2, 1) := dk_5 (dk_at dksX9_outside_3 10 rfl rfl)
theorem dX9_outside_79 : decode cX9_outside 79 = .ok (.invokevirtual 405, 3) := dk_182 1 149 (dk_at dksX9_outside_3 11 rfl rfl)
theorem dX9_outside_82 : decode cX9_outside 82 = .ok (.istore_n 3, 1) := dk_62 (dk_at dksX9_outside_3 14 rfl rfl)
theorem dX9_outside_83 : decode cX9_outside 83 = .ok (.aload_n 0, 1) := dk_42 (dk_at dksX9_outside_3 15 rfl rfl)
theorem dX9_outside_84 : decode cX9_outside 84 = .ok (.getfield 291, 3) := dk_180 1 35 (dk_at dksX9_outside_3 16 rfl rfl)
theorem dX9_outside_87 : decode cX9_outside 87 = .ok (.ifCond .ne 27, 3) := dk_154 0 27 (dk_at dksX9_outside_3 19 rfl rfl)
theorem dX9_outside_90 : decode cX9_outside 90 = .ok (.aload_n 0, 1) := dk_42 (dk_at dksX9_outside_3 22 rfl rfl)
theorem dX9_outside_91 : decode cX9_outside 91 = .ok (.getfield 99, 3) := dk_180 0 99 (dk_at dksX9_outside_4 0 rfl rfl)
theorem dX9_outside_94 : decode cX9_outside 94 = .ok (.iload_n 2, 1) := dk_28 (dk_at dksX9_outside_4 3 rfl rfl)
theorem dX9_outside_95 : decode cX9_outside 95 = .ok (.iload_n 3, 1) := dk_29 (dk_at dksX9_outside_4 4 rfl rfl)
theorem dX9_outside_96 : decode cX9_outside 96 = .ok (.aload_n 0, 1) := dk_42 (dk_at dksX9_outside_4 5 rfl rfl)
theorem dX9_outside_97 : decode cX9_outside 97 = .ok (.getfield 96, 3) := dk_180 0 96 (dk_at dksX9_outside_4 6 rfl rfl)
theorem dX9_outside_100 : decode cX9_outside 100 = .ok (.aload_n 0, 1) := dk_42 (dk_at dksX9_outside_4 9 rfl rfl)
theorem dX9_outside_101 : decode cX9_outside 101 = .ok (.getfield 288, 3) := dk_180 1 32 (dk_at dksX9_outside_4 10 rfl rfl)
theorem dX9_outside_104 : decode cX9_outside 104 = .ok (.iaload, 1) := dk_46 (dk_at dksX9_outside_4 13 rfl rfl)
theorem dX9_outside_105 : decode cX9_outside 105 = .ok (.if_icmp .ge 7, 3) := dk_162 0 7 (dk_at dksX9_outside_4 14 rfl rfl)
theorem dX9_outside_108 : decode cX9_outside 108 = .ok (.iconst 0, 1) := dk_3 (dk_at dksX9_outside_4 17 rfl rfl)
theorem dX9_outside_109 : decode cX9_outside 109 = .ok (.goto 4, 3) := dk_167 0 4 (dk_at dksX9_outside_4 18 rfl rfl)
theorem dX9_outside_112 : decode cX9_outside 112 = .ok (.iconst 4, 1) := dk_7 (dk_at dksX9_outside_4 21 rfl rfl)
theorem dX9_outside_113 : decode cX9_outside 113 = .ok (.iastore, 1) := dk_79 (dk_at dksX9_outside_4 22 rfl rfl)
theorem dX9_outside_114 : decode cX9_outside 114 = .ok (.aload_n 0, 1) := dk_42 (dk_at dksX9_outside_4 23 rfl rfl)
theorem dX9_outside_115 : decode cX9_outside 115 = .ok (.getfield 93, 3) := dk_180 0 93 (dk_at dksX9_outside_5 0 rfl rfl)
theorem dX9_outside_118 : decode cX9_outside 118 = .ok (.bipush 16, 2) := dk_16 16 (dk_at dksX9_outside_5 3 rfl rfl)
theorem dX9_outside_120 : decode cX9_outside 120 = .ok (.aload_n 0, 1) := dk_42 (dk_at dksX9_outside_5 5 rfl rfl)
theorem dX9_outside_121 : decode cX9_outside 121 = .ok (.getfield 288, 3) := dk_180 1 32 (dk_at dksX9_outside_5 6 rfl rfl)
theorem dX9_outside_124 : decode cX9_outside 124 = .ok (.imul, 1) := dk_104 (dk_at dksX9_outside_5 9 rfl rfl)
theorem dX9_outside_125 : decode cX9_outside 125 = .ok (.aload_n 0, 1) := dk_42 (dk_at dksX9_outside_5 10 rfl rfl)
theorem dX9_outside_126 : decode cX9_outside 126 = .ok (.getfield 96, 3) := dk_180 0 96 (dk_at dksX9_outside_5 11 rfl rfl)
theorem dX9_outside_129 : decode cX9_outside 129 = .ok (.aload_n 0, 1) := dk_42 (dk_at dksX9_outside_5 14 rfl rfl)
theorem dX9_outside_130 : decode cX9_outside 130 = .ok (.getfield 288, 3) := dk_180 1 32 (dk_at dksX9_outside_5 15 rfl rfl)
theorem dX9_outside_133 : decode cX9_outside 133 = .ok (.iaload, 1) := dk_46 (dk_at dksX9_outside_5 18 rfl rfl)
theorem dX9_outside_134 : decode cX9_outside 134 = .ok (.iadd, 1) := dk_96 (dk_at dksX9_outside_5 19 rfl rfl)
theorem dX9_outside_135 : decode cX9_outside 135 = .ok (.iload_n 3, 1) := dk_29 (dk_at dksX9_outside_5 20 rfl rfl)
theorem dX9_outside_136 : decode cX9_outside 136 = .ok (.iastore, 1) := dk_79 (dk_at dksX9_outside_5 21 rfl rfl)
theorem dX9_outside_137 : decode cX9_outside 137 = .ok (.aload_n 0, 1) := dk_42 (dk_at dksX9_outside_5 22 rfl rfl)
theorem dX9_outside_138 : decode cX9_outside 138 = .ok (.getfield 96, 3) := dk_180 0 96 (dk_at dksX9_outside_6 0 rfl rfl)
theorem dX9_outside_141 : decode cX9_outside 141 = .ok (.aload_n 0, 1) := dk_42 (dk_at dksX9_outside_6 3 rfl rfl)
theorem dX9_outside_142 : decode cX9_outside 142 = .ok (.getfield 288, 3) := dk_180 1 32 (dk_at dksX9_outside_6 4 rfl rfl)
theorem dX9_outside_145 : decode cX9_outside 145 = .ok (.dup2, 1) := dk_92 (dk_at dksX9_outside_6 7 rfl rfl)
theorem dX9_outside_146 : decode cX9_outside 146 = .ok (.iaload, 1) := dk_46 (dk_at dksX9_outside_6 8 rfl rfl)
theorem dX9_outside_147 : decode cX9_outside 147 = .ok (.iconst 1, 1) := dk_4 (dk_at dksX9_outside_6 9 rfl rfl)
theorem dX9_outside_148 : decode cX9_outside 148 = .ok (.iadd, 1) := dk_96 (dk_at dksX9_outside_6 10 rfl rfl)
theorem dX9_outside_149 : decode cX9_outside 149 = .ok (.iastore, 1) := dk_79 (dk_at dksX9_outside_6 11 rfl rfl)
theorem dX9_outside_150 : decode cX9_outside 150 = .ok (.aload_n 0, 1) := dk_42 (dk_at dksX9_outside_6 12 rfl rfl)
theorem dX9_outside_151 : decode cX9_outside 151 = .ok (.bipush 59, 2) := dk_16 59 (dk_at dksX9_outside_6 13 rfl rfl)
theorem dX9_outside_153 : decode cX9_outside 153 = .ok (.invokevirtual 385, 3) := dk_182 1 129 (dk_at dksX9_outside_6 15 rfl rfl)
theorem dX9_outside_156 : decode cX9_outside 156 = .ok (.goto 90, 3) := dk_167 0 90 (dk_at dksX9_outside_6 18 rfl rfl)
theorem dX9_outside_159 : decode cX9_outside 159 = .ok (.aload_n 0, 1) := dk_42 (dk_at dksX9_outside_6 21 rfl rfl)
theorem dX9_outside_160 : decode cX9_outside 160 = .ok (.bipush 20, 2) := dk_16 20 (dk_at dksX9_outside_6 22 rfl rfl)
theorem dX9_outside_162 : decode cX9_outside 162 = .ok (.invokevirtual 345, 3) := dk_182 1 89 (dk_at dksX9_outside_7 0 rfl rfl)
theorem dX9_outside_165 : decode cX9_outside 165 = .ok (.ifCond .eq 77, 3) := dk_153 0 77 (dk_at dksX9_outside_7 3 rfl rfl)
theorem dX9_outside_168 : decode cX9_outside 168 = .ok (.aload_n 0, 1) := dk_42 (dk_at dksX9_outside_7 6 rfl rfl)
theorem dX9_outside_169 : decode cX9_outside 169 = .ok (.getfield 90, 3) := dk_180 0 90 (dk_at dksX9_outside_7 7 rfl rfl)
theorem dX9_outside_172 : decode cX9_outside 172 = .ok (.aload_n 0, 1) := dk_42 (dk_at dksX9_outside_7 10 rfl rfl)
theorem dX9_outside_173 : decode cX9_outside 173 = .ok (.getfield 288, 3) := dk_180 1 32 (dk_at dksX9_outside_7 11 rfl rfl)
theorem dX9_outside_176 : decode cX9_outside 176 = .ok (.iaload, 1) := dk_46 (dk_at dksX9_outside_7 14 rfl rfl)
theorem dX9_outside_177 : decode cX9_outside 177 = .ok (.bipush 8, 2) := dk_16 8 (dk_at dksX9_outside_7 15 rfl rfl)
theorem dX9_outside_179 : decode cX9_outside 179 = .ok (.if_icmp .ne 13, 3) := dk_160 0 13 (dk_at dksX9_outside_7 17 rfl rfl)
theorem dX9_outside_182 : decode cX9_outside 182 = .ok (.aload_n 0, 1) := dk_42 (dk_at dksX9_outside_7 20 rfl rfl)
theorem dX9_outside_183 : decode cX9_outside 183 = .ok (.iconst 2, 1) := dk_5 (dk_at dksX9_outside_7 21 rfl rfl)
theorem dX9_outside_184 : decode cX9_outside 184 = .ok (.aload_n 0, 1) := dk_42 (dk_at dksX9_outside_7 22 rfl rfl)
theorem dX9_outside_185 : decode cX9_outside 185 = .ok (.getfield 279, 3) := dk_180 1 23 (dk_at dksX9_outside_8 0 rfl rfl)
theorem dX9_outside_188 : decode cX9_outside 188 = .ok (.invokevirtual 297, 3) := dk_182 1 41 (dk_at dksX9_outside_8 3 rfl rfl)
theorem dX9_outside_191 : decode cX9_outside 191 = .ok (.return_, 1) := dk_177 (dk_at dksX9_outside_8 6 rfl rfl)
theorem dX9_outside_192 : decode cX9_outside 192 = .ok (.aload_n 0, 1) := dk_42 (dk_at dksX9_outside_8 7 rfl rfl)
theorem dX9_outside_193 : decode cX9_outside 193 = .ok (.invokevirtual 310, 3) := dk_182 1 54 (dk_at dksX9_outside_8 8 rfl rfl)
theorem dX9_outside_196 : decode cX9_outside 196 = .ok (.aload_n 0, 1) := dk_42 (dk_at dksX9_outside_8 11 rfl rfl)
theorem dX9_outside_197 : decode cX9_outside 197 = .ok (.getfield 90, 3) := dk_180 0 90 (dk_at dksX9_outside_8 12 rfl rfl)
theorem dX9_outside_200 : decode cX9_outside 200 = .ok (.aload_n 0, 1) := dk_42 (dk_at dksX9_outside_8 15 rfl rfl)
theorem dX9_outside_201 : decode cX9_outside 201 = .ok (.getfield 288, 3) := dk_180 1 32 (dk_at dksX9_outside_8 16 rfl rfl)
theorem dX9_outside_204 : decode cX9_outside 204 = .ok (.dup2, 1) := dk_92 (dk_at dksX9_outside_8 19 rfl rfl)
theorem dX9_outside_205 : decode cX9_outside 205 = .ok (.iaload, 1) := dk_46 (dk_at dksX9_outside_8 20 rfl rfl)
theorem dX9_outside_206 : decode cX9_outside 206 = .ok (.iconst 1, 1) := dk_4 (dk_at dksX9_outside_8 21 rfl rfl)
theorem dX9_outside_207 : decode cX9_outside 207 = .ok (.iadd, 1) := dk_96 (dk_at dksX9_outside_8 22 rfl rfl)
theorem dX9_outside_208 : decode cX9_outside 208 = .ok (.iastore, 1) := dk_79 (dk_at dksX9_outside_8 23 rfl rfl)
theorem dX9_outside_209 : decode cX9_outside 209 = .ok (.aload_n 0, 1) := dk_42 (dk_at dksX9_outside_9 0 rfl rfl)
theorem dX9_outside_210 : decode cX9_outside 210 = .ok (.getfield 87, 3) := dk_180 0 87 (dk_at dksX9_outside_9 1 rfl rfl)
theorem dX9_outside_213 : decode cX9_outside 213 = .ok (.bipush 8, 2) := dk_16 8 (dk_at dksX9_outside_9 4 rfl rfl)
theorem dX9_outside_215 : decode cX9_outside 215 = .ok (.aload_n 0, 1) := dk_42 (dk_at dksX9_outside_9 6 rfl rfl)
theorem dX9_outside_216 : decode cX9_outside 216 = .ok (.getfield 288, 3) := dk_180 1 32 (dk_at dksX9_outside_9 7 rfl rfl)
theorem dX9_outside_219 : decode cX9_outside 219 = .ok (.imul, 1) := dk_104 (dk_at dksX9_outside_9 10 rfl rfl)
theorem dX9_outside_220 : decode cX9_outside 220 = .ok (.aload_n 0, 1) := dk_42 (dk_at dksX9_outside_9 11 rfl rfl)
theorem dX9_outside_221 : decode cX9_outside 221 = .ok (.getfield 90, 3) := dk_180 0 90 (dk_at dksX9_outside_9 12 rfl rfl)
theorem dX9_outside_224 : decode cX9_outside 224 = .ok (.aload_n 0, 1) := dk_42 (dk_at dksX9_outside_9 15 rfl rfl)
theorem dX9_outside_225 : decode cX9_outside 225 = .ok (.getfield 288, 3) := dk_180 1 32 (dk_at dksX9_outside_9 16 rfl rfl)
theorem dX9_outside_228 : decode cX9_outside 228 = .ok (.iaload, 1) := dk_46 (dk_at dksX9_outside_9 19 rfl rfl)
theorem dX9_outside_229 : decode cX9_outside 229 = .ok (.iadd, 1) := dk_96 (dk_at dksX9_outside_9 20 rfl rfl)
theorem dX9_outside_230 : decode cX9_outside 230 = .ok (.iconst 1, 1) := dk_4 (dk_at dksX9_outside_9 21 rfl rfl)
theorem dX9_outside_231 : decode cX9_outside 231 = .ok (.isub, 1) := dk_100 (dk_at dksX9_outside_9 22 rfl rfl)
theorem dX9_outside_232 : decode cX9_outside 232 = .ok (.aload_n 0, 1) := dk_42 (dk_at dksX9_outside_9 23 rfl rfl)
theorem dX9_outside_233 : decode cX9_outside 233 = .ok (.iconst 0, 1) := dk_3 (dk_at dksX9_outside_10 0 rfl rfl)
theorem dX9_outside_234 : decode cX9_outside 234 = .ok (.iconst (-1), 1) := dk_2 (dk_at dksX9_outside_10 1 rfl rfl)
theorem dX9_outside_235 : decode cX9_outside 235 = .ok (.invokevirtual 401, 3) := dk_182 1 145 (dk_at dksX9_outside_10 2 rfl rfl)
theorem dX9_outside_238 : decode cX9_outside 238 = .ok (.iastore, 1) := dk_79 (dk_at dksX9_outside_10 5 rfl rfl)
theorem dX9_outside_239 : decode cX9_outside 239 = .ok (.goto 7, 3) := dk_167 0 7 (dk_at dksX9_outside_10 6 rfl rfl)
theorem dX9_outside_242 : decode cX9_outside 242 = .ok (.aload_n 0, 1) := dk_42 (dk_at dksX9_outside_10 9 rfl rfl)
theorem dX9_outside_243 : decode cX9_outside 243 = .ok (.invokevirtual 307, 3) := dk_182 1 51 (dk_at dksX9_outside_10 10 rfl rfl)
theorem dX9_outside_246 : decode cX9_outside 246 = .ok (.return_, 1) := dk_177 (dk_at dksX9_outside_10 13 rfl rfl)
theorem okX9_outside_0 : XOkL xms rX9_outside bX9_outside_0 := xcP (xok_aload_n dX9_outside_0 rfl) rfl (xcP (xok_bipush dX9_outside_1 rfl) rfl (xcC0 (xokc_list (List.forall_mem_cons.mpr ⟨xokc_V (r := (RX9, TX9, 96)) xm110 (List.mem_of_getElem? (i := 9) rfl) (by decide) rfl dX9_outside_3 q2269 q2271 qs60 q149 q2272 (by decide +kernel), fun _ h => nomatch h⟩)) rfl (xcP (xok_ifeq dX9_outside_6 (by decide)) rfl (xcP (xok_aload_n dX9_outside_9 rfl) rfl (xcP (xok_getfield (ref := "WaysAtlasModel") (Or.inr ⟨rfl, by decide⟩) dX9_outside_10 (Or.inl ⟨q1950, (Or.inl rfl)⟩) xh1069) rfl (xcP (xok_aload_n dX9_outside_13 rfl) rfl (xcP (xok_getfield (ref := "WaysAtlasModel") (Or.inl ⟨rfl, by decide⟩) dX9_outside_14 (Or.inl ⟨q1938, (Or.inl rfl)⟩) xh45) rfl (xcP (xok_iaload dX9_outside_17) rfl (xcP (xok_ifne dX9_outside_18 (by decide)) rfl (xcP (xok_aload_n dX9_outside_21 rfl) rfl (xcP (xok_getfield (ref := "WaysAtlasModel") (Or.inr ⟨rfl, by decide⟩) dX9_outside_22 (Or.inl ⟨q1952, (Or.inl rfl)⟩) xh1071) rfl (xcP (xok_aload_n dX9_outside_25 rfl) rfl (xcP (xok_getfield (ref := "WaysAtlasModel") (Or.inl ⟨rfl, by decide⟩) dX9_outside_26 (Or.inl ⟨q1938, (Or.inl rfl)⟩) xh45) rfl (xcP (xok_iaload dX9_outside_29) rfl (xcP (xok_bipush dX9_outside_30 rfl) rfl (xcP (xok_icmpne dX9_outside_32 (by decide)) rfl (xcP (xok_aload_n dX9_outside_35 rfl) rfl (xcP (xok_iconst dX9_outside_36 rfl) rfl (xcP (xok_aload_n dX9_outside_37 rfl) rfl (xcP (xok_getfield (ref := "WaysAtlasModel") (Or.inl ⟨rfl, by decide⟩) dX9_outside_38 (Or.inl ⟨q1934, (Or.inl rfl)⟩) xh41) rfl (xcC0 (xokc_list (List.forall_mem_cons.mpr ⟨xokc_V (r := (RX9, TX9, 96)) xm111 (List.mem_of_getElem? (i := 9) rfl) (by decide) rfl dX9_outside_41 q2273 q2275 qs61 q149 q2276 (by decide +kernel), fun _ h => nomatch h⟩)) rfl (xcR ⟨dX9_outside_44, rfl⟩))))))))))))))))))))))
theorem okX9_outside_45 : XOkL xms rX9_outside bX9_outside_45 := xcP (xok_aload_n dX9_outside_45 rfl) rfl (xcC0 (xokc_list (List.forall_mem_cons.mpr ⟨xokc_V (r := (RX9, TX9, 96)) xm102 (List.mem_of_getElem? (i := 9) rfl) (by decide) rfl dX9_outside_46 q2235 q2237 qs53 q149 q2238 (by decide +kernel), fun _ h => nomatch h⟩)) rfl (xcP (xok_aload_n dX9_outside_49 rfl) rfl (xcP (xok_bipush dX9_outside_50 rfl) rfl (xcC0 (xokc_list (List.forall_mem_cons.mpr ⟨xokc_V (r := (RX9, TX9, 96)) xm110 (List.mem_of_getElem? (i := 9) rfl) (by decide) rfl dX9_outside_52 q2269 q2271 qs60 q149 q2272 (by decide +kernel), fun _ h => nomatch h⟩)) rfl (xcP (xok_ifne dX9_outside_55 (by decide)) rfl (xcP (xok_aload_n dX9_outside_58 rfl) rfl (xcC0 (xokc_list (List.forall_mem_cons.mpr ⟨xokc_V (r := (RX9, TX9, 96)) xm112 (List.mem_of_getElem? (i := 9) rfl) (by decide) rfl dX9_outside_59 q2277 q2279 qs62 q149 q2280 (by decide +kernel), fun _ h => nomatch h⟩)) rfl (xcR ⟨dX9_outside_62, rfl⟩))))))))
theorem okX9_outside_63 : XOkL xms rX9_outside bX9_outside_63 := xcP (xok_aload_n dX9_outside_63 rfl) rfl (xcC0 (xokc_list (List.forall_mem_cons.mpr ⟨xokc_V (r := (RX9, TX9, 96)) xm102 (List.mem_of_getElem? (i := 9) rfl) (by decide) rfl dX9_outside_64 q2235 q2237 qs53 q149 q2238 (by decide +kernel), fun _ h => nomatch h⟩)) rfl (xcP (xok_aload_n dX9_outside_67 rfl) rfl (xcP (xok_getfield (ref := "WaysAtlasModel") (Or.inl ⟨rfl, by decide⟩) dX9_outside_68 (Or.inl ⟨q1934, (Or.inl rfl)⟩) xh41) rfl (xcP (xok_istore_n dX9_outside_71 rfl) rfl (xcP (xok_aload_n dX9_outside_72 rfl) rfl (xcP (xok_getfield (ref := "WaysAtlasModel") (Or.inl ⟨rfl, by decide⟩) dX9_outside_73 (Or.inl ⟨q1958, (Or.inl rfl)⟩) xh52) rfl (xcP (xok_istore_n dX9_outside_76 rfl) rfl (xcP (xok_aload_n dX9_outside_77 rfl) rfl (xcP (xok_iconst dX9_outside_78 rfl) rfl (xcC0 (xokc_list (List.forall_mem_cons.mpr ⟨xokc_V (r := (RX9, TX9, 96)) xm113 (List.mem_of_getElem? (i := 9) rfl) (by decide) rfl dX9_outside_79 q2281 q2283 qs63 q149 q2284 (by decide +kernel), fun _ h => nomatch h⟩)) rfl (xcP (xok_istore_n dX9_outside_82 rfl) rfl (xcP (xok_aload_n dX9_outside_83 rfl) rfl (xcP (xok_getfield (ref := "WaysAtlasModel") (Or.inl ⟨rfl, by decide⟩) dX9_outside_84 (Or.inl ⟨q1955, (Or.inl rfl)⟩) xh49) rfl (xcP (xok_ifne dX9_outside_87 (by decide)) rfl (xcP (xok_aload_n dX9_outside_90 rfl) rfl (xcP (xok_getfield (ref := "WaysAtlasModel") (Or.inr ⟨rfl, by decide⟩) dX9_outside_91 (Or.inl ⟨q1959, (Or.inl rfl)⟩) xh1072) rfl (xcP (xok_iload_n dX9_outside_94 rfl) rfl (xcP (xok_iload_n dX9_outside_95 rfl) rfl (xcP (xok_aload_n dX9_outside_96 rfl) rfl (xcP (xok_getfield (ref := "WaysAtlasModel") (Or.inr ⟨rfl, by decide⟩) dX9_outside_97 (Or.inl ⟨q1952, (Or.inl rfl)⟩) xh1071) rfl (xcP (xok_aload_n dX9_outside_100 rfl) rfl (xcP (xok_getfield (ref := "WaysAtlasModel") (Or.inl ⟨rfl, by decide⟩) dX9_outside_101 (Or.inl ⟨q1938, (Or.inl rfl)⟩) xh45) rfl (xcP (xok_iaload dX9_outside_104) rfl (xcP (xok_icmpge dX9_outside_105 (by decide)) rfl (xcP (xok_iconst dX9_outside_108 rfl) rfl (xcP (xok_goto dX9_outside_109 (by decide)) rfl trivial))))))))))))))))))))))))))
theorem okX9_outside_112 : XOkL xms rX9_outside bX9_outside_112 := xcP (xok_iconst dX9_outside_112 rfl) rfl (xcP xok_fal rfl trivial)
theorem okX9_outside_113 : XOkL xms rX9_outside bX9_outside_113 := xcP (xok_iastore dX9_outside_113) rfl (xcP xok_fal rfl trivial)
theorem okX9_outside_114 : XOkL xms rX9_outside bX9_outside_114 := xcP (xok_aload_n dX9_outside_114 rfl) rfl (xcP (xok_getfield (ref := "WaysAtlasModel") (Or.inr ⟨rfl, by decide⟩) dX9_outside_115 (Or.inl ⟨q1951, (Or.inl rfl)⟩) xh1070) rfl (xcP (xok_bipush dX9_outside_118 rfl) rfl (xcP (xok_aload_n dX9_outside_120 rfl) rfl (xcP (xok_getfield (ref := "WaysAtlasModel") (Or.inl ⟨rfl, by decide⟩) dX9_outside_121 (Or.inl ⟨q1938, (Or.inl rfl)⟩) xh45) rfl (xcP (xok_imul dX9_outside_124) rfl (xcP (xok_aload_n dX9_outside_125 rfl) rfl (xcP (xok_getfield (ref := "WaysAtlasModel") (Or.inr ⟨rfl, by decide⟩) dX9_outside_126 (Or.inl ⟨q1952, (Or.inl rfl)⟩) xh1071) rfl (xcP (xok_aload_n dX9_outside_129 rfl) rfl (xcP (xok_getfield (ref := "WaysAtlasModel") (Or.inl ⟨rfl, by decide⟩) dX9_outside_130 (Or.inl ⟨q1938, (Or.inl rfl)⟩) xh45) rfl (xcP (xok_iaload dX9_outside_133) rfl (xcP (xok_iadd dX9_outside_134) rfl (xcP (xok_iload_n dX9_outside_135 rfl) rfl (xcP (xok_iastore dX9_outside_136) rfl (xcP (xok_aload_n dX9_outside_137 rfl) rfl (xcP (xok_getfield (ref := "WaysAtlasModel") (Or.inr ⟨rfl, by decide⟩) dX9_outside_138 (Or.inl ⟨q1952, (Or.inl rfl)⟩) xh1071) rfl (xcP (xok_aload_n dX9_outside_141 rfl) rfl (xcP (xok_getfield (ref := "WaysAtlasModel") (Or.inl ⟨rfl, by decide⟩) dX9_outside_142 (Or.inl ⟨q1938, (Or.inl rfl)⟩) xh45) rfl (xcP (xok_dup2 dX9_outside_145) rfl (xcP (xok_iaload dX9_outside_146) rfl (xcP (xok_iconst dX9_outside_147 rfl) rfl (xcP (xok_iadd dX9_outside_148) rfl (xcP (xok_iastore dX9_outside_149) rfl (xcP (xok_aload_n dX9_outside_150 rfl) rfl (xcP (xok_bipush dX9_outside_151 rfl) rfl (xcC0 (xokc_list (List.forall_mem_cons.mpr ⟨xokc_V (r := (RX9, TX9, 96)) xm116 (List.mem_of_getElem? (i := 9) rfl) (by decide) rfl dX9_outside_153 q2293 q2295 qs66 q149 q2296 (by decide +kernel), fun _ h => nomatch h⟩)) rfl (xcP (xok_goto dX9_outside_156 (by decide)) rfl trivial))))))))))))))))))))))))))
theorem okX9_outside_159 : XOkL xms rX9_outside bX9_outside_159 := xcP (xok_aload_n dX9_outside_159 rfl) rfl (xcP (xok_bipush dX9_outside_160 rfl) rfl (xcC0 (xokc_list (List.forall_mem_cons.mpr ⟨xokc_V (r := (RX9, TX9, 96)) xm110 (List.mem_of_getElem? (i := 9) rfl) (by decide) rfl dX9_outside_162 q2269 q2271 qs60 q149 q2272 (by decide +kernel), fun _ h => nomatch h⟩)) rfl (xcP (xok_ifeq dX9_outside_165 (by decide)) rfl (xcP (xok_aload_n dX9_outside_168 rfl) rfl (xcP (xok_getfield (ref := "WaysAtlasModel") (Or.inr ⟨rfl, by decide⟩) dX9_outside_169 (Or.inl ⟨q1950, (Or.inl rfl)⟩) xh1069) rfl (xcP (xok_aload_n dX9_outside_172 rfl) rfl (xcP (xok_getfield (ref := "WaysAtlasModel") (Or.inl ⟨rfl, by decide⟩) dX9_outside_173 (Or.inl ⟨q1938, (Or.inl rfl)⟩) xh45) rfl (xcP (xok_iaload dX9_outside_176) rfl (xcP (xok_bipush dX9_outside_177 rfl) rfl (xcP (xok_icmpne dX9_outside_179 (by decide)) rfl (xcP (xok_aload_n dX9_outside_182 rfl) rfl (xcP (xok_iconst dX9_outside_183 rfl) rfl (xcP (xok_aload_n dX9_outside_184 rfl) rfl (xcP (xok_getfield (ref := "WaysAtlasModel") (Or.inl ⟨rfl, by decide⟩) dX9_outside_185 (Or.inl ⟨q1934, (Or.inl rfl)⟩) xh41) rfl (xcC0 (xokc_list (List.forall_mem_cons.mpr ⟨xokc_V (r := (RX9, TX9, 96)) xm111 (List.mem_of_getElem? (i := 9) rfl) (by decide) rfl dX9_outside_188 q2273 q2275 qs61 q149 q2276 (by decide +kernel), fun _ h => nomatch h⟩)) rfl (xcR ⟨dX9_outside_191, rfl⟩))))))))))))))))
theorem okX9_outside_192 : XOkL xms rX9_outside bX9_outside_192 := xcP (xok_aload_n dX9_outside_192 rfl) rfl (xcC0 (xokc_list (List.forall_mem_cons.mpr ⟨xokc_V (r := (RX9, TX9, 96)) xm102 (List.mem_of_getElem? (i := 9) rfl) (by decide) rfl dX9_outside_193 q2235 q2237 qs53 q149 q2238 (by decide +kernel), fun _ h => nomatch h⟩)) rfl (xcP (xok_aload_n dX9_outside_196 rfl) rfl (xcP (xok_getfield (ref := "WaysAtlasModel") (Or.inr ⟨rfl, by decide⟩) dX9_outside_197 (Or.inl ⟨q1950, (Or.inl rfl)⟩) xh1069) rfl (xcP (xok_aload_n dX9_outside_200 rfl) rfl (xcP (xok_getfield (ref := "WaysAtlasModel") (Or.inl ⟨rfl, by decide⟩) dX9_outside_201 (Or.inl ⟨q1938, (Or.inl rfl)⟩) xh45) rfl (xcP (xok_dup2 dX9_outside_204) rfl (xcP (xok_iaload dX9_outside_205) rfl (xcP (xok_iconst dX9_outside_206 rfl) rfl (xcP (xok_iadd dX9_outside_207) rfl (xcP (xok_iastore dX9_outside_208) rfl (xcP (xok_aload_n dX9_outside_209 rfl) rfl (xcP (xok_getfield (ref := "WaysAtlasModel") (Or.inr ⟨rfl, by decide⟩) dX9_outside_210 (Or.inl ⟨q1949, (Or.inl rfl)⟩) xh1068) rfl (xcP (xok_bipush dX9_outside_213 rfl) rfl (xcP (xok_aload_n dX9_outside_215 rfl) rfl (xcP (xok_getfield (ref := "WaysAtlasModel") (Or.inl ⟨rfl, by decide⟩) dX9_outside_216 (Or.inl ⟨q1938, (Or.inl rfl)⟩) xh45) rfl (xcP (xok_imul dX9_outside_219) rfl (xcP (xok_aload_n dX9_outside_220 rfl) rfl (xcP (xok_getfield (ref := "WaysAtlasModel") (Or.inr ⟨rfl, by decide⟩) dX9_outside_221 (Or.inl ⟨q1950, (Or.inl rfl)⟩) xh1069) rfl (xcP (xok_aload_n dX9_outside_224 rfl) rfl (xcP (xok_getfield (ref := "WaysAtlasModel") (Or.inl ⟨rfl, by decide⟩) dX9_outside_225 (Or.inl ⟨q1938, (Or.inl rfl)⟩) xh45) rfl (xcP (xok_iaload dX9_outside_228) rfl (xcP (xok_iadd dX9_outside_229) rfl (xcP (xok_iconst dX9_outside_230 rfl) rfl (xcP (xok_isub dX9_outside_231) rfl (xcP (xok_aload_n dX9_outside_232 rfl) rfl (xcP (xok_iconst dX9_outside_233 rfl) rfl (xcP (xok_iconst dX9_outside_234 rfl) rfl (xcC0 (xokc_list (List.forall_mem_cons.mpr ⟨xokc_V (r := (RX9, TX9, 96)) xm118 (List.mem_of_getElem? (i := 9) rfl) (by decide) rfl dX9_outside_235 q2301 q2303 qs68 q149 q2304 (by decide +kernel), fun _ h => nomatch h⟩)) rfl (xcP (xok_iastore dX9_outside_238) rfl (xcP (xok_goto dX9_outside_239 (by decide)) rfl trivial))))))))))))))))))))))))))))))
theorem okX9_outside_242 : XOkL xms rX9_outside bX9_outside_242 := xcP (xok_aload_n dX9_outside_242 rfl) rfl (xcC0 (xokc_list (List.forall_mem_cons.mpr ⟨xokc_V (r := (RX9, TX9, 96)) xm112 (List.mem_of_getElem? (i := 9) rfl) (by decide) rfl dX9_outside_243 q2277 q2279 qs62 q149 q2280 (by decide +kernel), fun _ h => nomatch h⟩)) rfl (xcP xok_fal rfl trivial))
theorem okX9_outside_246 : XOkL xms rX9_outside bX9_outside_246 := xcR ⟨dX9_outside_246, rfl⟩
theorem okM_X9_outside : XOkM xms rX9_outside := xokM0 (List.forall_mem_cons.mpr ⟨⟨rfl, okX9_outside_0⟩, List.forall_mem_cons.mpr ⟨⟨rfl, okX9_outside_45⟩, List.forall_mem_cons.mpr ⟨⟨rfl, okX9_outside_63⟩, List.forall_mem_cons.mpr ⟨⟨rfl, okX9_outside_112⟩, List.forall_mem_cons.mpr ⟨⟨rfl, okX9_outside_113⟩, List.forall_mem_cons.mpr ⟨⟨rfl, okX9_outside_114⟩, List.forall_mem_cons.mpr ⟨⟨rfl, okX9_outside_159⟩, List.forall_mem_cons.mpr ⟨⟨rfl, okX9_outside_192⟩, List.forall_mem_cons.mpr ⟨⟨rfl, okX9_outside_242⟩, List.forall_mem_cons.mpr ⟨⟨rfl, okX9_outside_246⟩, fun _ h => nomatch h⟩⟩⟩⟩⟩⟩⟩⟩⟩⟩) (xokH0 rfl (fun _ _ => rfl)) (by decide +kernel) (by decide)
abbrev cX9_isWord : ByteArray := prog_36_method_12_code
def dkwX9_isWord_0 : List UInt8 := [42, 180, 1, 13, 5, 160, 0, 15, 42, 180, 1, 16, 27, 160, 0, 7, 4, 167, 0, 4, 3, 172]
abbrev dktX9_isWord_0 : List UInt8 := dkwX9_isWord_0 ++ []
theorem dksX9_isWord_0 : cX9_isWord.data.toList.drop 0 = dktX9_isWord_0 := by decide +kernel
theorem dX9_isWord_0 : decode cX9_isWord 0 = .ok (.aload_n 0, 1) := dk_42 (dk_at dksX9_isWord_0 0 rfl rfl)
theorem dX9_isWord_1 : decode cX9_isWord 1 = .ok (.getfield 269, 3) := dk_180 1 13 (dk_at dksX9_isWord_0 1 rfl rfl)
theorem dX9_isWord_4 : decode cX9_isWord 4 = .ok (.iconst 2, 1) := dk_5 (dk_at dksX9_isWord_0 4 rfl rfl)
theorem dX9_isWord_5 : decode cX9_isWord 5 = .ok (.if_icmp .ne 15, 3) := dk_160 0 15 (dk_at dksX9_isWord_0 5 rfl rfl)
theorem dX9_isWord_8 : decode cX9_isWord 8 = .ok (.aload_n 0, 1) := dk_42 (dk_at dksX9_isWord_0 8 rfl rfl)
theorem dX9_isWord_9 : decode cX9_isWord 9 = .ok (.getfield 272, 3) := dk_180 1 16 (dk_at dksX9_isWord_0 9 rfl rfl)
theorem dX9_isWord_12 : decode cX9_isWord 12 = .ok (.iload_n 1, 1) := dk_27 (dk_at dksX9_isWord_0 12 rfl rfl)
theorem dX9_isWord_13 : decode cX9_isWord 13 = .ok (.if_icmp .ne 7, 3) := dk_160 0 7 (dk_at dksX9_isWord_0 13 rfl rfl)
theorem dX9_isWord_16 : decode cX9_isWord 16 = .ok (.iconst 1, 1) := dk_4 (dk_at dksX9_isWord_0 16 rfl rfl)
theorem dX9_isWord_17 : decode cX9_isWord 17 = .ok (.goto 4, 3) := dk_167 0 4 (dk_at dksX9_isWord_0 17 rfl rfl)
theorem dX9_isWord_20 : decode cX9_isWord 20 = .ok (.iconst 0, 1) := dk_3 (dk_at dksX9_isWord_0 20 rfl rfl)
theorem dX9_isWord_21 : decode cX9_isWord 21 = .ok (.ireturn, 1) := dk_172 (dk_at dksX9_isWord_0 21 rfl rfl)
theorem okX9_isWord_0 : XOkL xms rX9_isWord bX9_isWord_0 := xcP (xok_aload_n dX9_isWord_0 rfl) rfl (xcP (xok_getfield (ref := "WaysAtlasModel") (Or.inl ⟨rfl, by decide⟩) dX9_isWord_1 (Or.inl ⟨q1933, (Or.inl rfl)⟩) xh40) rfl (xcP (xok_iconst dX9_isWord_4 rfl) rfl (xcP (xok_icmpne dX9_isWord_5 (by decide)) rfl (xcP (xok_aload_n dX9_isWord_8 rfl) rfl (xcP (xok_getfield (ref := "WaysAtlasModel") (Or.inl ⟨rfl, by decide⟩) dX9_isWord_9 (Or.inl ⟨q1935, (Or.inl rfl)⟩) xh42) rfl (xcP (xok_iload_n dX9_isWord_12 rfl) rfl (xcP (xok_icmpne dX9_isWord_13 (by decide)) rfl (xcP (xok_iconst dX9_isWord_16 rfl) rfl (xcP (xok_goto dX9_isWord_17 (by decide)) rfl trivial)))))))))
theorem okX9_isWord_20 : XOkL xms rX9_isWord bX9_isWord_20 := xcP (xok_iconst dX9_isWord_20 rfl) rfl (xcP xok_fal rfl trivial)
theorem okX9_isWord_21 : XOkL xms rX9_isWord bX9_isWord_21 := xcR ⟨dX9_isWord_21, rfl⟩
theorem okM_X9_isWord : XOkM xms rX9_isWord := xokM0 (List.forall_mem_cons.mpr ⟨⟨rfl, okX9_isWord_0⟩, List.forall_mem_cons.mpr ⟨⟨rfl, okX9_isWord_20⟩, List.forall_mem_cons.mpr ⟨⟨rfl, okX9_isWord_21⟩, fun _ h => nomatch h⟩⟩⟩) (xokH0 rfl (fun _ _ => rfl)) (by decide +kernel) (by decide)
abbrev cX9_fails : ByteArray := prog_36_method_17_code
def dkwX9_fails_0 : List UInt8 := [42, 180, 1, 35, 154, 0, 13, 42, 27, 181, 1, 35, 42, 28, 181, 1, 38, 177]
abbrev dktX9_fails_0 : List UInt8 := dkwX9_fails_0 ++ []
theorem dksX9_fails_0 : cX9_fails.data.toList.drop 0 = dktX9_fails_0 := by decide +kernel
theorem dX9_fails_0 : decode cX9_fails 0 = .ok (.aload_n 0, 1) := dk_42 (dk_at dksX9_fails_0 0 rfl rfl)
theorem dX9_fails_1 : decode cX9_fails 1 = .ok (.getfield 291, 3) := dk_180 1 35 (dk_at dksX9_fails_0 1 rfl rfl)
theorem dX9_fails_4 : decode cX9_fails 4 = .ok (.ifCond .ne 13, 3) := dk_154 0 13 (dk_at dksX9_fails_0 4 rfl rfl)
theorem dX9_fails_7 : decode cX9_fails 7 = .ok (.aload_n 0, 1) := dk_42 (dk_at dksX9_fails_0 7 rfl rfl)
theorem dX9_fails_8 : decode cX9_fails 8 = .ok (.iload_n 1, 1) := dk_27 (dk_at dksX9_fails_0 8 rfl rfl)
theorem dX9_fails_9 : decode cX9_fails 9 = .ok (.putfield 291, 3) := dk_181 1 35 (dk_at dksX9_fails_0 9 rfl rfl)
theorem dX9_fails_12 : decode cX9_fails 12 = .ok (.aload_n 0, 1) := dk_42 (dk_at dksX9_fails_0 12 rfl rfl)
theorem dX9_fails_13 : decode cX9_fails 13 = .ok (.iload_n 2, 1) := dk_28 (dk_at dksX9_fails_0 13 rfl rfl)
theorem dX9_fails_14 : decode cX9_fails 14 = .ok (.putfield 294, 3) := dk_181 1 38 (dk_at dksX9_fails_0 14 rfl rfl)
theorem dX9_fails_17 : decode cX9_fails 17 = .ok (.return_, 1) := dk_177 (dk_at dksX9_fails_0 17 rfl rfl)
theorem okX9_fails_0 : XOkL xms rX9_fails bX9_fails_0 := xcP (xok_aload_n dX9_fails_0 rfl) rfl (xcP (xok_getfield (ref := "WaysAtlasModel") (Or.inl ⟨rfl, by decide⟩) dX9_fails_1 (Or.inl ⟨q1955, (Or.inl rfl)⟩) xh49) rfl (xcP (xok_ifne dX9_fails_4 (by decide)) rfl (xcP (xok_aload_n dX9_fails_7 rfl) rfl (xcP (xok_iload_n dX9_fails_8 rfl) rfl (xcP (xok_putfield (ref := "WaysAtlasModel") (Or.inl ⟨rfl, by decide, rfl⟩) dX9_fails_9 (Or.inl ⟨q1955, (Or.inl rfl)⟩) (Or.inl rfl) xh49) rfl (xcP (xok_aload_n dX9_fails_12 rfl) rfl (xcP (xok_iload_n dX9_fails_13 rfl) rfl (xcP (xok_putfield (ref := "WaysAtlasModel") (Or.inl ⟨rfl, by decide, rfl⟩) dX9_fails_14 (Or.inl ⟨q1956, (Or.inl rfl)⟩) (Or.inl rfl) xh50) rfl (xcP xok_fal rfl trivial)))))))))
theorem okX9_fails_17 : XOkL xms rX9_fails bX9_fails_17 := xcR ⟨dX9_fails_17, rfl⟩
theorem okM_X9_fails : XOkM xms rX9_fails := xokM0 (List.forall_mem_cons.mpr ⟨⟨rfl, okX9_fails_0⟩, List.forall_mem_cons.mpr ⟨⟨rfl, okX9_fails_17⟩, fun _ h => nomatch h⟩⟩) (xokH0 rfl (fun _ _ => rfl)) (by decide +kernel) (by decide)
abbrev cX9_cannot : ByteArray := prog_36_method_18_code
def dkwX9_cannot_0 : List UInt8 := [42, 4, 42, 180, 1, 23, 182, 1, 41, 177]
abbrev dktX9_cannot_0 : List UInt8 := dkwX9_cannot_0 ++ []
theorem dksX9_cannot_0 : cX9_cannot.data.toList.drop 0 = dktX9_cannot_0 := by decide +kernel
theorem dX9_cannot_0 : decode cX9_cannot 0 = .ok (.aload_n 0, 1) := dk_42 (dk_at dksX9_cannot_0 0 rfl rfl)
theorem dX9_cannot_1 : decode cX9_cannot 1 = .ok (.iconst 1, 1) := dk_4 (dk_at dksX9_cannot_0 1 rfl rfl)
theorem dX9_cannot_2 : decode cX9_cannot 2 = .ok (.aload_n 0, 1) := dk_42 (dk_at dksX9_cannot_0 2 rfl rfl)
theorem dX9_cannot_3 : decode cX9_cannot 3 = .ok (.getfield 279, 3) := dk_180 1 23 (dk_at dksX9_cannot_0 3 rfl rfl)
theorem dX9_cannot_6 : decode cX9_cannot 6 = .ok (.invokevirtual 297, 3) := dk_182 1 41 (dk_at dksX9_cannot_0 6 rfl rfl)
theorem dX9_cannot_9 : decode cX9_cannot 9 = .ok (.return_, 1) := dk_177 (dk_at dksX9_cannot_0 9 rfl rfl)
theorem okX9_cannot_0 : XOkL xms rX9_cannot bX9_cannot_0 := xcP (xok_aload_n dX9_cannot_0 rfl) rfl (xcP (xok_iconst dX9_cannot_1 rfl) rfl (xcP (xok_aload_n dX9_cannot_2 rfl) rfl (xcP (xok_getfield (ref := "WaysAtlasModel") (Or.inl ⟨rfl, by decide⟩) dX9_cannot_3 (Or.inl ⟨q1934, (Or.inl rfl)⟩) xh41) rfl (xcC0 (xokc_list (List.forall_mem_cons.mpr ⟨xokc_V (r := (RX9, TX9, 96)) xm111 (List.mem_of_getElem? (i := 9) rfl) (by decide) rfl dX9_cannot_6 q2273 q2275 qs61 q149 q2276 (by decide +kernel), fun _ h => nomatch h⟩)) rfl (xcR ⟨dX9_cannot_9, rfl⟩)))))
theorem okM_X9_cannot : XOkM xms rX9_cannot := xokM0 (List.forall_mem_cons.mpr ⟨⟨rfl, okX9_cannot_0⟩, fun _ h => nomatch h⟩) (xokH0 rfl (fun _ _ => rfl)) (by decide +kernel) (by decide)
abbrev cX9_takeKind : ByteArray := prog_36_method_22_code
def dkwX9_takeKind_1 : List UInt8 := [61, 42, 180, 1, 35, 154, 0, 17, 42, 27, 42, 180, 1, 23, 28, 182, 1, 60, 42, 182, 1, 54, 28, 172]
abbrev dktX9_takeKind_1 : List UInt8 := dkwX9_takeKind_1 ++ []
def dkwX9_takeKind_0 : List UInt8 := [42, 180, 1, 35, 154, 0, 16, 42, 16, 107, 182, 1, 57, 154, 0, 7, 42, 182, 1, 51, 42, 180, 0, 250]
abbrev dktX9_takeKind_0 : List UInt8 := dkwX9_takeKind_0 ++ dktX9_takeKind_1
theorem dksX9_takeKind_0 : cX9_takeKind.data.toList.drop 0 = dktX9_takeKind_0 := by decide +kernel
theorem dksX9_takeKind_1 : cX9_takeKind.data.toList.drop 24 = dktX9_takeKind_1 := dk_seg dksX9_takeKind_0 24 rfl rfl
theorem dX9_takeKind_0 : decode cX9_takeKind 0 = .ok (.aload_n 0, 1) := dk_42 (dk_at dksX9_takeKind_0 0 rfl rfl)
theorem dX9_takeKind_1 : decode cX9_takeKind 1 = .ok (.getfield 291, 3) := dk_180 1 35 (dk_at dksX9_takeKind_0 1 rfl rfl)
theorem dX9_takeKind_4 : decode cX9_takeKind 4 = .ok (.ifCond .ne 16, 3) := dk_154 0 16 (dk_at dksX9_takeKind_0 4 rfl rfl)
theorem dX9_takeKind_7 : decode cX9_takeKind 7 = .ok (.aload_n 0, 1) := dk_42 (dk_at dksX9_takeKind_0 7 rfl rfl)
theorem dX9_takeKind_8 : decode cX9_takeKind 8 = .ok (.bipush 107, 2) := dk_16 107 (dk_at dksX9_takeKind_0 8 rfl rfl)
theorem dX9_takeKind_10 : decode cX9_takeKind 10 = .ok (.invokevirtual 313, 3) := dk_182 1 57 (dk_at dksX9_takeKind_0 10 rfl rfl)
theorem dX9_takeKind_13 : decode cX9_takeKind 13 = .ok (.ifCond .ne 7, 3) := dk_154 0 7 (dk_at dksX9_takeKind_0 13 rfl rfl)
theorem dX9_takeKind_16 : decode cX9_takeKind 16 = .ok (.aload_n 0, 1) := dk_42 (dk_at dksX9_takeKind_0 16 rfl rfl)
theorem dX9_takeKind_17 : decode cX9_takeKind 17 = .ok (.invokevirtual 307, 3) := dk_182 1 51 (dk_at dksX9_takeKind_0 17 rfl rfl)
theorem dX9_takeKind_20 : decode cX9_takeKind 20 = .ok (.aload_n 0, 1) := dk_42 (dk_at dksX9_takeKind_0 20 rfl rfl)
theorem dX9_takeKind_21 : decode cX9_takeKind 21 = .ok (.getfield 250, 3) := dk_180 0 250 (dk_at dksX9_takeKind_0 21 rfl rfl)
theorem dX9_takeKind_24 : decode cX9_takeKind 24 = .ok (.istore_n 2, 1) := dk_61 (dk_at dksX9_takeKind_1 0 rfl rfl)
theorem dX9_takeKind_25 : decode cX9_takeKind 25 = .ok (.aload_n 0, 1) := dk_42 (dk_at dksX9_takeKind_1 1 rfl rfl)
theorem dX9_takeKind_26 : decode cX9_takeKind 26 = .ok (.getfield 291, 3) := dk_180 1 35 (dk_at dksX9_takeKind_1 2 rfl rfl)
theorem dX9_takeKind_29 : decode cX9_takeKind 29 = .ok (.ifCond .ne 17, 3) := dk_154 0 17 (dk_at dksX9_takeKind_1 5 rfl rfl)
theorem dX9_takeKind_32 : decode cX9_takeKind 32 = .ok (.aload_n 0, 1) := dk_42 (dk_at dksX9_takeKind_1 8 rfl rfl)
theorem dX9_takeKind_33 : decode cX9_takeKind 33 = .ok (.iload_n 1, 1) := dk_27 (dk_at dksX9_takeKind_1 9 rfl rfl)
theorem dX9_takeKind_34 : decode cX9_takeKind 34 = .ok (.aload_n 0, 1) := dk_42 (dk_at dksX9_takeKind_1 10 rfl rfl)
theorem dX9_takeKind_35 : decode cX9_takeKind 35 = .ok (.getfield 279, 3) := dk_180 1 23 (dk_at dksX9_takeKind_1 11 rfl rfl)
theorem dX9_takeKind_38 : decode cX9_takeKind 38 = .ok (.iload_n 2, 1) := dk_28 (dk_at dksX9_takeKind_1 14 rfl rfl)
theorem dX9_takeKind_39 : decode cX9_takeKind 39 = .ok (.invokevirtual 316, 3) := dk_182 1 60 (dk_at dksX9_takeKind_1 15 rfl rfl)
theorem dX9_takeKind_42 : decode cX9_takeKind 42 = .ok (.aload_n 0, 1) := dk_42 (dk_at dksX9_takeKind_1 18 rfl rfl)
theorem dX9_takeKind_43 : decode cX9_takeKind 43 = .ok (.invokevirtual 310, 3) := dk_182 1 54 (dk_at dksX9_takeKind_1 19 rfl rfl)
theorem dX9_takeKind_46 : decode cX9_takeKind 46 = .ok (.iload_n 2, 1) := dk_28 (dk_at dksX9_takeKind_1 22 rfl rfl)
theorem dX9_takeKind_47 : decode cX9_takeKind 47 = .ok (.ireturn, 1) := dk_172 (dk_at dksX9_takeKind_1 23 rfl rfl)
theorem okX9_takeKind_0 : XOkL xms rX9_takeKind bX9_takeKind_0 := xcP (xok_aload_n dX9_takeKind_0 rfl) rfl (xcP (xok_getfield (ref := "WaysAtlasModel") (Or.inl ⟨rfl, by decide⟩) dX9_takeKind_1 (Or.inl ⟨q1955, (Or.inl rfl)⟩) xh49) rfl (xcP (xok_ifne dX9_takeKind_4 (by decide)) rfl (xcP (xok_aload_n dX9_takeKind_7 rfl) rfl (xcP (xok_bipush dX9_takeKind_8 rfl) rfl (xcC0 (xokc_list (List.forall_mem_cons.mpr ⟨xokc_V (r := (RX9, TX9, 96)) xm114 (List.mem_of_getElem? (i := 9) rfl) (by decide) rfl dX9_takeKind_10 q2285 q2287 qs64 q149 q2288 (by decide +kernel), fun _ h => nomatch h⟩)) rfl (xcP (xok_ifne dX9_takeKind_13 (by decide)) rfl (xcP (xok_aload_n dX9_takeKind_16 rfl) rfl (xcC0 (xokc_list (List.forall_mem_cons.mpr ⟨xokc_V (r := (RX9, TX9, 96)) xm112 (List.mem_of_getElem? (i := 9) rfl) (by decide) rfl dX9_takeKind_17 q2277 q2279 qs62 q149 q2280 (by decide +kernel), fun _ h => nomatch h⟩)) rfl (xcP xok_fal rfl trivial)))))))))
theorem okX9_takeKind_20 : XOkL xms rX9_takeKind bX9_takeKind_20 := xcP (xok_aload_n dX9_takeKind_20 rfl) rfl (xcP (xok_getfield (ref := "WaysAtlasModel") (Or.inl ⟨rfl, by decide⟩) dX9_takeKind_21 (Or.inl ⟨q1936, (Or.inl rfl)⟩) xh43) rfl (xcP (xok_istore_n dX9_takeKind_24 rfl) rfl (xcP (xok_aload_n dX9_takeKind_25 rfl) rfl (xcP (xok_getfield (ref := "WaysAtlasModel") (Or.inl ⟨rfl, by decide⟩) dX9_takeKind_26 (Or.inl ⟨q1955, (Or.inl rfl)⟩) xh49) rfl (xcP (xok_ifne dX9_takeKind_29 (by decide)) rfl (xcP (xok_aload_n dX9_takeKind_32 rfl) rfl (xcP (xok_iload_n dX9_takeKind_33 rfl) rfl (xcP (xok_aload_n dX9_takeKind_34 rfl) rfl (xcP (xok_getfield (ref := "WaysAtlasModel") (Or.inl ⟨rfl, by decide⟩) dX9_takeKind_35 (Or.inl ⟨q1934, (Or.inl rfl)⟩) xh41) rfl (xcP (xok_iload_n dX9_takeKind_38 rfl) rfl (xcC0 (xokc_list (List.forall_mem_cons.mpr ⟨xokc_V (r := (RX9, TX9, 96)) xm115 (List.mem_of_getElem? (i := 9) rfl) (by decide) rfl dX9_takeKind_39 q2289 q2291 qs65 q149 q2292 (by decide +kernel), fun _ h => nomatch h⟩)) rfl (xcP (xok_aload_n dX9_takeKind_42 rfl) rfl (xcC0 (xokc_list (List.forall_mem_cons.mpr ⟨xokc_V (r := (RX9, TX9, 96)) xm102 (List.mem_of_getElem? (i := 9) rfl) (by decide) rfl dX9_takeKind_43 q2235 q2237 qs53 q149 q2238 (by decide +kernel), fun _ h => nomatch h⟩)) rfl (xcP xok_fal rfl trivial))))))))))))))
theorem okX9_takeKind_46 : XOkL xms rX9_takeKind bX9_takeKind_46 := xcP (xok_iload_n dX9_takeKind_46 rfl) rfl (xcR ⟨dX9_takeKind_47, rfl⟩)
theorem okM_X9_takeKind : XOkM xms rX9_takeKind := xokM0 (List.forall_mem_cons.mpr ⟨⟨rfl, okX9_takeKind_0⟩, List.forall_mem_cons.mpr ⟨⟨rfl, okX9_takeKind_20⟩, List.forall_mem_cons.mpr ⟨⟨rfl, okX9_takeKind_46⟩, fun _ h => nomatch h⟩⟩⟩) (xokH0 rfl (fun _ _ => rfl)) (by decide +kernel) (by decide)
abbrev cX9_isName : ByteArray := prog_36_method_14_code
def dkwX9_isName_0 : List UInt8 := [42, 180, 1, 13, 6, 160, 0, 15, 42, 180, 1, 16, 27, 160, 0, 7, 4, 167, 0, 4, 3, 172]
abbrev dktX9_isName_0 : List UInt8 := dkwX9_isName_0 ++ []
theorem dksX9_isName_0 : cX9_isName.data.toList.drop 0 = dktX9_isName_0 := by decide +kernel
theorem dX9_isName_0 : decode cX9_isName 0 = .ok (.aload_n 0, 1) := dk_42 (dk_at dksX9_isName_0 0 rfl rfl)
theorem dX9_isName_1 : decode cX9_isName 1 = .ok (.getfield 269, 3) := dk_180 1 13 (dk_at dksX9_isName_0 1 rfl rfl)
theorem dX9_isName_4 : decode cX9_isName 4 = .ok (.iconst 3, 1) := dk_6 (dk_at dksX9_isName_0 4 rfl rfl)
theorem dX9_isName_5 : decode cX9_isName 5 = .ok (.if_icmp .ne 15, 3) := dk_160 0 15 (dk_at dksX9_isName_0 5 rfl rfl)
theorem dX9_isName_8 : decode cX9_isName 8 = .ok (.aload_n 0, 1) := dk_42 (dk_at dksX9_isName_0 8 rfl rfl)
theorem dX9_isName_9 : decode cX9_isName 9 = .ok (.getfield 272, 3) := dk_180 1 16 (dk_at dksX9_isName_0 9 rfl rfl)
theorem dX9_isName_12 : decode cX9_isName 12 = .ok (.iload_n 1, 1) := dk_27 (dk_at dksX9_isName_0 12 rfl rfl)
theorem dX9_isName_13 : decode cX9_isName 13 = .ok (.if_icmp .ne 7, 3) := dk_160 0 7 (dk_at dksX9_isName_0 13 rfl rfl)
theorem dX9_isName_16 : decode cX9_isName 16 = .ok (.iconst 1, 1) := dk_4 (dk_at dksX9_isName_0 16 rfl rfl)
theorem dX9_isName_17 : decode cX9_isName 17 = .ok (.goto 4, 3) := dk_167 0 4 (dk_at dksX9_isName_0 17 rfl rfl)
theorem dX9_isName_20 : decode cX9_isName 20 = .ok (.iconst 0, 1) := dk_3 (dk_at dksX9_isName_0 20 rfl rfl)
theorem dX9_isName_21 : decode cX9_isName 21 = .ok (.ireturn, 1) := dk_172 (dk_at dksX9_isName_0 21 rfl rfl)
theorem okX9_isName_0 : XOkL xms rX9_isName bX9_isName_0 := xcP (xok_aload_n dX9_isName_0 rfl) rfl (xcP (xok_getfield (ref := "WaysAtlasModel") (Or.inl ⟨rfl, by decide⟩) dX9_isName_1 (Or.inl ⟨q1933, (Or.inl rfl)⟩) xh40) rfl (xcP (xok_iconst dX9_isName_4 rfl) rfl (xcP (xok_icmpne dX9_isName_5 (by decide)) rfl (xcP (xok_aload_n dX9_isName_8 rfl) rfl (xcP (xok_getfield (ref := "WaysAtlasModel") (Or.inl ⟨rfl, by decide⟩) dX9_isName_9 (Or.inl ⟨q1935, (Or.inl rfl)⟩) xh42) rfl (xcP (xok_iload_n dX9_isName_12 rfl) rfl (xcP (xok_icmpne dX9_isName_13 (by decide)) rfl (xcP (xok_iconst dX9_isName_16 rfl) rfl (xcP (xok_goto dX9_isName_17 (by decide)) rfl trivial)))))))))
theorem okX9_isName_20 : XOkL xms rX9_isName bX9_isName_20 := xcP (xok_iconst dX9_isName_20 rfl) rfl (xcP xok_fal rfl trivial)
theorem okX9_isName_21 : XOkL xms rX9_isName bX9_isName_21 := xcR ⟨dX9_isName_21, rfl⟩
theorem okM_X9_isName : XOkM xms rX9_isName := xokM0 (List.forall_mem_cons.mpr ⟨⟨rfl, okX9_isName_0⟩, List.forall_mem_cons.mpr ⟨⟨rfl, okX9_isName_20⟩, List.forall_mem_cons.mpr ⟨⟨rfl, okX9_isName_21⟩, fun _ h => nomatch h⟩⟩⟩) (xokH0 rfl (fun _ _ => rfl)) (by decide +kernel) (by decide)
abbrev cX9_check : ByteArray := prog_36_method_19_code
def dkwX9_check_1 : List UInt8 := [42, 180, 1, 45, 29, 79, 42, 89, 180, 1, 45, 4, 96, 181, 1, 45, 177]
abbrev dktX9_check_1 : List UInt8 := dkwX9_check_1 ++ []
def dkwX9_check_0 : List UInt8 := [42, 180, 0, 99, 42, 180, 1, 45, 27, 79, 42, 180, 0, 102, 42, 180, 1, 45, 28, 79, 42, 180, 0, 105]
abbrev dktX9_check_0 : List UInt8 := dkwX9_check_0 ++ dktX9_check_1
theorem dksX9_check_0 : cX9_check.data.toList.drop 0 = dktX9_check_0 := by decide +kernel
theorem dksX9_check_1 : cX9_check.data.toList.drop 24 = dktX9_check_1 := dk_seg dksX9_check_0 24 rfl rfl
theorem dX9_check_0 : decode cX9_check 0 = .ok (.aload_n 0, 1) := dk_42 (dk_at dksX9_check_0 0 rfl rfl)
theorem dX9_check_1 : decode cX9_check 1 = .ok (.getfield 99, 3) := dk_180 0 99 (dk_at dksX9_check_0 1 rfl rfl)
theorem dX9_check_4 : decode cX9_check 4 = .ok (.aload_n 0, 1) := dk_42 (dk_at dksX9_check_0 4 rfl rfl)
theorem dX9_check_5 : decode cX9_check 5 = .ok (.getfield 301, 3) := dk_180 1 45 (dk_at dksX9_check_0 5 rfl rfl)
theorem dX9_check_8 : decode cX9_check 8 = .ok (.iload_n 1, 1) := dk_27 (dk_at dksX9_check_0 8 rfl rfl)
theorem dX9_check_9 : decode cX9_check 9 = .ok (.iastore, 1) := dk_79 (dk_at dksX9_check_0 9 rfl rfl)
theorem dX9_check_10 : decode cX9_check 10 = .ok (.aload_n 0, 1) := dk_42 (dk_at dksX9_check_0 10 rfl rfl)
theorem dX9_check_11 : decode cX9_check 11 = .ok (.getfield 102, 3) := dk_180 0 102 (dk_at dksX9_check_0 11 rfl rfl)
theorem dX9_check_14 : decode cX9_check 14 = .ok (.aload_n 0, 1) := dk_42 (dk_at dksX9_check_0 14 rfl rfl)
theorem dX9_check_15 : decode cX9_check 15 = .ok (.getfield 301, 3) := dk_180 1 45 (dk_at dksX9_check_0 15 rfl rfl)
theorem dX9_check_18 : decode cX9_check 18 = .ok (.iload_n 2, 1) := dk_28 (dk_at dksX9_check_0 18 rfl rfl)
theorem dX9_check_19 : decode cX9_check 19 = .ok (.iastore, 1) := dk_79 (dk_at dksX9_check_0 19 rfl rfl)
theorem dX9_check_20 : decode cX9_check 20 = .ok (.aload_n 0, 1) := dk_42 (dk_at dksX9_check_0 20 rfl rfl)
theorem dX9_check_21 : decode cX9_check 21 = .ok (.getfield 105, 3) := dk_180 0 105 (dk_at dksX9_check_0 21 rfl rfl)
theorem dX9_check_24 : decode cX9_check 24 = .ok (.aload_n 0, 1) := dk_42 (dk_at dksX9_check_1 0 rfl rfl)
theorem dX9_check_25 : decode cX9_check 25 = .ok (.getfield 301, 3) := dk_180 1 45 (dk_at dksX9_check_1 1 rfl rfl)
theorem dX9_check_28 : decode cX9_check 28 = .ok (.iload_n 3, 1) := dk_29 (dk_at dksX9_check_1 4 rfl rfl)
theorem dX9_check_29 : decode cX9_check 29 = .ok (.iastore, 1) := dk_79 (dk_at dksX9_check_1 5 rfl rfl)
theorem dX9_check_30 : decode cX9_check 30 = .ok (.aload_n 0, 1) := dk_42 (dk_at dksX9_check_1 6 rfl rfl)
theorem dX9_check_31 : decode cX9_check 31 = .ok (.dup, 1) := dk_89 (dk_at dksX9_check_1 7 rfl rfl)
theorem dX9_check_32 : decode cX9_check 32 = .ok (.getfield 301, 3) := dk_180 1 45 (dk_at dksX9_check_1 8 rfl rfl)
theorem dX9_check_35 : decode cX9_check 35 = .ok (.iconst 1, 1) := dk_4 (dk_at dksX9_check_1 11 rfl rfl)
theorem dX9_check_36 : decode cX9_check 36 = .ok (.iadd, 1) := dk_96 (dk_at dksX9_check_1 12 rfl rfl)
theorem dX9_check_37 : decode cX9_check 37 = .ok (.putfield 301, 3) := dk_181 1 45 (dk_at dksX9_check_1 13 rfl rfl)
theorem dX9_check_40 : decode cX9_check 40 = .ok (.return_, 1) := dk_177 (dk_at dksX9_check_1 16 rfl rfl)
theorem okX9_check_0 : XOkL xms rX9_check bX9_check_0 := xcP (xok_aload_n dX9_check_0 rfl) rfl (xcP (xok_getfield (ref := "WaysAtlasModel") (Or.inr ⟨rfl, by decide⟩) dX9_check_1 (Or.inl ⟨q1959, (Or.inl rfl)⟩) xh1072) rfl (xcP (xok_aload_n dX9_check_4 rfl) rfl (xcP (xok_getfield (ref := "WaysAtlasModel") (Or.inl ⟨rfl, by decide⟩) dX9_check_5 (Or.inl ⟨q1958, (Or.inl rfl)⟩) xh52) rfl (xcP (xok_iload_n dX9_check_8 rfl) rfl (xcP (xok_iastore dX9_check_9) rfl (xcP (xok_aload_n dX9_check_10 rfl) rfl (xcP (xok_getfield (ref := "WaysAtlasModel") (Or.inr ⟨rfl, by decide⟩) dX9_check_11 (Or.inl ⟨q1960, (Or.inl rfl)⟩) xh1073) rfl (xcP (xok_aload_n dX9_check_14 rfl) rfl (xcP (xok_getfield (ref := "WaysAtlasModel") (Or.inl ⟨rfl, by decide⟩) dX9_check_15 (Or.inl ⟨q1958, (Or.inl rfl)⟩) xh52) rfl (xcP (xok_iload_n dX9_check_18 rfl) rfl (xcP (xok_iastore dX9_check_19) rfl (xcP (xok_aload_n dX9_check_20 rfl) rfl (xcP (xok_getfield (ref := "WaysAtlasModel") (Or.inr ⟨rfl, by decide⟩) dX9_check_21 (Or.inl ⟨q1961, (Or.inl rfl)⟩) xh1074) rfl (xcP (xok_aload_n dX9_check_24 rfl) rfl (xcP (xok_getfield (ref := "WaysAtlasModel") (Or.inl ⟨rfl, by decide⟩) dX9_check_25 (Or.inl ⟨q1958, (Or.inl rfl)⟩) xh52) rfl (xcP (xok_iload_n dX9_check_28 rfl) rfl (xcP (xok_iastore dX9_check_29) rfl (xcP (xok_aload_n dX9_check_30 rfl) rfl (xcP (xok_dup dX9_check_31) rfl (xcP (xok_getfield (ref := "WaysAtlasModel") (Or.inl ⟨rfl, by decide⟩) dX9_check_32 (Or.inl ⟨q1958, (Or.inl rfl)⟩) xh52) rfl (xcP (xok_iconst dX9_check_35 rfl) rfl (xcP (xok_iadd dX9_check_36) rfl (xcP (xok_putfield (ref := "WaysAtlasModel") (Or.inl ⟨rfl, by decide, rfl⟩) dX9_check_37 (Or.inl ⟨q1958, (Or.inl rfl)⟩) (Or.inl rfl) xh52) rfl (xcR ⟨dX9_check_40, rfl⟩))))))))))))))))))))))))
theorem okM_X9_check : XOkM xms rX9_check := xokM0 (List.forall_mem_cons.mpr ⟨⟨rfl, okX9_check_0⟩, fun _ h => nomatch h⟩) (xokH0 rfl (fun _ _ => rfl)) (by decide +kernel) (by decide)
abbrev cX9_takeSign : ByteArray := prog_36_method_20_code
def dkwX9_takeSign_1 : List UInt8 := [154, 0, 7, 42, 182, 1, 54, 177]
abbrev dktX9_takeSign_1 : List UInt8 := dkwX9_takeSign_1 ++ []
def dkwX9_takeSign_0 : List UInt8 := [42, 180, 1, 35, 154, 0, 15, 42, 27, 182, 1, 48, 154, 0, 7, 42, 182, 1, 51, 42, 180, 1, 35]
abbrev dktX9_takeSign_0 : List UInt8 := dkwX9_takeSign_0 ++ dktX9_takeSign_1
theorem dksX9_takeSign_0 : cX9_takeSign.data.toList.drop 0 = dktX9_takeSign_0 := by decide +kernel
theorem dksX9_takeSign_1 : cX9_takeSign.data.toList.drop 23 = dktX9_takeSign_1 := dk_seg dksX9_takeSign_0 23 rfl rfl
theorem dX9_takeSign_0 : decode cX9_takeSign 0 = .ok (.aload_n 0, 1) := dk_42 (dk_at dksX9_takeSign_0 0 rfl rfl)
theorem dX9_takeSign_1 : decode cX9_takeSign 1 = .ok (.getfield 291, 3) := dk_180 1 35 (dk_at dksX9_takeSign_0 1 rfl rfl)
theorem dX9_takeSign_4 : decode cX9_takeSign 4 = .ok (.ifCond .ne 15, 3) := dk_154 0 15 (dk_at dksX9_takeSign_0 4 rfl rfl)
theorem dX9_takeSign_7 : decode cX9_takeSign 7 = .ok (.aload_n 0, 1) := dk_42 (dk_at dksX9_takeSign_0 7 rfl rfl)
theorem dX9_takeSign_8 : decode cX9_takeSign 8 = .ok (.iload_n 1, 1) := dk_27 (dk_at dksX9_takeSign_0 8 rfl rfl)
theorem dX9_takeSign_9 : decode cX9_takeSign 9 = .ok (.invokevirtual 304, 3) := dk_182 1 48 (dk_at dksX9_takeSign_0 9 rfl rfl)
theorem dX9_takeSign_12 : decode cX9_takeSign 12 = .ok (.ifCond .ne 7, 3) := dk_154 0 7 (dk_at dksX9_takeSign_0 12 rfl rfl)
theorem dX9_takeSign_15 : decode cX9_takeSign 15 = .ok (.aload_n 0, 1) := dk_42 (dk_at dksX9_takeSign_0 15 rfl rfl)
theorem dX9_takeSign_16 : decode cX9_takeSign 16 = .ok (.invokevirtual 307, 3) := dk_182 1 51 (dk_at dksX9_takeSign_0 16 rfl rfl)
theorem dX9_takeSign_19 : decode cX9_takeSign 19 = .ok (.aload_n 0, 1) := dk_42 (dk_at dksX9_takeSign_0 19 rfl rfl)
theorem dX9_takeSign_20 : decode cX9_takeSign 20 = .ok (.getfield 291, 3) := dk_180 1 35 (dk_at dksX9_takeSign_0 20 rfl rfl)
theorem dX9_takeSign_23 : decode cX9_takeSign 23 = .ok (.ifCond .ne 7, 3) := dk_154 0 7 (dk_at dksX9_takeSign_1 0 rfl rfl)
theorem dX9_takeSign_26 : decode cX9_takeSign 26 = .ok (.aload_n 0, 1) := dk_42 (dk_at dksX9_takeSign_1 3 rfl rfl)
theorem dX9_takeSign_27 : decode cX9_takeSign 27 = .ok (.invokevirtual 310, 3) := dk_182 1 54 (dk_at dksX9_takeSign_1 4 rfl rfl)
theorem dX9_takeSign_30 : decode cX9_takeSign 30 = .ok (.return_, 1) := dk_177 (dk_at dksX9_takeSign_1 7 rfl rfl)
theorem okX9_takeSign_0 : XOkL xms rX9_takeSign bX9_takeSign_0 := xcP (xok_aload_n dX9_takeSign_0 rfl) rfl (xcP (xok_getfield (ref := "WaysAtlasModel") (Or.inl ⟨rfl, by decide⟩) dX9_takeSign_1 (Or.inl ⟨q1955, (Or.inl rfl)⟩) xh49) rfl (xcP (xok_ifne dX9_takeSign_4 (by decide)) rfl (xcP (xok_aload_n dX9_takeSign_7 rfl) rfl (xcP (xok_iload_n dX9_takeSign_8 rfl) rfl (xcC0 (xokc_list (List.forall_mem_cons.mpr ⟨xokc_V (r := (RX9, TX9, 96)) xm117 (List.mem_of_getElem? (i := 9) rfl) (by decide) rfl dX9_takeSign_9 q2297 q2299 qs67 q149 q2300 (by decide +kernel), fun _ h => nomatch h⟩)) rfl (xcP (xok_ifne dX9_takeSign_12 (by decide)) rfl (xcP (xok_aload_n dX9_takeSign_15 rfl) rfl (xcC0 (xokc_list (List.forall_mem_cons.mpr ⟨xokc_V (r := (RX9, TX9, 96)) xm112 (List.mem_of_getElem? (i := 9) rfl) (by decide) rfl dX9_takeSign_16 q2277 q2279 qs62 q149 q2280 (by decide +kernel), fun _ h => nomatch h⟩)) rfl (xcP xok_fal rfl trivial)))))))))
theorem okX9_takeSign_19 : XOkL xms rX9_takeSign bX9_takeSign_19 := xcP (xok_aload_n dX9_takeSign_19 rfl) rfl (xcP (xok_getfield (ref := "WaysAtlasModel") (Or.inl ⟨rfl, by decide⟩) dX9_takeSign_20 (Or.inl ⟨q1955, (Or.inl rfl)⟩) xh49) rfl (xcP (xok_ifne dX9_takeSign_23 (by decide)) rfl (xcP (xok_aload_n dX9_takeSign_26 rfl) rfl (xcC0 (xokc_list (List.forall_mem_cons.mpr ⟨xokc_V (r := (RX9, TX9, 96)) xm102 (List.mem_of_getElem? (i := 9) rfl) (by decide) rfl dX9_takeSign_27 q2235 q2237 qs53 q149 q2238 (by decide +kernel), fun _ h => nomatch h⟩)) rfl (xcP xok_fal rfl trivial)))))
theorem okX9_takeSign_30 : XOkL xms rX9_takeSign bX9_takeSign_30 := xcR ⟨dX9_takeSign_30, rfl⟩
theorem okM_X9_takeSign : XOkM xms rX9_takeSign := xokM0 (List.forall_mem_cons.mpr ⟨⟨rfl, okX9_takeSign_0⟩, List.forall_mem_cons.mpr ⟨⟨rfl, okX9_takeSign_19⟩, List.forall_mem_cons.mpr ⟨⟨rfl, okX9_takeSign_30⟩, fun _ h => nomatch h⟩⟩⟩) (xokH0 rfl (fun _ _ => rfl)) (by decide +kernel) (by decide)
abbrev cX9_isSign : ByteArray := prog_36_method_13_code
def dkwX9_isSign_0 : List UInt8 := [42, 180, 1, 13, 8, 160, 0, 15, 42, 180, 1, 16, 27, 160, 0, 7, 4, 167, 0, 4, 3, 172]
abbrev dktX9_isSign_0 : List UInt8 := dkwX9_isSign_0 ++ []
theorem dksX9_isSign_0 : cX9_isSign.data.toList.drop 0 = dktX9_isSign_0 := by decide +kernel
theorem dX9_isSign_0 : decode cX9_isSign 0 = .ok (.aload_n 0, 1) := dk_42 (dk_at dksX9_isSign_0 0 rfl rfl)
theorem dX9_isSign_1 : decode cX9_isSign 1 = .ok (.getfield 269, 3) := dk_180 1 13 (dk_at dksX9_isSign_0 1 rfl rfl)
theorem dX9_isSign_4 : decode cX9_isSign 4 = .ok (.iconst 5, 1) := dk_8 (dk_at dksX9_isSign_0 4 rfl rfl)
theorem dX9_isSign_5 : decode cX9_isSign 5 = .ok (.if_icmp .ne 15, 3) := dk_160 0 15 (dk_at dksX9_isSign_0 5 rfl rfl)
theorem dX9_isSign_8 : decode cX9_isSign 8 = .ok (.aload_n 0, 1) := dk_42 (dk_at dksX9_isSign_0 8 rfl rfl)
theorem dX9_isSign_9 : decode cX9_isSign 9 = .ok (.getfield 272, 3) := dk_180 1 16 (dk_at dksX9_isSign_0 9 rfl rfl)
theorem dX9_isSign_12 : decode cX9_isSign 12 = .ok (.iload_n 1, 1) := dk_27 (dk_at dksX9_isSign_0 12 rfl rfl)
theorem dX9_isSign_13 : decode cX9_isSign 13 = .ok (.if_icmp .ne 7, 3) := dk_160 0 7 (dk_at dksX9_isSign_0 13 rfl rfl)
theorem dX9_isSign_16 : decode cX9_isSign 16 = .ok (.iconst 1, 1) := dk_4 (dk_at dksX9_isSign_0 16 rfl rfl)
theorem dX9_isSign_17 : decode cX9_isSign 17 = .ok (.goto 4, 3) := dk_167 0 4 (dk_at dksX9_isSign_0 17 rfl rfl)
theorem dX9_isSign_20 : decode cX9_isSign 20 = .ok (.iconst 0, 1) := dk_3 (dk_at dksX9_isSign_0 20 rfl rfl)
theorem dX9_isSign_21 : decode cX9_isSign 21 = .ok (.ireturn, 1) := dk_172 (dk_at dksX9_isSign_0 21 rfl rfl)
theorem okX9_isSign_0 : XOkL xms rX9_isSign bX9_isSign_0 := xcP (xok_aload_n dX9_isSign_0 rfl) rfl (xcP (xok_getfield (ref := "WaysAtlasModel") (Or.inl ⟨rfl, by decide⟩) dX9_isSign_1 (Or.inl ⟨q1933, (Or.inl rfl)⟩) xh40) rfl (xcP (xok_iconst dX9_isSign_4 rfl) rfl (xcP (xok_icmpne dX9_isSign_5 (by decide)) rfl (xcP (xok_aload_n dX9_isSign_8 rfl) rfl (xcP (xok_getfield (ref := "WaysAtlasModel") (Or.inl ⟨rfl, by decide⟩) dX9_isSign_9 (Or.inl ⟨q1935, (Or.inl rfl)⟩) xh42) rfl (xcP (xok_iload_n dX9_isSign_12 rfl) rfl (xcP (xok_icmpne dX9_isSign_13 (by decide)) rfl (xcP (xok_iconst dX9_isSign_16 rfl) rfl (xcP (xok_goto dX9_isSign_17 (by decide)) rfl trivial)))))))))
theorem okX9_isSign_20 : XOkL xms rX9_isSign bX9_isSign_20 := xcP (xok_iconst dX9_isSign_20 rfl) rfl (xcP xok_fal rfl trivial)
theorem okX9_isSign_21 : XOkL xms rX9_isSign bX9_isSign_21 := xcR ⟨dX9_isSign_21, rfl⟩
theorem okM_X9_isSign : XOkM xms rX9_isSign := xokM0 (List.forall_mem_cons.mpr ⟨⟨rfl, okX9_isSign_0⟩, List.forall_mem_cons.mpr ⟨⟨rfl, okX9_isSign_20⟩, List.forall_mem_cons.mpr ⟨⟨rfl, okX9_isSign_21⟩, fun _ h => nomatch h⟩⟩⟩) (xokH0 rfl (fun _ _ => rfl)) (by decide +kernel) (by decide)
abbrev cX9_opens : ByteArray := prog_36_method_35_code
def dkwX9_opens_6 : List UInt8 := [96, 181, 1, 117, 42, 180, 1, 117, 4, 100, 172]
abbrev dktX9_opens_6 : List UInt8 := dkwX9_opens_6 ++ []
def dkwX9_opens_5 : List UInt8 := [180, 0, 72, 17, 1, 144, 42, 180, 1, 32, 104, 42, 180, 1, 117, 96, 2, 79, 42, 89, 180, 1, 117, 4]
abbrev dktX9_opens_5 : List UInt8 := dkwX9_opens_5 ++ dktX9_opens_6
def dkwX9_opens_4 : List UInt8 := [79, 42, 180, 0, 123, 42, 180, 1, 114, 2, 79, 42, 89, 180, 1, 114, 4, 96, 181, 1, 114, 42]
abbrev dktX9_opens_4 : List UInt8 := dkwX9_opens_4 ++ dktX9_opens_5
def dkwX9_opens_3 : List UInt8 := [27, 79, 42, 180, 0, 117, 42, 180, 1, 114, 28, 79, 42, 180, 0, 120, 42, 180, 1, 114, 42, 180, 1, 117]
abbrev dktX9_opens_3 : List UInt8 := dkwX9_opens_3 ++ dktX9_opens_4
def dkwX9_opens_2 : List UInt8 := [182, 1, 41, 42, 180, 1, 35, 153, 0, 5, 2, 172, 42, 182, 1, 54, 42, 180, 0, 114, 42, 180, 1, 114]
abbrev dktX9_opens_2 : List UInt8 := dkwX9_opens_2 ++ dktX9_opens_3
def dkwX9_opens_1 : List UInt8 := [154, 0, 25, 27, 153, 0, 21, 42, 180, 1, 114, 16, 7, 160, 0, 12, 42, 5, 42, 180, 1, 23]
abbrev dktX9_opens_1 : List UInt8 := dkwX9_opens_1 ++ dktX9_opens_2
def dkwX9_opens_0 : List UInt8 := [42, 180, 1, 35, 154, 0, 16, 42, 16, 123, 182, 1, 48, 154, 0, 7, 42, 182, 1, 51, 42, 180, 1, 35]
abbrev dktX9_opens_0 : List UInt8 := dkwX9_opens_0 ++ dktX9_opens_1
theorem dksX9_opens_0 : cX9_opens.data.toList.drop 0 = dktX9_opens_0 := by decide +kernel
theorem dksX9_opens_1 : cX9_opens.data.toList.drop 24 = dktX9_opens_1 := dk_seg dksX9_opens_0 24 rfl rfl
theorem dksX9_opens_2 : cX9_opens.data.toList.drop 46 = dktX9_opens_2 := dk_seg dksX9_opens_1 22 rfl rfl
theorem dksX9_opens_3 : cX9_opens.data.toList.drop 70 = dktX9_opens_3 := dk_seg dksX9_opens_2 24 rfl rfl
theorem dksX9_opens_4 : cX9_opens.data.toList.drop 94 = dktX9_opens_4 := dk_seg dksX9_opens_3 24 rfl rfl
theorem dksX9_opens_5 : cX9_opens.data.toList.drop 116 = dktX9_opens_5 := dk_seg dksX9_opens_4 22 rfl rfl
theorem dksX9_opens_6 : cX9_opens.data.toList.drop 140 = dktX9_opens_6 := dk_seg dksX9_opens_5 24 rfl rfl
theorem dX9_opens_0 : decode cX9_opens 0 = .ok (.aload_n 0, 1) := dk_42 (dk_at dksX9_opens_0 0 rfl rfl)
theorem dX9_opens_1 : decode cX9_opens 1 = .ok (.getfield 291, 3) := dk_180 1 35 (dk_at dksX9_opens_0 1 rfl rfl)
theorem dX9_opens_4 : decode cX9_opens 4 = .ok (.ifCond .ne 16, 3) := dk_154 0 16 (dk_at dksX9_opens_0 4 rfl rfl)
theorem dX9_opens_7 : decode cX9_opens 7 = .ok (.aload_n 0, 1) := dk_42 (dk_at dksX9_opens_0 7 rfl rfl)
theorem dX9_opens_8 : decode cX9_opens 8 = .ok (.bipush 123, 2) := dk_16 123 (dk_at dksX9_opens_0 8 rfl rfl)
theorem dX9_opens_10 : decode cX9_opens 10 = .ok (.invokevirtual 304, 3) := dk_182 1 48 (dk_at dksX9_opens_0 10 rfl rfl)
theorem dX9_opens_13 : decode cX9_opens 13 = .ok (.ifCond .ne 7, 3) := dk_154 0 7 (dk_at dksX9_opens_0 13 rfl rfl)
theorem dX9_opens_16 : decode cX9_opens 16 = .ok (.aload_n 0, 1) := dk_42 (dk_at dksX9_opens_0 16 rfl rfl)
theorem dX9_opens_17 : decode cX9_opens 17 = .ok (.invokevirtual 307, 3) := dk_182 1 51 (dk_at dksX9_opens_0 17 rfl rfl)
theorem dX9_opens_20 : decode cX9_opens 20 = .ok (.aload_n 0, 1) := dk_42 (dk_at dksX9_opens_0 20 rfl rfl)
theorem dX9_opens_21 : decode cX9_opens 21 = .ok (.getfield 291, 3) := dk_180 1 35 (dk_at dksX9_opens_0 21 rfl rfl)
theorem dX9_opens_24 : decode cX9_opens 24 = .ok (.ifCond .ne 25, 3) := dk_154 0 25 (dk_at dksX9_opens_1 0 rfl rfl)
theorem dX9_opens_27 : decode cX9_opens 27 = .ok (.iload_n 1, 1) := dk_27 (dk_at dksX9_opens_1 3 rfl rfl)
theorem dX9_opens_28 : decode cX9_opens 28 = .ok (.ifCond .eq 21, 3) := dk_153 0 21 (dk_at dksX9_opens_1 4 rfl rfl)
theorem dX9_opens_31 : decode cX9_opens 31 = .ok (.aload_n 0, 1) := dk_42 (dk_at dksX9_opens_1 7 rfl rfl)
theorem dX9_opens_32 : decode cX9_opens 32 = .ok (.getfield 370, 3) := dk_180 1 114 (dk_at dksX9_opens_1 8 rfl rfl)
theorem dX9_opens_35 : decode cX9_opens 35 = .ok (.bipush 7, 2) := dk_16 7 (dk_at dksX9_opens_1 11 rfl rfl)
theorem dX9_opens_37 : decode cX9_opens 37 = .ok (.if_icmp .ne 12, 3) := dk_160 0 12 (dk_at dksX9_opens_1 13 rfl rfl)
theorem dX9_opens_40 : decode cX9_opens 40 = .ok (.aload_n 0, 1) := dk_42 (dk_at dksX9_opens_1 16 rfl rfl)
theorem dX9_opens_41 : decode cX9_opens 41 = .ok (.iconst 2, 1) := dk_5 (dk_at dksX9_opens_1 17 rfl rfl)
theorem dX9_opens_42 : decode cX9_opens 42 = .ok (.aload_n 0, 1) := dk_42 (dk_at dksX9_opens_1 18 rfl rfl)
theorem dX9_opens_43 : decode cX9_opens 43 = .ok (.getfield 279, 3) := dk_180 1 23 (dk_at dksX9_opens_1 19 rfl rfl)
theorem dX9_opens_46 : decode cX9_opens 46 = .ok (.invokevirtual 297, 3) := dk_182 1 41 (dk_at dksX9_opens_2 0 rfl rfl)
theorem dX9_opens_49 : decode cX9_opens 49 = .ok (.aload_n 0, 1) := dk_42 (dk_at dksX9_opens_2 3 rfl rfl)
theorem dX9_opens_50 : decode cX9_opens 50 = .ok (.getfield 291, 3) := dk_180 1 35 (dk_at dksX9_opens_2 4 rfl rfl)
theorem dX9_opens_53 : decode cX9_opens 53 = .ok (.ifCond .eq 5, 3) := dk_153 0 5 (dk_at dksX9_opens_2 7 rfl rfl)
theorem dX9_opens_56 : decode cX9_opens 56 = .ok (.iconst (-1), 1) := dk_2 (dk_at dksX9_opens_2 10 rfl rfl)
theorem dX9_opens_57 : decode cX9_opens 57 = .ok (.ireturn, 1) := dk_172 (dk_at dksX9_opens_2 11 rfl rfl)
theorem dX9_opens_58 : decode cX9_opens 58 = .ok (.aload_n 0, 1) := dk_42 (dk_at dksX9_opens_2 12 rfl rfl)
theorem dX9_opens_59 : decode cX9_opens 59 = .ok (.invokevirtual 310, 3) := dk_182 1 54 (dk_at dksX9_opens_2 13 rfl rfl)
theorem dX9_opens_62 : decode cX9_opens 62 = .ok (.aload_n 0, 1) := dk_42 (dk_at dksX9_opens_2 16 rfl rfl)
theorem dX9_opens_63 : decode cX9_opens 63 = .ok (.getfield 114, 3) := dk_180 0 114 (dk_at dksX9_opens_2 17 rfl rfl)
theorem dX9_opens_66 : decode cX9_opens 66 = .ok (.aload_n 0, 1) := dk_42 (dk_at dksX9_opens_2 20 rfl rfl)
theorem dX9_opens_67 : decode cX9_opens 67 = .ok (.getfield 370, 3) := dk_180 1 114 (dk_at dksX9_opens_2 21 rfl rfl)
theorem dX9_opens_70 : decode cX9_opens 70 = .ok (.iload_n 1, 1) := dk_27 (dk_at dksX9_opens_3 0 rfl rfl)
theorem dX9_opens_71 : decode cX9_opens 71 = .ok (.iastore, 1) := dk_79 (dk_at dksX9_opens_3 1 rfl rfl)
theorem dX9_opens_72 : decode cX9_opens 72 = .ok (.aload_n 0, 1) := dk_42 (dk_at dksX9_opens_3 2 rfl rfl)
theorem dX9_opens_73 : decode cX9_opens 73 = .ok (.getfield 117, 3) := dk_180 0 117 (dk_at dksX9_opens_3 3 rfl rfl)
theorem dX9_opens_76 : decode cX9_opens 76 = .ok (.aload_n 0, 1) := dk_42 (dk_at dksX9_opens_3 6 rfl rfl)
theorem dX9_opens_77 : decode cX9_opens 77 = .ok (.getfield 370, 3) := dk_180 1 114 (dk_at dksX9_opens_3 7 rfl rfl)
theorem dX9_opens_80 : decode cX9_opens 80 = .ok (.iload_n 2, 1) := dk_28 (dk_at dksX9_opens_3 10 rfl rfl)
theorem dX9_opens_81 : decode cX9_opens 81 = .ok (.iastore, 1) := dk_79 (dk_at dksX9_opens_3 11 rfl rfl)
theorem dX9_opens_82 : decode cX9_opens 82 = .ok (.aload_n 0, 1) := dk_42 (dk_at dksX9_opens_3 12 rfl rfl)
theorem dX9_opens_83 : decode cX9_opens 83 = .ok (.getfield 120, 3) := dk_180 0 120 (dk_at dksX9_opens_3 13 rfl rfl)
theorem dX9_opens_86 : decode cX9_opens 86 = .ok (.aload_n 0, 1) := dk_42 (dk_at dksX9_opens_3 16 rfl rfl)
theorem dX9_opens_87 : decode cX9_opens 87 = .ok (.getfield 370, 3) := dk_180 1 114 (dk_at dksX9_opens_3 17 rfl rfl)
theorem dX9_opens_90 : decode cX9_opens 90 = .ok (.aload_n 0, 1) := dk_42 (dk_at dksX9_opens_3 20 rfl rfl)
theorem dX9_opens_91 : decode cX9_opens 91 = .ok (.getfield 373, 3) := dk_180 1 117 (dk_at dksX9_opens_3 21 rfl rfl)
theorem dX9_opens_94 : decode cX9_opens 94 = .ok (.iastore, 1) := dk_79 (dk_at dksX9_opens_4 0 rfl rfl)
theorem dX9_opens_95 : decode cX9_opens 95 = .ok (.aload_n 0, 1) := dk_42 (dk_at dksX9_opens_4 1 rfl rfl)
theorem dX9_opens_96 : decode cX9_opens 96 = .ok (.getfield 123, 3) := dk_180 0 123 (dk_at dksX9_opens_4 2 rfl rfl)
theorem dX9_opens_99 : decode cX9_opens 99 = .ok (.aload_n 0, 1) := dk_42 (dk_at dksX9_opens_4 5 rfl rfl)
theorem dX9_opens_100 : decode cX9_opens 100 = .ok (.getfield 370, 3) := dk_180 1 114 (dk_at dksX9_opens_4 6 rfl rfl)
theorem dX9_opens_103 : decode cX9_opens 103 = .ok (.iconst (-1), 1) := dk_2 (dk_at dksX9_opens_4 9 rfl rfl)
theorem dX9_opens_104 : decode cX9_opens 104 = .ok (.iastore, 1) := dk_79 (dk_at dksX9_opens_4 10 rfl rfl)
theorem dX9_opens_105 : decode cX9_opens 105 = .ok (.aload_n 0, 1) := dk_42 (dk_at dksX9_opens_4 11 rfl rfl)
theorem dX9_opens_106 : decode cX9_opens 106 = .ok (.dup, 1) := dk_89 (dk_at dksX9_opens_4 12 rfl rfl)
theorem dX9_opens_107 : decode cX9_opens 107 = .ok (.getfield 370, 3) := dk_180 1 114 (dk_at dksX9_opens_4 13 rfl rfl)
theorem dX9_opens_110 : decode cX9_opens 110 = .ok (.iconst 1, 1) := dk_4 (dk_at dksX9_opens_4 16 rfl rfl)
theorem dX9_opens_111 : decode cX9_opens 111 = .ok (.iadd, 1) := dk_96 (dk_at dksX9_opens_4 17 rfl rfl)
theorem dX9_opens_112 : decode cX9_opens 112 = .ok (.putfield 370, 3) := dk_181 1 114 (dk_at dksX9_opens_4 18 rfl rfl)
theorem dX9_opens_115 : decode cX9_opens 115 = .ok (.aload_n 0, 1) := dk_42 (dk_at dksX9_opens_4 21 rfl rfl)
theorem dX9_opens_116 : decode cX9_opens 116 = .ok (.getfield 72, 3) := dk_180 0 72 (dk_at dksX9_opens_5 0 rfl rfl)
theorem dX9_opens_119 : decode cX9_opens 119 = .ok (.sipush 400, 3) := dk_17 1 144 (dk_at dksX9_opens_5 3 rfl rfl)
theorem dX9_opens_122 : decode cX9_opens 122 = .ok (.aload_n 0, 1) := dk_42 (dk_at dksX9_opens_5 6 rfl rfl)
theorem dX9_opens_123 : decode cX9_opens 123 = .ok (.getfield 288, 3) := dk_180 1 32 (dk_at dksX9_opens_5 7 rfl rfl)
theorem dX9_opens_126 : decode cX9_opens 126 = .ok (.imul, 1) := dk_104 (dk_at dksX9_opens_5 10 rfl rfl)
theorem dX9_opens_127 : decode cX9_opens 127 = .ok (.aload_n 0, 1) := dk_42 (dk_at dksX9_opens_5 11 rfl rfl)
theorem dX9_opens_128 : decode cX9_opens 128 = .ok (.getfield 373, 3) := dk_180 1 117 (dk_at dksX9_opens_5 12 rfl rfl)
theorem dX9_opens_131 : decode cX9_opens 131 = .ok (.iadd, 1) := dk_96 (dk_at dksX9_opens_5 15 rfl rfl)
theorem dX9_opens_132 : decode cX9_opens 132 = .ok (.iconst (-1), 1) := dk_2 (dk_at dksX9_opens_5 16 rfl rfl)
theorem dX9_opens_133 : decode cX9_opens 133 = .ok (.iastore, 1) := dk_79 (dk_at dksX9_opens_5 17 rfl rfl)
theorem dX9_opens_134 : decode cX9_opens 134 = .ok (.aload_n 0, 1) := dk_42 (dk_at dksX9_opens_5 18 rfl rfl)
theorem dX9_opens_135 : decode cX9_opens 135 = .ok (.dup, 1) := dk_89 (dk_at dksX9_opens_5 19 rfl rfl)
theorem dX9_opens_136 : decode cX9_opens 136 = .ok (.getfield 373, 3) := dk_180 1 117 (dk_at dksX9_opens_5 20 rfl rfl)
theorem dX9_opens_139 : decode cX9_opens 139 = .ok (.iconst 1, 1) := dk_4 (dk_at dksX9_opens_5 23 rfl rfl)
theorem dX9_opens_140 : decode cX9_opens 140 = .ok (.iadd, 1) := dk_96 (dk_at dksX9_opens_6 0 rfl rfl)
theorem dX9_opens_141 : decode cX9_opens 141 = .ok (.putfield 373, 3) := dk_181 1 117 (dk_at dksX9_opens_6 1 rfl rfl)
theorem dX9_opens_144 : decode cX9_opens 144 = .ok (.aload_n 0, 1) := dk_42 (dk_at dksX9_opens_6 4 rfl rfl)
theorem dX9_opens_145 : decode cX9_opens 145 = .ok (.getfield 373, 3) := dk_180 1 117 (dk_at dksX9_opens_6 5 rfl rfl)
theorem dX9_opens_148 : decode cX9_opens 148 = .ok (.iconst 1, 1) := dk_4 (dk_at dksX9_opens_6 8 rfl rfl)
theorem dX9_opens_149 : decode cX9_opens 149 = .ok (.isub, 1) := dk_100 (dk_at dksX9_opens_6 9 rfl rfl)
theorem dX9_opens_150 : decode cX9_opens 150 = .ok (.ireturn, 1) := dk_172 (dk_at dksX9_opens_6 10 rfl rfl)
theorem okX9_opens_0 : XOkL xms rX9_opens bX9_opens_0 := xcP (xok_aload_n dX9_opens_0 rfl) rfl (xcP (xok_getfield (ref := "WaysAtlasModel") (Or.inl ⟨rfl, by decide⟩) dX9_opens_1 (Or.inl ⟨q1955, (Or.inl rfl)⟩) xh49) rfl (xcP (xok_ifne dX9_opens_4 (by decide)) rfl (xcP (xok_aload_n dX9_opens_7 rfl) rfl (xcP (xok_bipush dX9_opens_8 rfl) rfl (xcC0 (xokc_list (List.forall_mem_cons.mpr ⟨xokc_V (r := (RX9, TX9, 96)) xm117 (List.mem_of_getElem? (i := 9) rfl) (by decide) rfl dX9_opens_10 q2297 q2299 qs67 q149 q2300 (by decide +kernel), fun _ h => nomatch h⟩)) rfl (xcP (xok_ifne dX9_opens_13 (by decide)) rfl (xcP (xok_aload_n dX9_opens_16 rfl) rfl (xcC0 (xokc_list (List.forall_mem_cons.mpr ⟨xokc_V (r := (RX9, TX9, 96)) xm112 (List.mem_of_getElem? (i := 9) rfl) (by decide) rfl dX9_opens_17 q2277 q2279 qs62 q149 q2280 (by decide +kernel), fun _ h => nomatch h⟩)) rfl (xcP xok_fal rfl trivial)))))))))
theorem okX9_opens_20 : XOkL xms rX9_opens bX9_opens_20 := xcP (xok_aload_n dX9_opens_20 rfl) rfl (xcP (xok_getfield (ref := "WaysAtlasModel") (Or.inl ⟨rfl, by decide⟩) dX9_opens_21 (Or.inl ⟨q1955, (Or.inl rfl)⟩) xh49) rfl (xcP (xok_ifne dX9_opens_24 (by decide)) rfl (xcP (xok_iload_n dX9_opens_27 rfl) rfl (xcP (xok_ifeq dX9_opens_28 (by decide)) rfl (xcP (xok_aload_n dX9_opens_31 rfl) rfl (xcP (xok_getfield (ref := "WaysAtlasModel") (Or.inl ⟨rfl, by decide⟩) dX9_opens_32 (Or.inl ⟨q1967, (Or.inl rfl)⟩) xh56) rfl (xcP (xok_bipush dX9_opens_35 rfl) rfl (xcP (xok_icmpne dX9_opens_37 (by decide)) rfl (xcP (xok_aload_n dX9_opens_40 rfl) rfl (xcP (xok_iconst dX9_opens_41 rfl) rfl (xcP (xok_aload_n dX9_opens_42 rfl) rfl (xcP (xok_getfield (ref := "WaysAtlasModel") (Or.inl ⟨rfl, by decide⟩) dX9_opens_43 (Or.inl ⟨q1934, (Or.inl rfl)⟩) xh41) rfl (xcC0 (xokc_list (List.forall_mem_cons.mpr ⟨xokc_V (r := (RX9, TX9, 96)) xm111 (List.mem_of_getElem? (i := 9) rfl) (by decide) rfl dX9_opens_46 q2273 q2275 qs61 q149 q2276 (by decide +kernel), fun _ h => nomatch h⟩)) rfl (xcP xok_fal rfl trivial))))))))))))))
theorem okX9_opens_49 : XOkL xms rX9_opens bX9_opens_49 := xcP (xok_aload_n dX9_opens_49 rfl) rfl (xcP (xok_getfield (ref := "WaysAtlasModel") (Or.inl ⟨rfl, by decide⟩) dX9_opens_50 (Or.inl ⟨q1955, (Or.inl rfl)⟩) xh49) rfl (xcP (xok_ifeq dX9_opens_53 (by decide)) rfl (xcP (xok_iconst dX9_opens_56 rfl) rfl (xcR ⟨dX9_opens_57, rfl⟩))))
theorem okX9_opens_58 : XOkL xms rX9_opens bX9_opens_58 := xcP (xok_aload_n dX9_opens_58 rfl) rfl (xcC0 (xokc_list (List.forall_mem_cons.mpr ⟨xokc_V (r := (RX9, TX9, 96)) xm102 (List.mem_of_getElem? (i := 9) rfl) (by decide) rfl dX9_opens_59 q2235 q2237 qs53 q149 q2238 (by decide +kernel), fun _ h => nomatch h⟩)) rfl (xcP (xok_aload_n dX9_opens_62 rfl) rfl (xcP (xok_getfield (ref := "WaysAtlasModel") (Or.inr ⟨rfl, by decide⟩) dX9_opens_63 (Or.inl ⟨q1968, (Or.inl rfl)⟩) xh1077) rfl (xcP (xok_aload_n dX9_opens_66 rfl) rfl (xcP (xok_getfield (ref := "WaysAtlasModel") (Or.inl ⟨rfl, by decide⟩) dX9_opens_67 (Or.inl ⟨q1967, (Or.inl rfl)⟩) xh56) rfl (xcP (xok_iload_n dX9_opens_70 rfl) rfl (xcP (xok_iastore dX9_opens_71) rfl (xcP (xok_aload_n dX9_opens_72 rfl) rfl (xcP (xok_getfield (ref := "WaysAtlasModel") (Or.inr ⟨rfl, by decide⟩) dX9_opens_73 (Or.inl ⟨q1969, (Or.inl rfl)⟩) xh1078) rfl (xcP (xok_aload_n dX9_opens_76 rfl) rfl (xcP (xok_getfield (ref := "WaysAtlasModel") (Or.inl ⟨rfl, by decide⟩) dX9_opens_77 (Or.inl ⟨q1967, (Or.inl rfl)⟩) xh56) rfl (xcP (xok_iload_n dX9_opens_80 rfl) rfl (xcP (xok_iastore dX9_opens_81) rfl (xcP (xok_aload_n dX9_opens_82 rfl) rfl (xcP (xok_getfield (ref := "WaysAtlasModel") (Or.inr ⟨rfl, by decide⟩) dX9_opens_83 (Or.inl ⟨q1970, (Or.inl rfl)⟩) xh1079) rfl (xcP (xok_aload_n dX9_opens_86 rfl) rfl (xcP (xok_getfield (ref := "WaysAtlasModel") (Or.inl ⟨rfl, by decide⟩) dX9_opens_87 (Or.inl ⟨q1967, (Or.inl rfl)⟩) xh56) rfl (xcP (xok_aload_n dX9_opens_90 rfl) rfl (xcP (xok_getfield (ref := "WaysAtlasModel") (Or.inl ⟨rfl, by decide⟩) dX9_opens_91 (Or.inl ⟨q1954, (Or.inl rfl)⟩) xh48) rfl (xcP (xok_iastore dX9_opens_94) rfl (xcP (xok_aload_n dX9_opens_95 rfl) rfl (xcP (xok_getfield (ref := "WaysAtlasModel") (Or.inr ⟨rfl, by decide⟩) dX9_opens_96 (Or.inl ⟨q1971, (Or.inl rfl)⟩) xh1080) rfl (xcP (xok_aload_n dX9_opens_99 rfl) rfl (xcP (xok_getfield (ref := "WaysAtlasModel") (Or.inl ⟨rfl, by decide⟩) dX9_opens_100 (Or.inl ⟨q1967, (Or.inl rfl)⟩) xh56) rfl (xcP (xok_iconst dX9_opens_103 rfl) rfl (xcP (xok_iastore dX9_opens_104) rfl (xcP (xok_aload_n dX9_opens_105 rfl) rfl (xcP (xok_dup dX9_opens_106) rfl (xcP (xok_getfield (ref := "WaysAtlasModel") (Or.inl ⟨rfl, by decide⟩) dX9_opens_107 (Or.inl ⟨q1967, (Or.inl rfl)⟩) xh56) rfl (xcP (xok_iconst dX9_opens_110 rfl) rfl (xcP (xok_iadd dX9_opens_111) rfl (xcP (xok_putfield (ref := "WaysAtlasModel") (Or.inl ⟨rfl, by decide, rfl⟩) dX9_opens_112 (Or.inl ⟨q1967, (Or.inl rfl)⟩) (Or.inl rfl) xh56) rfl (xcP (xok_aload_n dX9_opens_115 rfl) rfl (xcP (xok_getfield (ref := "WaysAtlasModel") (Or.inr ⟨rfl, by decide⟩) dX9_opens_116 (Or.inl ⟨q1944, (Or.inl rfl)⟩) xh1063) rfl (xcP (xok_sipush dX9_opens_119 rfl) rfl (xcP (xok_aload_n dX9_opens_122 rfl) rfl (xcP (xok_getfield (ref := "WaysAtlasModel") (Or.inl ⟨rfl, by decide⟩) dX9_opens_123 (Or.inl ⟨q1938, (Or.inl rfl)⟩) xh45) rfl (xcP (xok_imul dX9_opens_126) rfl (xcP (xok_aload_n dX9_opens_127 rfl) rfl (xcP (xok_getfield (ref := "WaysAtlasModel") (Or.inl ⟨rfl, by decide⟩) dX9_opens_128 (Or.inl ⟨q1954, (Or.inl rfl)⟩) xh48) rfl (xcP (xok_iadd dX9_opens_131) rfl (xcP (xok_iconst dX9_opens_132 rfl) rfl (xcP (xok_iastore dX9_opens_133) rfl (xcP (xok_aload_n dX9_opens_134 rfl) rfl (xcP (xok_dup dX9_opens_135) rfl (xcP (xok_getfield (ref := "WaysAtlasModel") (Or.inl ⟨rfl, by decide⟩) dX9_opens_136 (Or.inl ⟨q1954, (Or.inl rfl)⟩) xh48) rfl (xcP (xok_iconst dX9_opens_139 rfl) rfl (xcP (xok_iadd dX9_opens_140) rfl (xcP (xok_putfield (ref := "WaysAtlasModel") (Or.inl ⟨rfl, by decide, rfl⟩) dX9_opens_141 (Or.inl ⟨q1954, (Or.inl rfl)⟩) (Or.inl rfl) xh48) rfl (xcP (xok_aload_n dX9_opens_144 rfl) rfl (xcP (xok_getfield (ref := "WaysAtlasModel") (Or.inl ⟨rfl, by decide⟩) dX9_opens_145 (Or.inl ⟨q1954, (Or.inl rfl)⟩) xh48) rfl (xcP (xok_iconst dX9_opens_148 rfl) rfl (xcP (xok_isub dX9_opens_149) rfl (xcR ⟨dX9_opens_150, rfl⟩))))))))))))))))))))))))))))))))))))))))))))))))))))))
theorem okM_X9_opens : XOkM xms rX9_opens := xokM0 (List.forall_mem_cons.mpr ⟨⟨rfl, okX9_opens_0⟩, List.forall_mem_cons.mpr ⟨⟨rfl, okX9_opens_20⟩, List.forall_mem_cons.mpr ⟨⟨rfl, okX9_opens_49⟩, List.forall_mem_cons.mpr ⟨⟨rfl, okX9_opens_58⟩, fun _ h => nomatch h⟩⟩⟩⟩) (xokH0 rfl (fun _ _ => rfl)) (by decide +kernel) (by decide)
abbrev cX9_closes : ByteArray := prog_36_method_49_code
def dkwX9_closes_5 : List UInt8 := [182, 1, 120, 167, 0, 12, 27, 7, 160, 0, 7, 42, 182, 1, 51, 177]
abbrev dktX9_closes_5 : List UInt8 := dkwX9_closes_5 ++ []
def dkwX9_closes_4 : List UInt8 := [16, 16, 182, 1, 89, 153, 0, 24, 42, 182, 1, 54, 42, 28, 16, 9, 42, 16, 7, 28, 182, 1, 145]
abbrev dktX9_closes_4 : List UInt8 := dkwX9_closes_4 ++ dktX9_closes_5
def dkwX9_closes_3 : List UInt8 := [184, 0, 239, 153, 0, 59, 42, 16, 15, 182, 1, 89, 153, 0, 11, 42, 28, 182, 1, 173, 167, 0, 42, 42]
abbrev dktX9_closes_3 : List UInt8 := dkwX9_closes_3 ++ dktX9_closes_4
def dkwX9_closes_2 : List UInt8 := [42, 182, 1, 54, 42, 28, 16, 8, 42, 5, 28, 182, 1, 145, 182, 1, 120, 167, 0, 69, 27, 7, 16, 6]
abbrev dktX9_closes_2 : List UInt8 := dkwX9_closes_2 ++ dktX9_closes_3
def dkwX9_closes_1 : List UInt8 := [42, 180, 0, 117, 42, 180, 1, 114, 46, 61, 27, 4, 160, 0, 32, 42, 16, 6, 182, 1, 89, 153, 0, 23]
abbrev dktX9_closes_1 : List UInt8 := dkwX9_closes_1 ++ dktX9_closes_2
def dkwX9_closes_0 : List UInt8 := [42, 182, 1, 54, 42, 89, 180, 1, 114, 4, 100, 181, 1, 114, 42, 180, 0, 114, 42, 180, 1, 114, 46, 60]
abbrev dktX9_closes_0 : List UInt8 := dkwX9_closes_0 ++ dktX9_closes_1
theorem dksX9_closes_0 : cX9_closes.data.toList.drop 0 = dktX9_closes_0 := by decide +kernel
theorem dksX9_closes_1 : cX9_closes.data.toList.drop 24 = dktX9_closes_1 := dk_seg dksX9_closes_0 24 rfl rfl
theorem dksX9_closes_2 : cX9_closes.data.toList.drop 48 = dktX9_closes_2 := dk_seg dksX9_closes_1 24 rfl rfl
theorem dksX9_closes_3 : cX9_closes.data.toList.drop 72 = dktX9_closes_3 := dk_seg dksX9_closes_2 24 rfl rfl
theorem dksX9_closes_4 : cX9_closes.data.toList.drop 96 = dktX9_closes_4 := dk_seg dksX9_closes_3 24 rfl rfl
theorem dksX9_closes_5 : cX9_closes.data.toList.drop 119 = dktX9_closes_5 := dk_seg dksX9_closes_4 23 rfl rfl
theorem dX9_closes_0 : decode cX9_closes 0 = .ok (.aload_n 0, 1) := dk_42 (dk_at dksX9_closes_0 0 rfl rfl)
theorem dX9_closes_1 : decode cX9_closes 1 = .ok (.invokevirtual 310, 3) := dk_182 1 54 (dk_at dksX9_closes_0 1 rfl rfl)
theorem dX9_closes_4 : decode cX9_closes 4 = .ok (.aload_n 0, 1) := dk_42 (dk_at dksX9_closes_0 4 rfl rfl)
theorem dX9_closes_5 : decode cX9_closes 5 = .ok (.dup, 1) := dk_89 (dk_at dksX9_closes_0 5 rfl rfl)
theorem dX9_closes_6 : decode cX9_closes 6 = .ok (.getfield 370, 3) := dk_180 1 114 (dk_at dksX9_closes_0 6 rfl rfl)
theorem dX9_closes_9 : decode cX9_closes 9 = .ok (.iconst 1, 1) := dk_4 (dk_at dksX9_closes_0 9 rfl rfl)
theorem dX9_closes_10 : decode cX9_closes 10 = .ok (.isub, 1) := dk_100 (dk_at dksX9_closes_0 10 rfl rfl)
theorem dX9_closes_11 : decode cX9_closes 11 = .ok (.putfield 370, 3) := dk_181 1 114 (dk_at dksX9_closes_0 11 rfl rfl)
theorem dX9_closes_14 : decode cX9_closes 14 = .ok (.aload_n 0, 1) := dk_42 (dk_at dksX9_closes_0 14 rfl rfl)
theorem dX9_closes_15 : decode cX9_closes 15 = .ok (.getfield 114, 3) := dk_180 0 114 (dk_at dksX9_closes_0 15 rfl rfl)
theorem dX9_closes_18 : decode cX9_closes 18 = .ok (.aload_n 0, 1) := dk_42 (dk_at dksX9_closes_0 18 rfl rfl)
theorem dX9_closes_19 : decode cX9_closes 19 = .ok (.getfield 370, 3) := dk_180 1 114 (dk_at dksX9_closes_0 19 rfl rfl)
theorem dX9_closes_22 : decode cX9_closes 22 = .ok (.iaload, 1) := dk_46 (dk_at dksX9_closes_0 22 rfl rfl)
theorem dX9_closes_23 : decode cX9_closes 23 = .ok (.istore_n 1, 1) := dk_60 (dk_at dksX9_closes_0 23 rfl rfl)
theorem dX9_closes_24 : decode cX9_closes 24 = .ok (.aload_n 0, 1) := dk_42 (dk_at dksX9_closes_1 0 rfl rfl)
theorem dX9_closes_25 : decode cX9_closes 25 = .ok (.getfield 117, 3) := dk_180 0 117 (dk_at dksX9_closes_1 1 rfl rfl)
theorem dX9_closes_28 : decode cX9_closes 28 = .ok (.aload_n 0, 1) := dk_42 (dk_at dksX9_closes_1 4 rfl rfl)
theorem dX9_closes_29 : decode cX9_closes 29 = .ok (.getfield 370, 3) := dk_180 1 114 (dk_at dksX9_closes_1 5 rfl rfl)
theorem dX9_closes_32 : decode cX9_closes 32 = .ok (.iaload, 1) := dk_46 (dk_at dksX9_closes_1 8 rfl rfl)
theorem dX9_closes_33 : decode cX9_closes 33 = .ok (.istore_n 2, 1) := dk_61 (dk_at dksX9_closes_1 9 rfl rfl)
theorem dX9_closes_34 : decode cX9_closes 34 = .ok (.iload_n 1, 1) := dk_27 (dk_at dksX9_closes_1 10 rfl rfl)
theorem dX9_closes_35 : decode cX9_closes 35 = .ok (.iconst 1, 1) := dk_4 (dk_at dksX9_closes_1 11 rfl rfl)
theorem dX9_closes_36 : decode cX9_closes 36 = .ok (.if_icmp .ne 32, 3) := dk_160 0 32 (dk_at dksX9_closes_1 12 rfl rfl)
theorem dX9_closes_39 : decode cX9_closes 39 = .ok (.aload_n 0, 1) := dk_42 (dk_at dksX9_closes_1 15 rfl rfl)
theorem dX9_closes_40 : decode cX9_closes 40 = .ok (.bipush 6, 2) := dk_16 6 (dk_at dksX9_closes_1 16 rfl rfl)
theorem dX9_closes_42 : decode cX9_closes 42 = .ok (.invokevirtual 345, 3) := dk_182 1 89 (dk_at dksX9_closes_1 18 rfl rfl)
theorem dX9_closes_45 : decode cX9_closes 45 = .ok (.ifCond .eq 23, 3) := dk_153 0 23 (dk_at dksX9_closes_1 21 rfl rfl)
theorem dX9_closes_48 : decode cX9_closes 48 = .ok (.aload_n 0, 1) := dk_42 (dk_at dksX9_closes_2 0 rfl rfl)
theorem dX9_closes_49 : decode cX9_closes 49 = .ok (.invokevirtual 310, 3) := dk_182 1 54 (dk_at dksX9_closes_2 1 rfl rfl)
theorem dX9_closes_52 : decode cX9_closes 52 = .ok (.aload_n 0, 1) := dk_42 (dk_at dksX9_closes_2 4 rfl rfl)
theorem dX9_closes_53 : decode cX9_closes 53 = .ok (.iload_n 2, 1) := dk_28 (dk_at dksX9_closes_2 5 rfl rfl)
theorem dX9_closes_54 : decode cX9_closes 54 = .ok (.bipush 8, 2) := dk_16 8 (dk_at dksX9_closes_2 6 rfl rfl)
theorem dX9_closes_56 : decode cX9_closes 56 = .ok (.aload_n 0, 1) := dk_42 (dk_at dksX9_closes_2 8 rfl rfl)
theorem dX9_closes_57 : decode cX9_closes 57 = .ok (.iconst 2, 1) := dk_5 (dk_at dksX9_closes_2 9 rfl rfl)
theorem dX9_closes_58 : decode cX9_closes 58 = .ok (.iload_n 2, 1) := dk_28 (dk_at dksX9_closes_2 10 rfl rfl)
theorem dX9_closes_59 : decode cX9_closes 59 = .ok (.invokevirtual 401, 3) := dk_182 1 145 (dk_at dksX9_closes_2 11 rfl rfl)
theorem dX9_closes_62 : decode cX9_closes 62 = .ok (.invokevirtual 376, 3) := dk_182 1 120 (dk_at dksX9_closes_2 14 rfl rfl)
theorem dX9_closes_65 : decode cX9_closes 65 = .ok (.goto 69, 3) := dk_167 0 69 (dk_at dksX9_closes_2 17 rfl rfl)
theorem dX9_closes_68 : decode cX9_closes 68 = .ok (.iload_n 1, 1) := dk_27 (dk_at dksX9_closes_2 20 rfl rfl)
theorem dX9_closes_69 : decode cX9_closes 69 = .ok (.iconst 4, 1) := dk_7 (dk_at dksX9_closes_2 21 rfl rfl)
theorem dX9_closes_70 : decode cX9_closes 70 = .ok (.bipush 6, 2) := dk_16 6 (dk_at dksX9_closes_2 22 rfl rfl)
theorem dX9_closes_72 : decode cX9_closes 72 = .ok (.invokestatic 239, 3) := dk_184 0 239 (dk_at dksX9_closes_3 0 rfl rfl)
theorem dX9_closes_75 : decode cX9_closes 75 = .ok (.ifCond .eq 59, 3) := dk_153 0 59 (dk_at dksX9_closes_3 3 rfl rfl)
theorem dX9_closes_78 : decode cX9_closes 78 = .ok (.aload_n 0, 1) := dk_42 (dk_at dksX9_closes_3 6 rfl rfl)
theorem dX9_closes_79 : decode cX9_closes 79 = .ok (.bipush 15, 2) := dk_16 15 (dk_at dksX9_closes_3 7 rfl rfl)
theorem dX9_closes_81 : decode cX9_closes 81 = .ok (.invokevirtual 345, 3) := dk_182 1 89 (dk_at dksX9_closes_3 9 rfl rfl)
theorem dX9_closes_84 : decode cX9_closes 84 = .ok (.ifCond .eq 11, 3) := dk_153 0 11 (dk_at dksX9_closes_3 12 rfl rfl)
theorem dX9_closes_87 : decode cX9_closes 87 = .ok (.aload_n 0, 1) := dk_42 (dk_at dksX9_closes_3 15 rfl rfl)
theorem dX9_closes_88 : decode cX9_closes 88 = .ok (.iload_n 2, 1) := dk_28 (dk_at dksX9_closes_3 16 rfl rfl)
theorem dX9_closes_89 : decode cX9_closes 89 = .ok (.invokevirtual 429, 3) := dk_182 1 173 (dk_at dksX9_closes_3 17 rfl rfl)
theorem dX9_closes_92 : decode cX9_closes 92 = .ok (.goto 42, 3) := dk_167 0 42 (dk_at dksX9_closes_3 20 rfl rfl)
theorem dX9_closes_95 : decode cX9_closes 95 = .ok (.aload_n 0, 1) := dk_42 (dk_at dksX9_closes_3 23 rfl rfl)
theorem dX9_closes_96 : decode cX9_closes 96 = .ok (.bipush 16, 2) := dk_16 16 (dk_at dksX9_closes_4 0 rfl rfl)
theorem dX9_closes_98 : decode cX9_closes 98 = .ok (.invokevirtual 345, 3) := dk_182 1 89 (dk_at dksX9_closes_4 2 rfl rfl)
theorem dX9_closes_101 : decode cX9_closes 101 = .ok (.ifCond .eq 24, 3) := dk_153 0 24 (dk_at dksX9_closes_4 5 rfl rfl)
theorem dX9_closes_104 : decode cX9_closes 104 = .ok (.aload_n 0, 1) := dk_42 (dk_at dksX9_closes_4 8 rfl rfl)
theorem dX9_closes_105 : decode cX9_closes 105 = .ok (.invokevirtual 310, 3) := dk_182 1 54 (dk_at dksX9_closes_4 9 rfl rfl)
theorem dX9_closes_108 : decode cX9_closes 108 = .ok (.aload_n 0, 1) := dk_42 (dk_at dksX9_closes_4 12 rfl rfl)
theorem dX9_closes_109 : decode cX9_closes 109 = .ok (.iload_n 2, 1) := dk_28 (dk_at dksX9_closes_4 13 rfl rfl)
theorem dX9_closes_110 : decode cX9_closes 110 = .ok (.bipush 9, 2) := dk_16 9 (dk_at dksX9_closes_4 14 rfl rfl)
theorem dX9_closes_112 : decode cX9_closes 112 = .ok (.aload_n 0, 1) := dk_42 (dk_at dksX9_closes_4 16 rfl rfl)
theorem dX9_closes_113 : decode cX9_closes 113 = .ok (.bipush 7, 2) := dk_16 7 (dk_at dksX9_closes_4 17 rfl rfl)
theorem dX9_closes_115 : decode cX9_closes 115 = .ok (.iload_n 2, 1) := dk_28 (dk_at dksX9_closes_4 19 rfl rfl)
theorem dX9_closes_116 : decode cX9_closes 116 = .ok (.invokevirtual 401, 3) := dk_182 1 145 (dk_at dksX9_closes_4 20 rfl rfl)
theorem dX9_closes_119 : decode cX9_closes 119 = .ok (.invokevirtual 376, 3) := dk_182 1 120 (dk_at dksX9_closes_5 0 rfl rfl)
theorem dX9_closes_122 : decode cX9_closes 122 = .ok (.goto 12, 3) := dk_167 0 12 (dk_at dksX9_closes_5 3 rfl rfl)
theorem dX9_closes_125 : decode cX9_closes 125 = .ok (.iload_n 1, 1) := dk_27 (dk_at dksX9_closes_5 6 rfl rfl)
theorem dX9_closes_126 : decode cX9_closes 126 = .ok (.iconst 4, 1) := dk_7 (dk_at dksX9_closes_5 7 rfl rfl)
theorem dX9_closes_127 : decode cX9_closes 127 = .ok (.if_icmp .ne 7, 3) := dk_160 0 7 (dk_at dksX9_closes_5 8 rfl rfl)
theorem dX9_closes_130 : decode cX9_closes 130 = .ok (.aload_n 0, 1) := dk_42 (dk_at dksX9_closes_5 11 rfl rfl)
theorem dX9_closes_131 : decode cX9_closes 131 = .ok (.invokevirtual 307, 3) := dk_182 1 51 (dk_at dksX9_closes_5 12 rfl rfl)
theorem dX9_closes_134 : decode cX9_closes 134 = .ok (.return_, 1) := dk_177 (dk_at dksX9_closes_5 15 rfl rfl)
theorem okX9_closes_0 : XOkL xms rX9_closes bX9_closes_0 := xcP (xok_aload_n dX9_closes_0 rfl) rfl (xcC0 (xokc_list (List.forall_mem_cons.mpr ⟨xokc_V (r := (RX9, TX9, 96)) xm102 (List.mem_of_getElem? (i := 9) rfl) (by decide) rfl dX9_closes_1 q2235 q2237 qs53 q149 q2238 (by decide +kernel), fun _ h => nomatch h⟩)) rfl (xcP (xok_aload_n dX9_closes_4 rfl) rfl (xcP (xok_dup dX9_closes_5) rfl (xcP (xok_getfield (ref := "WaysAtlasModel") (Or.inl ⟨rfl, by decide⟩) dX9_closes_6 (Or.inl ⟨q1967, (Or.inl rfl)⟩) xh56) rfl (xcP (xok_iconst dX9_closes_9 rfl) rfl (xcP (xok_isub dX9_closes_10) rfl (xcP (xok_putfield (ref := "WaysAtlasModel") (Or.inl ⟨rfl, by decide, rfl⟩) dX9_closes_11 (Or.inl ⟨q1967, (Or.inl rfl)⟩) (Or.inl rfl) xh56) rfl (xcP (xok_aload_n dX9_closes_14 rfl) rfl (xcP (xok_getfield (ref := "WaysAtlasModel") (Or.inr ⟨rfl, by decide⟩) dX9_closes_15 (Or.inl ⟨q1968, (Or.inl rfl)⟩) xh1077) rfl (xcP (xok_aload_n dX9_closes_18 rfl) rfl (xcP (xok_getfield (ref := "WaysAtlasModel") (Or.inl ⟨rfl, by decide⟩) dX9_closes_19 (Or.inl ⟨q1967, (Or.inl rfl)⟩) xh56) rfl (xcP (xok_iaload dX9_closes_22) rfl (xcP (xok_istore_n dX9_closes_23 rfl) rfl (xcP (xok_aload_n dX9_closes_24 rfl) rfl (xcP (xok_getfield (ref := "WaysAtlasModel") (Or.inr ⟨rfl, by decide⟩) dX9_closes_25 (Or.inl ⟨q1969, (Or.inl rfl)⟩) xh1078) rfl (xcP (xok_aload_n dX9_closes_28 rfl) rfl (xcP (xok_getfield (ref := "WaysAtlasModel") (Or.inl ⟨rfl, by decide⟩) dX9_closes_29 (Or.inl ⟨q1967, (Or.inl rfl)⟩) xh56) rfl (xcP (xok_iaload dX9_closes_32) rfl (xcP (xok_istore_n dX9_closes_33 rfl) rfl (xcP (xok_iload_n dX9_closes_34 rfl) rfl (xcP (xok_iconst dX9_closes_35 rfl) rfl (xcP (xok_icmpne dX9_closes_36 (by decide)) rfl (xcP (xok_aload_n dX9_closes_39 rfl) rfl (xcP (xok_bipush dX9_closes_40 rfl) rfl (xcC0 (xokc_list (List.forall_mem_cons.mpr ⟨xokc_V (r := (RX9, TX9, 96)) xm110 (List.mem_of_getElem? (i := 9) rfl) (by decide) rfl dX9_closes_42 q2269 q2271 qs60 q149 q2272 (by decide +kernel), fun _ h => nomatch h⟩)) rfl (xcP (xok_ifeq dX9_closes_45 (by decide)) rfl (xcP (xok_aload_n dX9_closes_48 rfl) rfl (xcC0 (xokc_list (List.forall_mem_cons.mpr ⟨xokc_V (r := (RX9, TX9, 96)) xm102 (List.mem_of_getElem? (i := 9) rfl) (by decide) rfl dX9_closes_49 q2235 q2237 qs53 q149 q2238 (by decide +kernel), fun _ h => nomatch h⟩)) rfl (xcP (xok_aload_n dX9_closes_52 rfl) rfl (xcP (xok_iload_n dX9_closes_53 rfl) rfl (xcP (xok_bipush dX9_closes_54 rfl) rfl (xcP (xok_aload_n dX9_closes_56 rfl) rfl (xcP (xok_iconst dX9_closes_57 rfl) rfl (xcP (xok_iload_n dX9_closes_58 rfl) rfl (xcC0 (xokc_list (List.forall_mem_cons.mpr ⟨xokc_V (r := (RX9, TX9, 96)) xm118 (List.mem_of_getElem? (i := 9) rfl) (by decide) rfl dX9_closes_59 q2301 q2303 qs68 q149 q2304 (by decide +kernel), fun _ h => nomatch h⟩)) rfl (xcC0 (xokc_list (List.forall_mem_cons.mpr ⟨xokc_V (r := (RX9, TX9, 96)) xm120 (List.mem_of_getElem? (i := 9) rfl) (by decide) rfl dX9_closes_62 q2309 q2311 qs70 q149 q2312 (by decide +kernel), fun _ h => nomatch h⟩)) rfl (xcP (xok_goto dX9_closes_65 (by decide)) rfl trivial)))))))))))))))))))))))))))))))))))))
theorem okX9_closes_68 : XOkL xms rX9_closes bX9_closes_68 := xcP (xok_iload_n dX9_closes_68 rfl) rfl (xcP (xok_iconst dX9_closes_69 rfl) rfl (xcP (xok_bipush dX9_closes_70 rfl) rfl (xcC0 (xokc_S xm99 rfl dX9_closes_72 q2224 q2225 q149 q2226 (by decide +kernel)) rfl (xcP (xok_ifeq dX9_closes_75 (by decide)) rfl (xcP (xok_aload_n dX9_closes_78 rfl) rfl (xcP (xok_bipush dX9_closes_79 rfl) rfl (xcC0 (xokc_list (List.forall_mem_cons.mpr ⟨xokc_V (r := (RX9, TX9, 96)) xm110 (List.mem_of_getElem? (i := 9) rfl) (by decide) rfl dX9_closes_81 q2269 q2271 qs60 q149 q2272 (by decide +kernel), fun _ h => nomatch h⟩)) rfl (xcP (xok_ifeq dX9_closes_84 (by decide)) rfl (xcP (xok_aload_n dX9_closes_87 rfl) rfl (xcP (xok_iload_n dX9_closes_88 rfl) rfl (xcC0 (xokc_list (List.forall_mem_cons.mpr ⟨xokc_V (r := (RX9, TX9, 96)) xm121 (List.mem_of_getElem? (i := 9) rfl) (by decide) rfl dX9_closes_89 q2313 q2315 qs71 q149 q2316 (by decide +kernel), fun _ h => nomatch h⟩)) rfl (xcP (xok_goto dX9_closes_92 (by decide)) rfl trivial))))))))))))
theorem okX9_closes_95 : XOkL xms rX9_closes bX9_closes_95 := xcP (xok_aload_n dX9_closes_95 rfl) rfl (xcP (xok_bipush dX9_closes_96 rfl) rfl (xcC0 (xokc_list (List.forall_mem_cons.mpr ⟨xokc_V (r := (RX9, TX9, 96)) xm110 (List.mem_of_getElem? (i := 9) rfl) (by decide) rfl dX9_closes_98 q2269 q2271 qs60 q149 q2272 (by decide +kernel), fun _ h => nomatch h⟩)) rfl (xcP (xok_ifeq dX9_closes_101 (by decide)) rfl (xcP (xok_aload_n dX9_closes_104 rfl) rfl (xcC0 (xokc_list (List.forall_mem_cons.mpr ⟨xokc_V (r := (RX9, TX9, 96)) xm102 (List.mem_of_getElem? (i := 9) rfl) (by decide) rfl dX9_closes_105 q2235 q2237 qs53 q149 q2238 (by decide +kernel), fun _ h => nomatch h⟩)) rfl (xcP (xok_aload_n dX9_closes_108 rfl) rfl (xcP (xok_iload_n dX9_closes_109 rfl) rfl (xcP (xok_bipush dX9_closes_110 rfl) rfl (xcP (xok_aload_n dX9_closes_112 rfl) rfl (xcP (xok_bipush dX9_closes_113 rfl) rfl (xcP (xok_iload_n dX9_closes_115 rfl) rfl (xcC0 (xokc_list (List.forall_mem_cons.mpr ⟨xokc_V (r := (RX9, TX9, 96)) xm118 (List.mem_of_getElem? (i := 9) rfl) (by decide) rfl dX9_closes_116 q2301 q2303 qs68 q149 q2304 (by decide +kernel), fun _ h => nomatch h⟩)) rfl (xcC0 (xokc_list (List.forall_mem_cons.mpr ⟨xokc_V (r := (RX9, TX9, 96)) xm120 (List.mem_of_getElem? (i := 9) rfl) (by decide) rfl dX9_closes_119 q2309 q2311 qs70 q149 q2312 (by decide +kernel), fun _ h => nomatch h⟩)) rfl (xcP (xok_goto dX9_closes_122 (by decide)) rfl trivial))))))))))))))
theorem okX9_closes_125 : XOkL xms rX9_closes bX9_closes_125 := xcP (xok_iload_n dX9_closes_125 rfl) rfl (xcP (xok_iconst dX9_closes_126 rfl) rfl (xcP (xok_icmpne dX9_closes_127 (by decide)) rfl (xcP (xok_aload_n dX9_closes_130 rfl) rfl (xcC0 (xokc_list (List.forall_mem_cons.mpr ⟨xokc_V (r := (RX9, TX9, 96)) xm112 (List.mem_of_getElem? (i := 9) rfl) (by decide) rfl dX9_closes_131 q2277 q2279 qs62 q149 q2280 (by decide +kernel), fun _ h => nomatch h⟩)) rfl (xcP xok_fal rfl trivial)))))
theorem okX9_closes_134 : XOkL xms rX9_closes bX9_closes_134 := xcR ⟨dX9_closes_134, rfl⟩
theorem okM_X9_closes : XOkM xms rX9_closes := xokM0 (List.forall_mem_cons.mpr ⟨⟨rfl, okX9_closes_0⟩, List.forall_mem_cons.mpr ⟨⟨rfl, okX9_closes_68⟩, List.forall_mem_cons.mpr ⟨⟨rfl, okX9_closes_95⟩, List.forall_mem_cons.mpr ⟨⟨rfl, okX9_closes_125⟩, List.forall_mem_cons.mpr ⟨⟨rfl, okX9_closes_134⟩, fun _ h => nomatch h⟩⟩⟩⟩⟩) (xokH0 rfl (fun _ _ => rfl)) (by decide +kernel) (by decide)
abbrev cX9_put : ByteArray := prog_36_method_16_code
def dkwX9_put_0 : List UInt8 := [42, 180, 0, 59, 17, 5, 0, 42, 180, 1, 32, 104, 16, 16, 27, 104, 96, 28, 96, 29, 79, 177]
abbrev dktX9_put_0 : List UInt8 := dkwX9_put_0 ++ []
theorem dksX9_put_0 : cX9_put.data.toList.drop 0 = dktX9_put_0 := by decide +kernel
theorem dX9_put_0 : decode cX9_put 0 = .ok (.aload_n 0, 1) := dk_42 (dk_at dksX9_put_0 0 rfl rfl)
theorem dX9_put_1 : decode cX9_put 1 = .ok (.getfield 59, 3) := dk_180 0 59 (dk_at dksX9_put_0 1 rfl rfl)
theorem dX9_put_4 : decode cX9_put 4 = .ok (.sipush 1280, 3) := dk_17 5 0 (dk_at dksX9_put_0 4 rfl rfl)
theorem dX9_put_7 : decode cX9_put 7 = .ok (.aload_n 0, 1) := dk_42 (dk_at dksX9_put_0 7 rfl rfl)
theorem dX9_put_8 : decode cX9_put 8 = .ok (.getfield 288, 3) := dk_180 1 32 (dk_at dksX9_put_0 8 rfl rfl)
theorem dX9_put_11 : decode cX9_put 11 = .ok (.imul, 1) := dk_104 (dk_at dksX9_put_0 11 rfl rfl)
theorem dX9_put_12 : decode cX9_put 12 = .ok (.bipush 16, 2) := dk_16 16 (dk_at dksX9_put_0 12 rfl rfl)
theorem dX9_put_14 : decode cX9_put 14 = .ok (.iload_n 1, 1) := dk_27 (dk_at dksX9_put_0 14 rfl rfl)
theorem dX9_put_15 : decode cX9_put 15 = .ok (.imul, 1) := dk_104 (dk_at dksX9_put_0 15 rfl rfl)
theorem dX9_put_16 : decode cX9_put 16 = .ok (.iadd, 1) := dk_96 (dk_at dksX9_put_0 16 rfl rfl)
theorem dX9_put_17 : decode cX9_put 17 = .ok (.iload_n 2, 1) := dk_28 (dk_at dksX9_put_0 17 rfl rfl)
theorem dX9_put_18 : decode cX9_put 18 = .ok (.iadd, 1) := dk_96 (dk_at dksX9_put_0 18 rfl rfl)
theorem dX9_put_19 : decode cX9_put 19 = .ok (.iload_n 3, 1) := dk_29 (dk_at dksX9_put_0 19 rfl rfl)
theorem dX9_put_20 : decode cX9_put 20 = .ok (.iastore, 1) := dk_79 (dk_at dksX9_put_0 20 rfl rfl)
theorem dX9_put_21 : decode cX9_put 21 = .ok (.return_, 1) := dk_177 (dk_at dksX9_put_0 21 rfl rfl)
theorem okX9_put_0 : XOkL xms rX9_put bX9_put_0 := xcP (xok_aload_n dX9_put_0 rfl) rfl (xcP (xok_getfield (ref := "WaysAtlasModel") (Or.inr ⟨rfl, by decide⟩) dX9_put_1 (Or.inl ⟨q1940, (Or.inl rfl)⟩) xh1059) rfl (xcP (xok_sipush dX9_put_4 rfl) rfl (xcP (xok_aload_n dX9_put_7 rfl) rfl (xcP (xok_getfield (ref := "WaysAtlasModel") (Or.inl ⟨rfl, by decide⟩) dX9_put_8 (Or.inl ⟨q1938, (Or.inl rfl)⟩) xh45) rfl (xcP (xok_imul dX9_put_11) rfl (xcP (xok_bipush dX9_put_12 rfl) rfl (xcP (xok_iload_n dX9_put_14 rfl) rfl (xcP (xok_imul dX9_put_15) rfl (xcP (xok_iadd dX9_put_16) rfl (xcP (xok_iload_n dX9_put_17 rfl) rfl (xcP (xok_iadd dX9_put_18) rfl (xcP (xok_iload_n dX9_put_19 rfl) rfl (xcP (xok_iastore dX9_put_20) rfl (xcR ⟨dX9_put_21, rfl⟩))))))))))))))
theorem okM_X9_put : XOkM xms rX9_put := xokM0 (List.forall_mem_cons.mpr ⟨⟨rfl, okX9_put_0⟩, fun _ h => nomatch h⟩) (xokH0 rfl (fun _ _ => rfl)) (by decide +kernel) (by decide)
abbrev cX9_ofCatch : ByteArray := prog_36_method_48_code
def dkwX9_ofCatch_2 : List UInt8 := [42, 180, 1, 32, 92, 46, 4, 96, 79, 42, 180, 0, 81, 29, 42, 16, 6, 27, 182, 1, 145, 79, 177]
abbrev dktX9_ofCatch_2 : List UInt8 := dkwX9_ofCatch_2 ++ []
def dkwX9_ofCatch_1 : List UInt8 := [180, 1, 32, 46, 96, 62, 42, 180, 0, 75, 29, 27, 79, 42, 180, 0, 78, 29, 28, 79, 42, 180, 0, 84]
abbrev dktX9_ofCatch_1 : List UInt8 := dkwX9_ofCatch_1 ++ dktX9_ofCatch_2
def dkwX9_ofCatch_0 : List UInt8 := [42, 182, 1, 54, 42, 4, 182, 1, 149, 61, 17, 0, 160, 42, 180, 1, 32, 104, 42, 180, 0, 84, 42]
abbrev dktX9_ofCatch_0 : List UInt8 := dkwX9_ofCatch_0 ++ dktX9_ofCatch_1
theorem dksX9_ofCatch_0 : cX9_ofCatch.data.toList.drop 0 = dktX9_ofCatch_0 := by decide +kernel
theorem dksX9_ofCatch_1 : cX9_ofCatch.data.toList.drop 23 = dktX9_ofCatch_1 := dk_seg dksX9_ofCatch_0 23 rfl rfl
theorem dksX9_ofCatch_2 : cX9_ofCatch.data.toList.drop 47 = dktX9_ofCatch_2 := dk_seg dksX9_ofCatch_1 24 rfl rfl
theorem dX9_ofCatch_0 : decode cX9_ofCatch 0 = .ok (.aload_n 0, 1) := dk_42 (dk_at dksX9_ofCatch_0 0 rfl rfl)
theorem dX9_ofCatch_1 : decode cX9_ofCatch 1 = .ok (.invokevirtual 310, 3) := dk_182 1 54 (dk_at dksX9_ofCatch_0 1 rfl rfl)
theorem dX9_ofCatch_4 : decode cX9_ofCatch 4 = .ok (.aload_n 0, 1) := dk_42 (dk_at dksX9_ofCatch_0 4 rfl rfl)
theorem dX9_ofCatch_5 : decode cX9_ofCatch 5 = .ok (.iconst 1, 1) := dk_4 (dk_at dksX9_ofCatch_0 5 rfl rfl)
theorem dX9_ofCatch_6 : decode cX9_ofCatch 6 = .ok (.invokevirtual 405, 3) := dk_182 1 149 (dk_at dksX9_ofCatch_0 6 rfl rfl)
theorem dX9_ofCatch_9 : decode cX9_ofCatch 9 = .ok (.istore_n 2, 1) := dk_61 (dk_at dksX9_ofCatch_0 9 rfl rfl)
theorem dX9_ofCatch_10 : decode cX9_ofCatch 10 = .ok (.sipush 160, 3) := dk_17 0 160 (dk_at dksX9_ofCatch_0 10 rfl rfl)
theorem dX9_ofCatch_13 : decode cX9_ofCatch 13 = .ok (.aload_n 0, 1) := dk_42 (dk_at dksX9_ofCatch_0 13 rfl rfl)
theorem dX9_ofCatch_14 : decode cX9_ofCatch 14 = .ok (.getfield 288, 3) := dk_180 1 32 (dk_at dksX9_ofCatch_0 14 rfl rfl)
theorem dX9_ofCatch_17 : decode cX9_ofCatch 17 = .ok (.imul, 1) := dk_104 (dk_at dksX9_ofCatch_0 17 rfl rfl)
theorem dX9_ofCatch_18 : decode cX9_ofCatch 18 = .ok (.aload_n 0, 1) := dk_42 (dk_at dksX9_ofCatch_0 18 rfl rfl)
theorem dX9_ofCatch_19 : decode cX9_ofCatch 19 = .ok (.getfield 84, 3) := dk_180 0 84 (dk_at dksX9_ofCatch_0 19 rfl rfl)
theorem dX9_ofCatch_22 : decode cX9_ofCatch 22 = .ok (.aload_n 0, 1) := dk_42 (dk_at dksX9_ofCatch_0 22 rfl rfl)
theorem dX9_ofCatch_23 : decode cX9_ofCatch 23 = .ok (.getfield 288, 3) := dk_180 1 32 (dk_at dksX9_ofCatch_1 0 rfl rfl)
theorem dX9_ofCatch_26 : decode cX9_ofCatch 26 = .ok (.iaload, 1) := dk_46 (dk_at dksX9_ofCatch_1 3 rfl rfl)
theorem dX9_ofCatch_27 : decode cX9_ofCatch 27 = .ok (.iadd, 1) := dk_96 (dk_at dksX9_ofCatch_1 4 rfl rfl)
theorem dX9_ofCatch_28 : decode cX9_ofCatch 28 = .ok (.istore_n 3, 1) := dk_62 (dk_at dksX9_ofCatch_1 5 rfl rfl)
theorem dX9_ofCatch_29 : decode cX9_ofCatch 29 = .ok (.aload_n 0, 1) := dk_42 (dk_at dksX9_ofCatch_1 6 rfl rfl)
theorem dX9_ofCatch_30 : decode cX9_ofCatch 30 = .ok (.getfield 75, 3) := dk_180 0 75 (dk_at dksX9_ofCatch_1 7 rfl rfl)
theorem dX9_ofCatch_33 : decode cX9_ofCatch 33 = .ok (.iload_n 3, 1) := dk_29 (dk_at dksX9_ofCatch_1 10 rfl rfl)
theorem dX9_ofCatch_34 : decode cX9_ofCatch 34 = .ok (.iload_n 1, 1) := dk_27 (dk_at dksX9_ofCatch_1 11 rfl rfl)
theorem dX9_ofCatch_35 : decode cX9_ofCatch 35 = .ok (.iastore, 1) := dk_79 (dk_at dksX9_ofCatch_1 12 rfl rfl)
theorem dX9_ofCatch_36 : decode cX9_ofCatch 36 = .ok (.aload_n 0, 1) := dk_42 (dk_at dksX9_ofCatch_1 13 rfl rfl)
theorem dX9_ofCatch_37 : decode cX9_ofCatch 37 = .ok (.getfield 78, 3) := dk_180 0 78 (dk_at dksX9_ofCatch_1 14 rfl rfl)
theorem dX9_ofCatch_40 : decode cX9_ofCatch 40 = .ok (.iload_n 3, 1) := dk_29 (dk_at dksX9_ofCatch_1 17 rfl rfl)
theorem dX9_ofCatch_41 : decode cX9_ofCatch 41 = .ok (.iload_n 2, 1) := dk_28 (dk_at dksX9_ofCatch_1 18 rfl rfl)
theorem dX9_ofCatch_42 : decode cX9_ofCatch 42 = .ok (.iastore, 1) := dk_79 (dk_at dksX9_ofCatch_1 19 rfl rfl)
theorem dX9_ofCatch_43 : decode cX9_ofCatch 43 = .ok (.aload_n 0, 1) := dk_42 (dk_at dksX9_ofCatch_1 20 rfl rfl)
theorem dX9_ofCatch_44 : decode cX9_ofCatch 44 = .ok (.getfield 84, 3) := dk_180 0 84 (dk_at dksX9_ofCatch_1 21 rfl rfl)
theorem dX9_ofCatch_47 : decode cX9_ofCatch 47 = .ok (.aload_n 0, 1) := dk_42 (dk_at dksX9_ofCatch_2 0 rfl rfl)
theorem dX9_ofCatch_48 : decode cX9_ofCatch 48 = .ok (.getfield 288, 3) := dk_180 1 32 (dk_at dksX9_ofCatch_2 1 rfl rfl)
theorem dX9_ofCatch_51 : decode cX9_ofCatch 51 = .ok (.dup2, 1) := dk_92 (dk_at dksX9_ofCatch_2 4 rfl rfl)
theorem dX9_ofCatch_52 : decode cX9_ofCatch 52 = .ok (.iaload, 1) := dk_46 (dk_at dksX9_ofCatch_2 5 rfl rfl)
theorem dX9_ofCatch_53 : decode cX9_ofCatch 53 = .ok (.iconst 1, 1) := dk_4 (dk_at dksX9_ofCatch_2 6 rfl rfl)
theorem dX9_ofCatch_54 : decode cX9_ofCatch 54 = .ok (.iadd, 1) := dk_96 (dk_at dksX9_ofCatch_2 7 rfl rfl)
theorem dX9_ofCatch_55 : decode cX9_ofCatch 55 = .ok (.iastore, 1) := dk_79 (dk_at dksX9_ofCatch_2 8 rfl rfl)
theorem dX9_ofCatch_56 : decode cX9_ofCatch 56 = .ok (.aload_n 0, 1) := dk_42 (dk_at dksX9_ofCatch_2 9 rfl rfl)
theorem dX9_ofCatch_57 : decode cX9_ofCatch 57 = .ok (.getfield 81, 3) := dk_180 0 81 (dk_at dksX9_ofCatch_2 10 rfl rfl)
theorem dX9_ofCatch_60 : decode cX9_ofCatch 60 = .ok (.iload_n 3, 1) := dk_29 (dk_at dksX9_ofCatch_2 13 rfl rfl)
theorem dX9_ofCatch_61 : decode cX9_ofCatch 61 = .ok (.aload_n 0, 1) := dk_42 (dk_at dksX9_ofCatch_2 14 rfl rfl)
theorem dX9_ofCatch_62 : decode cX9_ofCatch 62 = .ok (.bipush 6, 2) := dk_16 6 (dk_at dksX9_ofCatch_2 15 rfl rfl)
theorem dX9_ofCatch_64 : decode cX9_ofCatch 64 = .ok (.iload_n 1, 1) := dk_27 (dk_at dksX9_ofCatch_2 17 rfl rfl)
theorem dX9_ofCatch_65 : decode cX9_ofCatch 65 = .ok (.invokevirtual 401, 3) := dk_182 1 145 (dk_at dksX9_ofCatch_2 18 rfl rfl)
theorem dX9_ofCatch_68 : decode cX9_ofCatch 68 = .ok (.iastore, 1) := dk_79 (dk_at dksX9_ofCatch_2 21 rfl rfl)
theorem dX9_ofCatch_69 : decode cX9_ofCatch 69 = .ok (.return_, 1) := dk_177 (dk_at dksX9_ofCatch_2 22 rfl rfl)
theorem okX9_ofCatch_0 : XOkL xms rX9_ofCatch bX9_ofCatch_0 := xcP (xok_aload_n dX9_ofCatch_0 rfl) rfl (xcC0 (xokc_list (List.forall_mem_cons.mpr ⟨xokc_V (r := (RX9, TX9, 96)) xm102 (List.mem_of_getElem? (i := 9) rfl) (by decide) rfl dX9_ofCatch_1 q2235 q2237 qs53 q149 q2238 (by decide +kernel), fun _ h => nomatch h⟩)) rfl (xcP (xok_aload_n dX9_ofCatch_4 rfl) rfl (xcP (xok_iconst dX9_ofCatch_5 rfl) rfl (xcC0 (xokc_list (List.forall_mem_cons.mpr ⟨xokc_V (r := (RX9, TX9, 96)) xm113 (List.mem_of_getElem? (i := 9) rfl) (by decide) rfl dX9_ofCatch_6 q2281 q2283 qs63 q149 q2284 (by decide +kernel), fun _ h => nomatch h⟩)) rfl (xcP (xok_istore_n dX9_ofCatch_9 rfl) rfl (xcP (xok_sipush dX9_ofCatch_10 rfl) rfl (xcP (xok_aload_n dX9_ofCatch_13 rfl) rfl (xcP (xok_getfield (ref := "WaysAtlasModel") (Or.inl ⟨rfl, by decide⟩) dX9_ofCatch_14 (Or.inl ⟨q1938, (Or.inl rfl)⟩) xh45) rfl (xcP (xok_imul dX9_ofCatch_17) rfl (xcP (xok_aload_n dX9_ofCatch_18 rfl) rfl (xcP (xok_getfield (ref := "WaysAtlasModel") (Or.inr ⟨rfl, by decide⟩) dX9_ofCatch_19 (Or.inl ⟨q1948, (Or.inl rfl)⟩) xh1067) rfl (xcP (xok_aload_n dX9_ofCatch_22 rfl) rfl (xcP (xok_getfield (ref := "WaysAtlasModel") (Or.inl ⟨rfl, by decide⟩) dX9_ofCatch_23 (Or.inl ⟨q1938, (Or.inl rfl)⟩) xh45) rfl (xcP (xok_iaload dX9_ofCatch_26) rfl (xcP (xok_iadd dX9_ofCatch_27) rfl (xcP (xok_istore_n dX9_ofCatch_28 rfl) rfl (xcP (xok_aload_n dX9_ofCatch_29 rfl) rfl (xcP (xok_getfield (ref := "WaysAtlasModel") (Or.inr ⟨rfl, by decide⟩) dX9_ofCatch_30 (Or.inl ⟨q1945, (Or.inl rfl)⟩) xh1064) rfl (xcP (xok_iload_n dX9_ofCatch_33 rfl) rfl (xcP (xok_iload_n dX9_ofCatch_34 rfl) rfl (xcP (xok_iastore dX9_ofCatch_35) rfl (xcP (xok_aload_n dX9_ofCatch_36 rfl) rfl (xcP (xok_getfield (ref := "WaysAtlasModel") (Or.inr ⟨rfl, by decide⟩) dX9_ofCatch_37 (Or.inl ⟨q1946, (Or.inl rfl)⟩) xh1065) rfl (xcP (xok_iload_n dX9_ofCatch_40 rfl) rfl (xcP (xok_iload_n dX9_ofCatch_41 rfl) rfl (xcP (xok_iastore dX9_ofCatch_42) rfl (xcP (xok_aload_n dX9_ofCatch_43 rfl) rfl (xcP (xok_getfield (ref := "WaysAtlasModel") (Or.inr ⟨rfl, by decide⟩) dX9_ofCatch_44 (Or.inl ⟨q1948, (Or.inl rfl)⟩) xh1067) rfl (xcP (xok_aload_n dX9_ofCatch_47 rfl) rfl (xcP (xok_getfield (ref := "WaysAtlasModel") (Or.inl ⟨rfl, by decide⟩) dX9_ofCatch_48 (Or.inl ⟨q1938, (Or.inl rfl)⟩) xh45) rfl (xcP (xok_dup2 dX9_ofCatch_51) rfl (xcP (xok_iaload dX9_ofCatch_52) rfl (xcP (xok_iconst dX9_ofCatch_53 rfl) rfl (xcP (xok_iadd dX9_ofCatch_54) rfl (xcP (xok_iastore dX9_ofCatch_55) rfl (xcP (xok_aload_n dX9_ofCatch_56 rfl) rfl (xcP (xok_getfield (ref := "WaysAtlasModel") (Or.inr ⟨rfl, by decide⟩) dX9_ofCatch_57 (Or.inl ⟨q1947, (Or.inl rfl)⟩) xh1066) rfl (xcP (xok_iload_n dX9_ofCatch_60 rfl) rfl (xcP (xok_aload_n dX9_ofCatch_61 rfl) rfl (xcP (xok_bipush dX9_ofCatch_62 rfl) rfl (xcP (xok_iload_n dX9_ofCatch_64 rfl) rfl (xcC0 (xokc_list (List.forall_mem_cons.mpr ⟨xokc_V (r := (RX9, TX9, 96)) xm118 (List.mem_of_getElem? (i := 9) rfl) (by decide) rfl dX9_ofCatch_65 q2301 q2303 qs68 q149 q2304 (by decide +kernel), fun _ h => nomatch h⟩)) rfl (xcP (xok_iastore dX9_ofCatch_68) rfl (xcR ⟨dX9_ofCatch_69, rfl⟩))))))))))))))))))))))))))))))))))))))))))))
theorem okM_X9_ofCatch : XOkM xms rX9_ofCatch := xokM0 (List.forall_mem_cons.mpr ⟨⟨rfl, okX9_ofCatch_0⟩, fun _ h => nomatch h⟩) (xokH0 rfl (fun _ _ => rfl)) (by decide +kernel) (by decide)
abbrev cX9_statement : ByteArray := prog_36_method_47_code
def dkwX9_statement_14 : List UInt8 := [42, 7, 27, 182, 1, 145, 182, 1, 120, 167, 0, 7, 42, 182, 1, 170, 177]
abbrev dktX9_statement_14 : List UInt8 := dkwX9_statement_14 ++ []
def dkwX9_statement_13 : List UInt8 := [42, 16, 15, 182, 1, 167, 167, 0, 34, 42, 16, 16, 182, 1, 136, 60, 42, 182, 1, 54, 42, 27, 16, 7]
abbrev dktX9_statement_13 : List UInt8 := dkwX9_statement_13 ++ dktX9_statement_14
def dkwX9_statement_12 : List UInt8 := [182, 1, 149, 182, 1, 120, 42, 16, 59, 182, 1, 129, 167, 0, 52, 42, 16, 14, 182, 1, 167, 167, 0, 43]
abbrev dktX9_statement_12 : List UInt8 := dkwX9_statement_12 ++ dktX9_statement_13
def dkwX9_statement_11 : List UInt8 := [42, 27, 182, 1, 164, 167, 0, 83, 42, 16, 13, 182, 1, 136, 60, 42, 182, 1, 54, 42, 27, 4, 42, 4]
abbrev dktX9_statement_11 : List UInt8 := dkwX9_statement_11 ++ dktX9_statement_12
def dkwX9_statement_10 : List UInt8 := [42, 180, 1, 16, 16, 8, 160, 0, 8, 16, 11, 167, 0, 5, 16, 12, 182, 1, 136, 60, 42, 182, 1, 54]
abbrev dktX9_statement_10 : List UInt8 := dkwX9_statement_10 ++ dktX9_statement_11
def dkwX9_statement_9 : List UInt8 := [42, 27, 6, 7, 182, 1, 133, 42, 27, 16, 7, 42, 6, 27, 182, 1, 145, 182, 1, 120, 167, 0, 116, 42]
abbrev dktX9_statement_9 : List UInt8 := dkwX9_statement_9 ++ dktX9_statement_10
def dkwX9_statement_8 : List UInt8 := [182, 1, 129, 167, 0, 157, 42, 182, 1, 161, 167, 0, 150, 42, 16, 10, 182, 1, 136, 60, 42, 182, 1, 54]
abbrev dktX9_statement_8 : List UInt8 := dkwX9_statement_8 ++ dktX9_statement_9
def dkwX9_statement_7 : List UInt8 := [167, 0, 184, 42, 16, 8, 182, 1, 136, 60, 42, 182, 1, 54, 42, 27, 6, 7, 182, 1, 133, 42, 16, 59]
abbrev dktX9_statement_7 : List UInt8 := dkwX9_statement_7 ++ dktX9_statement_8
def dkwX9_statement_6 : List UInt8 := [182, 1, 129, 167, 0, 203, 42, 16, 7, 182, 1, 136, 60, 42, 182, 1, 54, 42, 27, 182, 1, 139]
abbrev dktX9_statement_6 : List UInt8 := dkwX9_statement_6 ++ dktX9_statement_7
def dkwX9_statement_5 : List UInt8 := [42, 3, 182, 1, 136, 60, 42, 182, 1, 54, 42, 27, 4, 42, 182, 1, 86, 182, 1, 120, 42, 16, 59]
abbrev dktX9_statement_5 : List UInt8 := dkwX9_statement_5 ++ dktX9_statement_6
def dkwX9_statement_4 : List UInt8 := [170, 0, 0, 1, 38, 0, 0, 0, 0, 0, 0, 0, 13, 0, 0, 0, 69, 0, 0, 0, 98, 0, 0, 1, 38, 0, 0, 1, 38, 0, 0, 0, 117, 0, 0, 0, 144, 0, 0, 1, 38, 0, 0, 0, 151, 0, 0, 0, 185, 0, 0, 0, 185, 0, 0, 0, 218, 0, 0, 0, 249, 0, 0, 1, 2, 0, 0, 1, 11]
abbrev dktX9_statement_4 : List UInt8 := dkwX9_statement_4 ++ dktX9_statement_5
def dkwX9_statement_3 : List UInt8 := [180, 1, 16]
abbrev dktX9_statement_3 : List UInt8 := dkwX9_statement_3 ++ dktX9_statement_4
def dkwX9_statement_2 : List UInt8 := [180, 1, 16, 16, 118, 160, 0, 10, 42, 182, 1, 155, 167, 0, 7, 42, 182, 1, 158, 177, 2, 60, 42]
abbrev dktX9_statement_2 : List UInt8 := dkwX9_statement_2 ++ dktX9_statement_3
def dkwX9_statement_1 : List UInt8 := [160, 0, 13, 42, 5, 42, 180, 1, 23, 182, 1, 41, 177, 42, 180, 1, 13, 6, 160, 0, 24, 42]
abbrev dktX9_statement_1 : List UInt8 := dkwX9_statement_1 ++ dktX9_statement_2
def dkwX9_statement_0 : List UInt8 := [42, 182, 1, 152, 154, 0, 8, 42, 182, 1, 51, 177, 42, 180, 0, 63, 42, 180, 1, 32, 46, 16, 80]
abbrev dktX9_statement_0 : List UInt8 := dkwX9_statement_0 ++ dktX9_statement_1
theorem dksX9_statement_0 : cX9_statement.data.toList.drop 0 = dktX9_statement_0 := by decide +kernel
theorem dksX9_statement_1 : cX9_statement.data.toList.drop 23 = dktX9_statement_1 := dk_seg dksX9_statement_0 23 rfl rfl
theorem dksX9_statement_2 : cX9_statement.data.toList.drop 45 = dktX9_statement_2 := dk_seg dksX9_statement_1 22 rfl rfl
theorem dksX9_statement_3 : cX9_statement.data.toList.drop 68 = dktX9_statement_3 := dk_seg dksX9_statement_2 23 rfl rfl
theorem dksX9_statement_4 : cX9_statement.data.toList.drop 71 = dktX9_statement_4 := dk_seg dksX9_statement_3 3 rfl rfl
theorem dksX9_statement_5 : cX9_statement.data.toList.drop 140 = dktX9_statement_5 := dk_seg dksX9_statement_4 69 rfl rfl
theorem dksX9_statement_6 : cX9_statement.data.toList.drop 163 = dktX9_statement_6 := dk_seg dksX9_statement_5 23 rfl rfl
theorem dksX9_statement_7 : cX9_statement.data.toList.drop 185 = dktX9_statement_7 := dk_seg dksX9_statement_6 22 rfl rfl
theorem dksX9_statement_8 : cX9_statement.data.toList.drop 209 = dktX9_statement_8 := dk_seg dksX9_statement_7 24 rfl rfl
theorem dksX9_statement_9 : cX9_statement.data.toList.drop 233 = dktX9_statement_9 := dk_seg dksX9_statement_8 24 rfl rfl
theorem dksX9_statement_10 : cX9_statement.data.toList.drop 257 = dktX9_statement_10 := dk_seg dksX9_statement_9 24 rfl rfl
theorem dksX9_statement_11 : cX9_statement.data.toList.drop 281 = dktX9_statement_11 := dk_seg dksX9_statement_10 24 rfl rfl
theorem dksX9_statement_12 : cX9_statement.data.toList.drop 305 = dktX9_statement_12 := dk_seg dksX9_statement_11 24 rfl rfl
theorem dksX9_statement_13 : cX9_statement.data.toList.drop 329 = dktX9_statement_13 := dk_seg dksX9_statement_12 24 rfl rfl
theorem dksX9_statement_14 : cX9_statement.data.toList.drop 353 = dktX9_statement_14 := dk_seg dksX9_statement_13 24 rfl rfl
theorem dX9_statement_0 : decode cX9_statement 0 = .ok (.aload_n 0, 1) := dk_42 (dk_at dksX9_statement_0 0 rfl rfl)
theorem dX9_statement_1 : decode cX9_statement 1 = .ok (.invokevirtual 408, 3) := dk_182 1 152 (dk_at dksX9_statement_0 1 rfl rfl)
theorem dX9_statement_4 : decode cX9_statement 4 = .ok (.ifCond .ne 8, 3) := dk_154 0 8 (dk_at dksX9_statement_0 4 rfl rfl)
theorem dX9_statement_7 : decode cX9_statement 7 = .ok (.aload_n 0, 1) := dk_42 (dk_at dksX9_statement_0 7 rfl rfl)
theorem dX9_statement_8 : decode cX9_statement 8 = .ok (.invokevirtual 307, 3) := dk_182 1 51 (dk_at dksX9_statement_0 8 rfl rfl)
theorem dX9_statement_11 : decode cX9_statement 11 = .ok (.return_, 1) := dk_177 (dk_at dksX9_statement_0 11 rfl rfl)
theorem dX9_statement_12 : decode cX9_statement 12 = .ok (.aload_n 0, 1) := dk_42 (dk_at dksX9_statement_0 12 rfl rfl)
theorem dX9_statement_13 : decode cX9_statement 13 = .ok (.getfield 63, 3) := dk_180 0 63 (dk_at dksX9_statement_0 13 rfl rfl)
theorem dX9_statement_16 : decode cX9_statement 16 = .ok (.aload_n 0, 1) := dk_42 (dk_at dksX9_statement_0 16 rfl rfl)
theorem dX9_statement_17 : decode cX9_statement 17 = .ok (.getfield 288, 3) := dk_180 1 32 (dk_at dksX9_statement_0 17 rfl rfl)
theorem dX9_statement_20 : decode cX9_statement 20 = .ok (.iaload, 1) := dk_46 (dk_at dksX9_statement_0 20 rfl rfl)
theorem dX9_statement_21 : decode cX9_statement 21 = .ok (.bipush 80, 2) := dk_16 80 (dk_at dksX9_statement_0 21 rfl rfl)
theorem dX9_statement_23 : decode cX9_statement 23 = .ok (.if_icmp .ne 13, 3) := dk_160 0 13 (dk_at dksX9_statement_1 0 rfl rfl)
theorem dX9_statement_26 : decode cX9_statement 26 = .ok (.aload_n 0, 1) := dk_42 (dk_at dksX9_statement_1 3 rfl rfl)
theorem dX9_statement_27 : decode cX9_statement 27 = .ok (.iconst 2, 1) := dk_5 (dk_at dksX9_statement_1 4 rfl rfl)
theorem dX9_statement_28 : decode cX9_statement 28 = .ok (.aload_n 0, 1) := dk_42 (dk_at dksX9_statement_1 5 rfl rfl)
theorem dX9_statement_29 : decode cX9_statement 29 = .ok (.getfield 279, 3) := dk_180 1 23 (dk_at dksX9_statement_1 6 rfl rfl)
theorem dX9_statement_32 : decode cX9_statement 32 = .ok (.invokevirtual 297, 3) := dk_182 1 41 (dk_at dksX9_statement_1 9 rfl rfl)
theorem dX9_statement_35 : decode cX9_statement 35 = .ok (.return_, 1) := dk_177 (dk_at dksX9_statement_1 12 rfl rfl)
theorem dX9_statement_36 : decode cX9_statement 36 = .ok (.aload_n 0, 1) := dk_42 (dk_at dksX9_statement_1 13 rfl rfl)
theorem dX9_statement_37 : decode cX9_statement 37 = .ok (.getfield 269, 3) := dk_180 1 13 (dk_at dksX9_statement_1 14 rfl rfl)
theorem dX9_statement_40 : decode cX9_statement 40 = .ok (.iconst 3, 1) := dk_6 (dk_at dksX9_statement_1 17 rfl rfl)
theorem dX9_statement_41 : decode cX9_statement 41 = .ok (.if_icmp .ne 24, 3) := dk_160 0 24 (dk_at dksX9_statement_1 18 rfl rfl)
theorem dX9_statement_44 : decode cX9_statement 44 = .ok (.aload_n 0, 1) := dk_42 (dk_at dksX9_statement_1 21 rfl rfl)
theorem dX9_statement_45 : decode cX9_statement 45 = .ok (.getfield 272, 3) := dk_180 1 16 (dk_at dksX9_statement_2 0 rfl rfl)
theorem dX9_statement_48 : decode cX9_statement 48 = .ok (.bipush 118, 2) := dk_16 118 (dk_at dksX9_statement_2 3 rfl rfl)
theorem dX9_statement_50 : decode cX9_statement 50 = .ok (.if_icmp .ne 10, 3) := dk_160 0 10 (dk_at dksX9_statement_2 5 rfl rfl)
theorem dX9_statement_53 : decode cX9_statement 53 = .ok (.aload_n 0, 1) := dk_42 (dk_at dksX9_statement_2 8 rfl rfl)
theorem dX9_statement_54 : decode cX9_statement 54 = .ok (.invokevirtual 411, 3) := dk_182 1 155 (dk_at dksX9_statement_2 9 rfl rfl)
theorem dX9_statement_57 : decode cX9_statement 57 = .ok (.goto 7, 3) := dk_167 0 7 (dk_at dksX9_statement_2 12 rfl rfl)
theorem dX9_statement_60 : decode cX9_statement 60 = .ok (.aload_n 0, 1) := dk_42 (dk_at dksX9_statement_2 15 rfl rfl)
theorem dX9_statement_61 : decode cX9_statement 61 = .ok (.invokevirtual 414, 3) := dk_182 1 158 (dk_at dksX9_statement_2 16 rfl rfl)
theorem dX9_statement_64 : decode cX9_statement 64 = .ok (.return_, 1) := dk_177 (dk_at dksX9_statement_2 19 rfl rfl)
theorem dX9_statement_65 : decode cX9_statement 65 = .ok (.iconst (-1), 1) := dk_2 (dk_at dksX9_statement_2 20 rfl rfl)
theorem dX9_statement_66 : decode cX9_statement 66 = .ok (.istore_n 1, 1) := dk_60 (dk_at dksX9_statement_2 21 rfl rfl)
theorem dX9_statement_67 : decode cX9_statement 67 = .ok (.aload_n 0, 1) := dk_42 (dk_at dksX9_statement_2 22 rfl rfl)
theorem dX9_statement_68 : decode cX9_statement 68 = .ok (.getfield 272, 3) := dk_180 1 16 (dk_at dksX9_statement_3 0 rfl rfl)
theorem dX9_statement_71 : decode cX9_statement 71 = .ok (.tableswitch 294 0 13 #[69, 98, 294, 294, 117, 144, 294, 151, 185, 185, 218, 249, 258, 267], 69) := by decide +kernel
theorem dX9_statement_140 : decode cX9_statement 140 = .ok (.aload_n 0, 1) := dk_42 (dk_at dksX9_statement_5 0 rfl rfl)
theorem dX9_statement_141 : decode cX9_statement 141 = .ok (.iconst 0, 1) := dk_3 (dk_at dksX9_statement_5 1 rfl rfl)
theorem dX9_statement_142 : decode cX9_statement 142 = .ok (.invokevirtual 392, 3) := dk_182 1 136 (dk_at dksX9_statement_5 2 rfl rfl)
theorem dX9_statement_145 : decode cX9_statement 145 = .ok (.istore_n 1, 1) := dk_60 (dk_at dksX9_statement_5 5 rfl rfl)
theorem dX9_statement_146 : decode cX9_statement 146 = .ok (.aload_n 0, 1) := dk_42 (dk_at dksX9_statement_5 6 rfl rfl)
theorem dX9_statement_147 : decode cX9_statement 147 = .ok (.invokevirtual 310, 3) := dk_182 1 54 (dk_at dksX9_statement_5 7 rfl rfl)
theorem dX9_statement_150 : decode cX9_statement 150 = .ok (.aload_n 0, 1) := dk_42 (dk_at dksX9_statement_5 10 rfl rfl)
theorem dX9_statement_151 : decode cX9_statement 151 = .ok (.iload_n 1, 1) := dk_27 (dk_at dksX9_statement_5 11 rfl rfl)
theorem dX9_statement_152 : decode cX9_statement 152 = .ok (.iconst 1, 1) := dk_4 (dk_at dksX9_statement_5 12 rfl rfl)
theorem dX9_statement_153 : decode cX9_statement 153 = .ok (.aload_n 0, 1) := dk_42 (dk_at dksX9_statement_5 13 rfl rfl)
theorem dX9_statement_154 : decode cX9_statement 154 = .ok (.invokevirtual 342, 3) := dk_182 1 86 (dk_at dksX9_statement_5 14 rfl rfl)
theorem dX9_statement_157 : decode cX9_statement 157 = .ok (.invokevirtual 376, 3) := dk_182 1 120 (dk_at dksX9_statement_5 17 rfl rfl)
theorem dX9_statement_160 : decode cX9_statement 160 = .ok (.aload_n 0, 1) := dk_42 (dk_at dksX9_statement_5 20 rfl rfl)
theorem dX9_statement_161 : decode cX9_statement 161 = .ok (.bipush 59, 2) := dk_16 59 (dk_at dksX9_statement_5 21 rfl rfl)
theorem dX9_statement_163 : decode cX9_statement 163 = .ok (.invokevirtual 385, 3) := dk_182 1 129 (dk_at dksX9_statement_6 0 rfl rfl)
theorem dX9_statement_166 : decode cX9_statement 166 = .ok (.goto 203, 3) := dk_167 0 203 (dk_at dksX9_statement_6 3 rfl rfl)
theorem dX9_statement_169 : decode cX9_statement 169 = .ok (.aload_n 0, 1) := dk_42 (dk_at dksX9_statement_6 6 rfl rfl)
theorem dX9_statement_170 : decode cX9_statement 170 = .ok (.bipush 7, 2) := dk_16 7 (dk_at dksX9_statement_6 7 rfl rfl)
theorem dX9_statement_172 : decode cX9_statement 172 = .ok (.invokevirtual 392, 3) := dk_182 1 136 (dk_at dksX9_statement_6 9 rfl rfl)
theorem dX9_statement_175 : decode cX9_statement 175 = .ok (.istore_n 1, 1) := dk_60 (dk_at dksX9_statement_6 12 rfl rfl)
theorem dX9_statement_176 : decode cX9_statement 176 = .ok (.aload_n 0, 1) := dk_42 (dk_at dksX9_statement_6 13 rfl rfl)
theorem dX9_statement_177 : decode cX9_statement 177 = .ok (.invokevirtual 310, 3) := dk_182 1 54 (dk_at dksX9_statement_6 14 rfl rfl)
theorem dX9_statement_180 : decode cX9_statement 180 = .ok (.aload_n 0, 1) := dk_42 (dk_at dksX9_statement_6 17 rfl rfl)
theorem dX9_statement_181 : decode cX9_statement 181 = .ok (.iload_n 1, 1) := dk_27 (dk_at dksX9_statement_6 18 rfl rfl)
theorem dX9_statement_182 : decode cX9_statement 182 = .ok (.invokevirtual 395, 3) := dk_182 1 139 (dk_at dksX9_statement_6 19 rfl rfl)
theorem dX9_statement_185 : decode cX9_statement 185 = .ok (.goto 184, 3) := dk_167 0 184 (dk_at dksX9_statement_7 0 rfl rfl)
theorem dX9_statement_188 : decode cX9_statement 188 = .ok (.aload_n 0, 1) := dk_42 (dk_at dksX9_statement_7 3 rfl rfl)
theorem dX9_statement_189 : decode cX9_statement 189 = .ok (.bipush 8, 2) := dk_16 8 (dk_at dksX9_statement_7 4 rfl rfl)
theorem dX9_statement_191 : decode cX9_statement 191 = .ok (.invokevirtual 392, 3) := dk_182 1 136 (dk_at dksX9_statement_7 6 rfl rfl)
theorem dX9_statement_194 : decode cX9_statement 194 = .ok (.istore_n 1, 1) := dk_60 (dk_at dksX9_statement_7 9 rfl rfl)
theorem dX9_statement_195 : decode cX9_statement 195 = .ok (.aload_n 0, 1) := dk_42 (dk_at dksX9_statement_7 10 rfl rfl)
theorem dX9_statement_196 : decode cX9_statement 196 = .ok (.invokevirtual 310, 3) := dk_182 1 54 (dk_at dksX9_statement_7 11 rfl rfl)
theorem dX9_statement_199 : decode cX9_statement 199 = .ok (.aload_n 0, 1) := dk_42 (dk_at dksX9_statement_7 14 rfl rfl)
theorem dX9_statement_200 : decode cX9_statement 200 = .ok (.iload_n 1, 1) := dk_27 (dk_at dksX9_statement_7 15 rfl rfl)
theorem dX9_statement_201 : decode cX9_statement 201 = .ok (.iconst 3, 1) := dk_6 (dk_at dksX9_statement_7 16 rfl rfl)
theorem dX9_statement_202 : decode cX9_statement 202 = .ok (.iconst 4, 1) := dk_7 (dk_at dksX9_statement_7 17 rfl rfl)
theorem dX9_statement_203 : decode cX9_statement 203 = .ok (.invokevirtual 389, 3) := dk_182 1 133 (dk_at dksX9_statement_7 18 rfl rfl)
theorem dX9_statement_206 : decode cX9_statement 206 = .ok (.aload_n 0, 1) := dk_42 (dk_at dksX9_statement_7 21 rfl rfl)
theorem dX9_statement_207 : decode cX9_statement 207 = .ok (.bipush 59, 2) := dk_16 59 (dk_at dksX9_statement_7 22 rfl rfl)
theorem dX9_statement_209 : decode cX9_statement 209 = .ok (.invokevirtual 385, 3) := dk_182 1 129 (dk_at dksX9_statement_8 0 rfl rfl)
theorem dX9_statement_212 : decode cX9_statement 212 = .ok (.goto 157, 3) := dk_167 0 157 (dk_at dksX9_statement_8 3 rfl rfl)
theorem dX9_statement_215 : decode cX9_statement 215 = .ok (.aload_n 0, 1) := dk_42 (dk_at dksX9_statement_8 6 rfl rfl)
theorem dX9_statement_216 : decode cX9_statement 216 = .ok (.invokevirtual 417, 3) := dk_182 1 161 (dk_at dksX9_statement_8 7 rfl rfl)
theorem dX9_statement_219 : decode cX9_statement 219 = .ok (.goto 150, 3) := dk_167 0 150 (dk_at dksX9_statement_8 10 rfl rfl)
theorem dX9_statement_222 : decode cX9_statement 222 = .ok (.aload_n 0, 1) := dk_42 (dk_at dksX9_statement_8 13 rfl rfl)
theorem dX9_statement_223 : decode cX9_statement 223 = .ok (.bipush 10, 2) := dk_16 10 (dk_at dksX9_statement_8 14 rfl rfl)
theorem dX9_statement_225 : decode cX9_statement 225 = .ok (.invokevirtual 392, 3) := dk_182 1 136 (dk_at dksX9_statement_8 16 rfl rfl)
theorem dX9_statement_228 : decode cX9_statement 228 = .ok (.istore_n 1, 1) := dk_60 (dk_at dksX9_statement_8 19 rfl rfl)
theorem dX9_statement_229 : decode cX9_statement 229 = .ok (.aload_n 0, 1) := dk_42 (dk_at dksX9_statement_8 20 rfl rfl)
theorem dX9_statement_230 : decode cX9_statement 230 = .ok (.invokevirtual 310, 3) := dk_182 1 54 (dk_at dksX9_statement_8 21 rfl rfl)
theorem dX9_statement_233 : decode cX9_statement 233 = .ok (.aload_n 0, 1) := dk_42 (dk_at dksX9_statement_9 0 rfl rfl)
theorem dX9_statement_234 : decode cX9_statement 234 = .ok (.iload_n 1, 1) := dk_27 (dk_at dksX9_statement_9 1 rfl rfl)
theorem dX9_statement_235 : decode cX9_statement 235 = .ok (.iconst 3, 1) := dk_6 (dk_at dksX9_statement_9 2 rfl rfl)
theorem dX9_statement_236 : decode cX9_statement 236 = .ok (.iconst 4, 1) := dk_7 (dk_at dksX9_statement_9 3 rfl rfl)
theorem dX9_statement_237 : decode cX9_statement 237 = .ok (.invokevirtual 389, 3) := dk_182 1 133 (dk_at dksX9_statement_9 4 rfl rfl)
theorem dX9_statement_240 : decode cX9_statement 240 = .ok (.aload_n 0, 1) := dk_42 (dk_at dksX9_statement_9 7 rfl rfl)
theorem dX9_statement_241 : decode cX9_statement 241 = .ok (.iload_n 1, 1) := dk_27 (dk_at dksX9_statement_9 8 rfl rfl)
theorem dX9_statement_242 : decode cX9_statement 242 = .ok (.bipush 7, 2) := dk_16 7 (dk_at dksX9_statement_9 9 rfl rfl)
theorem dX9_statement_244 : decode cX9_statement 244 = .ok (.aload_n 0, 1) := dk_42 (dk_at dksX9_statement_9 11 rfl rfl)
theorem dX9_statement_245 : decode cX9_statement 245 = .ok (.iconst 3, 1) := dk_6 (dk_at dksX9_statement_9 12 rfl rfl)
theorem dX9_statement_246 : decode cX9_statement 246 = .ok (.iload_n 1, 1) := dk_27 (dk_at dksX9_statement_9 13 rfl rfl)
theorem dX9_statement_247 : decode cX9_statement 247 = .ok (.invokevirtual 401, 3) := dk_182 1 145 (dk_at dksX9_statement_9 14 rfl rfl)
theorem dX9_statement_250 : decode cX9_statement 250 = .ok (.invokevirtual 376, 3) := dk_182 1 120 (dk_at dksX9_statement_9 17 rfl rfl)
theorem dX9_statement_253 : decode cX9_statement 253 = .ok (.goto 116, 3) := dk_167 0 116 (dk_at dksX9_statement_9 20 rfl rfl)
theorem dX9_statement_256 : decode cX9_statement 256 = .ok (.aload_n 0, 1) := dk_42 (dk_at dksX9_statement_9 23 rfl rfl)
theorem dX9_statement_257 : decode cX9_statement 257 = .ok (.aload_n 0, 1) := dk_42 (dk_at dksX9_statement_10 0 rfl rfl)
theorem dX9_statement_258 : decode cX9_statement 258 = .ok (.getfield 272, 3) := dk_180 1 16 (dk_at dksX9_statement_10 1 rfl rfl)
theorem dX9_statement_261 : decode cX9_statement 261 = .ok (.bipush 8, 2) := dk_16 8 (dk_at dksX9_statement_10 4 rfl rfl)
theorem dX9_statement_263 : decode cX9_statement 263 = .ok (.if_icmp .ne 8, 3) := dk_160 0 8 (dk_at dksX9_statement_10 6 rfl rfl)
theorem dX9_statement_266 : decode cX9_statement 266 = .ok (.bipush 11, 2) := dk_16 11 (dk_at dksX9_statement_10 9 rfl rfl)
theorem dX9_statement_268 : decode cX9_statement 268 = .ok (.goto 5, 3) := dk_167 0 5 (dk_at dksX9_statement_10 11 rfl rfl)
theorem dX9_statement_271 : decode cX9_statement 271 = .ok (.bipush 12, 2) := dk_16 12 (dk_at dksX9_statement_10 14 rfl rfl)
theorem dX9_statement_273 : decode cX9_statement 273 = .ok (.invokevirtual 392, 3) := dk_182 1 136 (dk_at dksX9_statement_10 16 rfl rfl)
theorem dX9_statement_276 : decode cX9_statement 276 = .ok (.istore_n 1, 1) := dk_60 (dk_at dksX9_statement_10 19 rfl rfl)
theorem dX9_statement_277 : decode cX9_statement 277 = .ok (.aload_n 0, 1) := dk_42 (dk_at dksX9_statement_10 20 rfl rfl)
theorem dX9_statement_278 : decode cX9_statement 278 = .ok (.invokevirtual 310, 3) := dk_182 1 54 (dk_at dksX9_statement_10 21 rfl rfl)
theorem dX9_statement_281 : decode cX9_statement 281 = .ok (.aload_n 0, 1) := dk_42 (dk_at dksX9_statement_11 0 rfl rfl)
theorem dX9_statement_282 : decode cX9_statement 282 = .ok (.iload_n 1, 1) := dk_27 (dk_at dksX9_statement_11 1 rfl rfl)
theorem dX9_statement_283 : decode cX9_statement 283 = .ok (.invokevirtual 420, 3) := dk_182 1 164 (dk_at dksX9_statement_11 2 rfl rfl)
theorem dX9_statement_286 : decode cX9_statement 286 = .ok (.goto 83, 3) := dk_167 0 83 (dk_at dksX9_statement_11 5 rfl rfl)
theorem dX9_statement_289 : decode cX9_statement 289 = .ok (.aload_n 0, 1) := dk_42 (dk_at dksX9_statement_11 8 rfl rfl)
theorem dX9_statement_290 : decode cX9_statement 290 = .ok (.bipush 13, 2) := dk_16 13 (dk_at dksX9_statement_11 9 rfl rfl)
theorem dX9_statement_292 : decode cX9_statement 292 = .ok (.invokevirtual 392, 3) := dk_182 1 136 (dk_at dksX9_statement_11 11 rfl rfl)
theorem dX9_statement_295 : decode cX9_statement 295 = .ok (.istore_n 1, 1) := dk_60 (dk_at dksX9_statement_11 14 rfl rfl)
theorem dX9_statement_296 : decode cX9_statement 296 = .ok (.aload_n 0, 1) := dk_42 (dk_at dksX9_statement_11 15 rfl rfl)
theorem dX9_statement_297 : decode cX9_statement 297 = .ok (.invokevirtual 310, 3) := dk_182 1 54 (dk_at dksX9_statement_11 16 rfl rfl)
theorem dX9_statement_300 : decode cX9_statement 300 = .ok (.aload_n 0, 1) := dk_42 (dk_at dksX9_statement_11 19 rfl rfl)
theorem dX9_statement_301 : decode cX9_statement 301 = .ok (.iload_n 1, 1) := dk_27 (dk_at dksX9_statement_11 20 rfl rfl)
theorem dX9_statement_302 : decode cX9_statement 302 = .ok (.iconst 1, 1) := dk_4 (dk_at dksX9_statement_11 21 rfl rfl)
theorem dX9_statement_303 : decode cX9_statement 303 = .ok (.aload_n 0, 1) := dk_42 (dk_at dksX9_statement_11 22 rfl rfl)
theorem dX9_statement_304 : decode cX9_statement 304 = .ok (.iconst 1, 1) := dk_4 (dk_at dksX9_statement_11 23 rfl rfl)
theorem dX9_statement_305 : decode cX9_statement 305 = .ok (.invokevirtual 405, 3) := dk_182 1 149 (dk_at dksX9_statement_12 0 rfl rfl)
theorem dX9_statement_308 : decode cX9_statement 308 = .ok (.invokevirtual 376, 3) := dk_182 1 120 (dk_at dksX9_statement_12 3 rfl rfl)
theorem dX9_statement_311 : decode cX9_statement 311 = .ok (.aload_n 0, 1) := dk_42 (dk_at dksX9_statement_12 6 rfl rfl)
theorem dX9_statement_312 : decode cX9_statement 312 = .ok (.bipush 59, 2) := dk_16 59 (dk_at dksX9_statement_12 7 rfl rfl)
theorem dX9_statement_314 : decode cX9_statement 314 = .ok (.invokevirtual 385, 3) := dk_182 1 129 (dk_at dksX9_statement_12 9 rfl rfl)
theorem dX9_statement_317 : decode cX9_statement 317 = .ok (.goto 52, 3) := dk_167 0 52 (dk_at dksX9_statement_12 12 rfl rfl)
theorem dX9_statement_320 : decode cX9_statement 320 = .ok (.aload_n 0, 1) := dk_42 (dk_at dksX9_statement_12 15 rfl rfl)
theorem dX9_statement_321 : decode cX9_statement 321 = .ok (.bipush 14, 2) := dk_16 14 (dk_at dksX9_statement_12 16 rfl rfl)
theorem dX9_statement_323 : decode cX9_statement 323 = .ok (.invokevirtual 423, 3) := dk_182 1 167 (dk_at dksX9_statement_12 18 rfl rfl)
theorem dX9_statement_326 : decode cX9_statement 326 = .ok (.goto 43, 3) := dk_167 0 43 (dk_at dksX9_statement_12 21 rfl rfl)
theorem dX9_statement_329 : decode cX9_statement 329 = .ok (.aload_n 0, 1) := dk_42 (dk_at dksX9_statement_13 0 rfl rfl)
theorem dX9_statement_330 : decode cX9_statement 330 = .ok (.bipush 15, 2) := dk_16 15 (dk_at dksX9_statement_13 1 rfl rfl)
theorem dX9_statement_332 : decode cX9_statement 332 = .ok (.invokevirtual 423, 3) := dk_182 1 167 (dk_at dksX9_statement_13 3 rfl rfl)
theorem dX9_statement_335 : decode cX9_statement 335 = .ok (.goto 34, 3) := dk_167 0 34 (dk_at dksX9_statement_13 6 rfl rfl)
theorem dX9_statement_338 : decode cX9_statement 338 = .ok (.aload_n 0, 1) := dk_42 (dk_at dksX9_statement_13 9 rfl rfl)
theorem dX9_statement_339 : decode cX9_statement 339 = .ok (.bipush 16, 2) := dk_16 16 (dk_at dksX9_statement_13 10 rfl rfl)
theorem dX9_statement_341 : decode cX9_statement 341 = .ok (.invokevirtual 392, 3) := dk_182 1 136 (dk_at dksX9_statement_13 12 rfl rfl)
theorem dX9_statement_344 : decode cX9_statement 344 = .ok (.istore_n 1, 1) := dk_60 (dk_at dksX9_statement_13 15 rfl rfl)
theorem dX9_statement_345 : decode cX9_statement 345 = .ok (.aload_n 0, 1) := dk_42 (dk_at dksX9_statement_13 16 rfl rfl)
theorem dX9_statement_346 : decode cX9_statement 346 = .ok (.invokevirtual 310, 3) := dk_182 1 54 (dk_at dksX9_statement_13 17 rfl rfl)
theorem dX9_statement_349 : decode cX9_statement 349 = .ok (.aload_n 0, 1) := dk_42 (dk_at dksX9_statement_13 20 rfl rfl)
theorem dX9_statement_350 : decode cX9_statement 350 = .ok (.iload_n 1, 1) := dk_27 (dk_at dksX9_statement_13 21 rfl rfl)
theorem dX9_statement_351 : decode cX9_statement 351 = .ok (.bipush 7, 2) := dk_16 7 (dk_at dksX9_statement_13 22 rfl rfl)
theorem dX9_statement_353 : decode cX9_statement 353 = .ok (.aload_n 0, 1) := dk_42 (dk_at dksX9_statement_14 0 rfl rfl)
theorem dX9_statement_354 : decode cX9_statement 354 = .ok (.iconst 4, 1) := dk_7 (dk_at dksX9_statement_14 1 rfl rfl)
theorem dX9_statement_355 : decode cX9_statement 355 = .ok (.iload_n 1, 1) := dk_27 (dk_at dksX9_statement_14 2 rfl rfl)
theorem dX9_statement_356 : decode cX9_statement 356 = .ok (.invokevirtual 401, 3) := dk_182 1 145 (dk_at dksX9_statement_14 3 rfl rfl)
theorem dX9_statement_359 : decode cX9_statement 359 = .ok (.invokevirtual 376, 3) := dk_182 1 120 (dk_at dksX9_statement_14 6 rfl rfl)
theorem dX9_statement_362 : decode cX9_statement 362 = .ok (.goto 7, 3) := dk_167 0 7 (dk_at dksX9_statement_14 9 rfl rfl)
theorem dX9_statement_365 : decode cX9_statement 365 = .ok (.aload_n 0, 1) := dk_42 (dk_at dksX9_statement_14 12 rfl rfl)
theorem dX9_statement_366 : decode cX9_statement 366 = .ok (.invokevirtual 426, 3) := dk_182 1 170 (dk_at dksX9_statement_14 13 rfl rfl)
theorem dX9_statement_369 : decode cX9_statement 369 = .ok (.return_, 1) := dk_177 (dk_at dksX9_statement_14 16 rfl rfl)
theorem okX9_statement_0 : XOkL xms rX9_statement bX9_statement_0 := xcP (xok_aload_n dX9_statement_0 rfl) rfl (xcC0 (xokc_list (List.forall_mem_cons.mpr ⟨xokc_V (r := (RX9, TX9, 96)) xm123 (List.mem_of_getElem? (i := 9) rfl) (by decide) rfl dX9_statement_1 q2321 q2323 qs73 q149 q2324 (by decide +kernel), fun _ h => nomatch h⟩)) rfl (xcP (xok_ifne dX9_statement_4 (by decide)) rfl (xcP (xok_aload_n dX9_statement_7 rfl) rfl (xcC0 (xokc_list (List.forall_mem_cons.mpr ⟨xokc_V (r := (RX9, TX9, 96)) xm112 (List.mem_of_getElem? (i := 9) rfl) (by decide) rfl dX9_statement_8 q2277 q2279 qs62 q149 q2280 (by decide +kernel), fun _ h => nomatch h⟩)) rfl (xcR ⟨dX9_statement_11, rfl⟩)))))
theorem okX9_statement_12 : XOkL xms rX9_statement bX9_statement_12 := xcP (xok_aload_n dX9_statement_12 rfl) rfl (xcP (xok_getfield (ref := "WaysAtlasModel") (Or.inr ⟨rfl, by decide⟩) dX9_statement_13 (Or.inl ⟨q1941, (Or.inl rfl)⟩) xh1060) rfl (xcP (xok_aload_n dX9_statement_16 rfl) rfl (xcP (xok_getfield (ref := "WaysAtlasModel") (Or.inl ⟨rfl, by decide⟩) dX9_statement_17 (Or.inl ⟨q1938, (Or.inl rfl)⟩) xh45) rfl (xcP (xok_iaload dX9_statement_20) rfl (xcP (xok_bipush dX9_statement_21 rfl) rfl (xcP (xok_icmpne dX9_statement_23 (by decide)) rfl (xcP (xok_aload_n dX9_statement_26 rfl) rfl (xcP (xok_iconst dX9_statement_27 rfl) rfl (xcP (xok_aload_n dX9_statement_28 rfl) rfl (xcP (xok_getfield (ref := "WaysAtlasModel") (Or.inl ⟨rfl, by decide⟩) dX9_statement_29 (Or.inl ⟨q1934, (Or.inl rfl)⟩) xh41) rfl (xcC0 (xokc_list (List.forall_mem_cons.mpr ⟨xokc_V (r := (RX9, TX9, 96)) xm111 (List.mem_of_getElem? (i := 9) rfl) (by decide) rfl dX9_statement_32 q2273 q2275 qs61 q149 q2276 (by decide +kernel), fun _ h => nomatch h⟩)) rfl (xcR ⟨dX9_statement_35, rfl⟩))))))))))))
theorem okX9_statement_36 : XOkL xms rX9_statement bX9_statement_36 := xcP (xok_aload_n dX9_statement_36 rfl) rfl (xcP (xok_getfield (ref := "WaysAtlasModel") (Or.inl ⟨rfl, by decide⟩) dX9_statement_37 (Or.inl ⟨q1933, (Or.inl rfl)⟩) xh40) rfl (xcP (xok_iconst dX9_statement_40 rfl) rfl (xcP (xok_icmpne dX9_statement_41 (by decide)) rfl (xcP (xok_aload_n dX9_statement_44 rfl) rfl (xcP (xok_getfield (ref := "WaysAtlasModel") (Or.inl ⟨rfl, by decide⟩) dX9_statement_45 (Or.inl ⟨q1935, (Or.inl rfl)⟩) xh42) rfl (xcP (xok_bipush dX9_statement_48 rfl) rfl (xcP (xok_icmpne dX9_statement_50 (by decide)) rfl (xcP (xok_aload_n dX9_statement_53 rfl) rfl (xcC0 (xokc_list (List.forall_mem_cons.mpr ⟨xokc_V (r := (RX9, TX9, 96)) xm124 (List.mem_of_getElem? (i := 9) rfl) (by decide) rfl dX9_statement_54 q2325 q2327 qs74 q149 q2328 (by decide +kernel), fun _ h => nomatch h⟩)) rfl (xcP (xok_goto dX9_statement_57 (by decide)) rfl trivial))))))))))
theorem okX9_statement_60 : XOkL xms rX9_statement bX9_statement_60 := xcP (xok_aload_n dX9_statement_60 rfl) rfl (xcC0 (xokc_list (List.forall_mem_cons.mpr ⟨xokc_V (r := (RX9, TX9, 96)) xm141 (List.mem_of_getElem? (i := 9) rfl) (by decide) rfl dX9_statement_61 q2393 q2395 qs91 q149 q2396 (by decide +kernel), fun _ h => nomatch h⟩)) rfl (xcP xok_fal rfl trivial))
theorem okX9_statement_64 : XOkL xms rX9_statement bX9_statement_64 := xcR ⟨dX9_statement_64, rfl⟩
theorem okX9_statement_65 : XOkL xms rX9_statement bX9_statement_65 := xcP (xok_iconst dX9_statement_65 rfl) rfl (xcP (xok_istore_n dX9_statement_66 rfl) rfl (xcP (xok_aload_n dX9_statement_67 rfl) rfl (xcP (xok_getfield (ref := "WaysAtlasModel") (Or.inl ⟨rfl, by decide⟩) dX9_statement_68 (Or.inl ⟨q1935, (Or.inl rfl)⟩) xh42) rfl (xcP (xok_tsw dX9_statement_71 (by decide) (by decide) (by decide)) rfl trivial))))
theorem okX9_statement_140 : XOkL xms rX9_statement bX9_statement_140 := xcP (xok_aload_n dX9_statement_140 rfl) rfl (xcP (xok_iconst dX9_statement_141 rfl) rfl (xcC0 (xokc_list (List.forall_mem_cons.mpr ⟨xokc_V (r := (RX9, TX9, 96)) xm125 (List.mem_of_getElem? (i := 9) rfl) (by decide) rfl dX9_statement_142 q2329 q2331 qs75 q149 q2332 (by decide +kernel), fun _ h => nomatch h⟩)) rfl (xcP (xok_istore_n dX9_statement_145 rfl) rfl (xcP (xok_aload_n dX9_statement_146 rfl) rfl (xcC0 (xokc_list (List.forall_mem_cons.mpr ⟨xokc_V (r := (RX9, TX9, 96)) xm102 (List.mem_of_getElem? (i := 9) rfl) (by decide) rfl dX9_statement_147 q2235 q2237 qs53 q149 q2238 (by decide +kernel), fun _ h => nomatch h⟩)) rfl (xcP (xok_aload_n dX9_statement_150 rfl) rfl (xcP (xok_iload_n dX9_statement_151 rfl) rfl (xcP (xok_iconst dX9_statement_152 rfl) rfl (xcP (xok_aload_n dX9_statement_153 rfl) rfl (xcC0 (xokc_list (List.forall_mem_cons.mpr ⟨xokc_V (r := (RX9, TX9, 96)) xm133 (List.mem_of_getElem? (i := 9) rfl) (by decide) rfl dX9_statement_154 q2361 q2363 qs83 q149 q2364 (by decide +kernel), fun _ h => nomatch h⟩)) rfl (xcC0 (xokc_list (List.forall_mem_cons.mpr ⟨xokc_V (r := (RX9, TX9, 96)) xm120 (List.mem_of_getElem? (i := 9) rfl) (by decide) rfl dX9_statement_157 q2309 q2311 qs70 q149 q2312 (by decide +kernel), fun _ h => nomatch h⟩)) rfl (xcP (xok_aload_n dX9_statement_160 rfl) rfl (xcP (xok_bipush dX9_statement_161 rfl) rfl (xcC0 (xokc_list (List.forall_mem_cons.mpr ⟨xokc_V (r := (RX9, TX9, 96)) xm116 (List.mem_of_getElem? (i := 9) rfl) (by decide) rfl dX9_statement_163 q2293 q2295 qs66 q149 q2296 (by decide +kernel), fun _ h => nomatch h⟩)) rfl (xcP (xok_goto dX9_statement_166 (by decide)) rfl trivial)))))))))))))))
theorem okX9_statement_169 : XOkL xms rX9_statement bX9_statement_169 := xcP (xok_aload_n dX9_statement_169 rfl) rfl (xcP (xok_bipush dX9_statement_170 rfl) rfl (xcC0 (xokc_list (List.forall_mem_cons.mpr ⟨xokc_V (r := (RX9, TX9, 96)) xm125 (List.mem_of_getElem? (i := 9) rfl) (by decide) rfl dX9_statement_172 q2329 q2331 qs75 q149 q2332 (by decide +kernel), fun _ h => nomatch h⟩)) rfl (xcP (xok_istore_n dX9_statement_175 rfl) rfl (xcP (xok_aload_n dX9_statement_176 rfl) rfl (xcC0 (xokc_list (List.forall_mem_cons.mpr ⟨xokc_V (r := (RX9, TX9, 96)) xm102 (List.mem_of_getElem? (i := 9) rfl) (by decide) rfl dX9_statement_177 q2235 q2237 qs53 q149 q2238 (by decide +kernel), fun _ h => nomatch h⟩)) rfl (xcP (xok_aload_n dX9_statement_180 rfl) rfl (xcP (xok_iload_n dX9_statement_181 rfl) rfl (xcC0 (xokc_list (List.forall_mem_cons.mpr ⟨xokc_V (r := (RX9, TX9, 96)) xm126 (List.mem_of_getElem? (i := 9) rfl) (by decide) rfl dX9_statement_182 q2333 q2335 qs76 q149 q2336 (by decide +kernel), fun _ h => nomatch h⟩)) rfl (xcP (xok_goto dX9_statement_185 (by decide)) rfl trivial)))))))))
theorem okX9_statement_188 : XOkL xms rX9_statement bX9_statement_188 := xcP (xok_aload_n dX9_statement_188 rfl) rfl (xcP (xok_bipush dX9_statement_189 rfl) rfl (xcC0 (xokc_list (List.forall_mem_cons.mpr ⟨xokc_V (r := (RX9, TX9, 96)) xm125 (List.mem_of_getElem? (i := 9) rfl) (by decide) rfl dX9_statement_191 q2329 q2331 qs75 q149 q2332 (by decide +kernel), fun _ h => nomatch h⟩)) rfl (xcP (xok_istore_n dX9_statement_194 rfl) rfl (xcP (xok_aload_n dX9_statement_195 rfl) rfl (xcC0 (xokc_list (List.forall_mem_cons.mpr ⟨xokc_V (r := (RX9, TX9, 96)) xm102 (List.mem_of_getElem? (i := 9) rfl) (by decide) rfl dX9_statement_196 q2235 q2237 qs53 q149 q2238 (by decide +kernel), fun _ h => nomatch h⟩)) rfl (xcP (xok_aload_n dX9_statement_199 rfl) rfl (xcP (xok_iload_n dX9_statement_200 rfl) rfl (xcP (xok_iconst dX9_statement_201 rfl) rfl (xcP (xok_iconst dX9_statement_202 rfl) rfl (xcC0 (xokc_list (List.forall_mem_cons.mpr ⟨xokc_V (r := (RX9, TX9, 96)) xm128 (List.mem_of_getElem? (i := 9) rfl) (by decide) rfl dX9_statement_203 q2341 q2343 qs78 q149 q2344 (by decide +kernel), fun _ h => nomatch h⟩)) rfl (xcP (xok_aload_n dX9_statement_206 rfl) rfl (xcP (xok_bipush dX9_statement_207 rfl) rfl (xcC0 (xokc_list (List.forall_mem_cons.mpr ⟨xokc_V (r := (RX9, TX9, 96)) xm116 (List.mem_of_getElem? (i := 9) rfl) (by decide) rfl dX9_statement_209 q2293 q2295 qs66 q149 q2296 (by decide +kernel), fun _ h => nomatch h⟩)) rfl (xcP (xok_goto dX9_statement_212 (by decide)) rfl trivial))))))))))))))
theorem okX9_statement_215 : XOkL xms rX9_statement bX9_statement_215 := xcP (xok_aload_n dX9_statement_215 rfl) rfl (xcC0 (xokc_list (List.forall_mem_cons.mpr ⟨xokc_V (r := (RX9, TX9, 96)) xm142 (List.mem_of_getElem? (i := 9) rfl) (by decide) rfl dX9_statement_216 q2397 q2399 qs92 q149 q2400 (by decide +kernel), fun _ h => nomatch h⟩)) rfl (xcP (xok_goto dX9_statement_219 (by decide)) rfl trivial))
theorem okX9_statement_222 : XOkL xms rX9_statement bX9_statement_222 := xcP (xok_aload_n dX9_statement_222 rfl) rfl (xcP (xok_bipush dX9_statement_223 rfl) rfl (xcC0 (xokc_list (List.forall_mem_cons.mpr ⟨xokc_V (r := (RX9, TX9, 96)) xm125 (List.mem_of_getElem? (i := 9) rfl) (by decide) rfl dX9_statement_225 q2329 q2331 qs75 q149 q2332 (by decide +kernel), fun _ h => nomatch h⟩)) rfl (xcP (xok_istore_n dX9_statement_228 rfl) rfl (xcP (xok_aload_n dX9_statement_229 rfl) rfl (xcC0 (xokc_list (List.forall_mem_cons.mpr ⟨xokc_V (r := (RX9, TX9, 96)) xm102 (List.mem_of_getElem? (i := 9) rfl) (by decide) rfl dX9_statement_230 q2235 q2237 qs53 q149 q2238 (by decide +kernel), fun _ h => nomatch h⟩)) rfl (xcP (xok_aload_n dX9_statement_233 rfl) rfl (xcP (xok_iload_n dX9_statement_234 rfl) rfl (xcP (xok_iconst dX9_statement_235 rfl) rfl (xcP (xok_iconst dX9_statement_236 rfl) rfl (xcC0 (xokc_list (List.forall_mem_cons.mpr ⟨xokc_V (r := (RX9, TX9, 96)) xm128 (List.mem_of_getElem? (i := 9) rfl) (by decide) rfl dX9_statement_237 q2341 q2343 qs78 q149 q2344 (by decide +kernel), fun _ h => nomatch h⟩)) rfl (xcP (xok_aload_n dX9_statement_240 rfl) rfl (xcP (xok_iload_n dX9_statement_241 rfl) rfl (xcP (xok_bipush dX9_statement_242 rfl) rfl (xcP (xok_aload_n dX9_statement_244 rfl) rfl (xcP (xok_iconst dX9_statement_245 rfl) rfl (xcP (xok_iload_n dX9_statement_246 rfl) rfl (xcC0 (xokc_list (List.forall_mem_cons.mpr ⟨xokc_V (r := (RX9, TX9, 96)) xm118 (List.mem_of_getElem? (i := 9) rfl) (by decide) rfl dX9_statement_247 q2301 q2303 qs68 q149 q2304 (by decide +kernel), fun _ h => nomatch h⟩)) rfl (xcC0 (xokc_list (List.forall_mem_cons.mpr ⟨xokc_V (r := (RX9, TX9, 96)) xm120 (List.mem_of_getElem? (i := 9) rfl) (by decide) rfl dX9_statement_250 q2309 q2311 qs70 q149 q2312 (by decide +kernel), fun _ h => nomatch h⟩)) rfl (xcP (xok_goto dX9_statement_253 (by decide)) rfl trivial)))))))))))))))))))
theorem okX9_statement_256 : XOkL xms rX9_statement bX9_statement_256 := xcP (xok_aload_n dX9_statement_256 rfl) rfl (xcP (xok_aload_n dX9_statement_257 rfl) rfl (xcP (xok_getfield (ref := "WaysAtlasModel") (Or.inl ⟨rfl, by decide⟩) dX9_statement_258 (Or.inl ⟨q1935, (Or.inl rfl)⟩) xh42) rfl (xcP (xok_bipush dX9_statement_261 rfl) rfl (xcP (xok_icmpne dX9_statement_263 (by decide)) rfl (xcP (xok_bipush dX9_statement_266 rfl) rfl (xcP (xok_goto dX9_statement_268 (by decide)) rfl trivial))))))
theorem okX9_statement_271 : XOkL xms rX9_statement bX9_statement_271 := xcP (xok_bipush dX9_statement_271 rfl) rfl (xcP xok_fal rfl trivial)
theorem okX9_statement_273 : XOkL xms rX9_statement bX9_statement_273 := xcC0 (xokc_list (List.forall_mem_cons.mpr ⟨xokc_V (r := (RX9, TX9, 96)) xm125 (List.mem_of_getElem? (i := 9) rfl) (by decide) rfl dX9_statement_273 q2329 q2331 qs75 q149 q2332 (by decide +kernel), fun _ h => nomatch h⟩)) rfl (xcP (xok_istore_n dX9_statement_276 rfl) rfl (xcP (xok_aload_n dX9_statement_277 rfl) rfl (xcC0 (xokc_list (List.forall_mem_cons.mpr ⟨xokc_V (r := (RX9, TX9, 96)) xm102 (List.mem_of_getElem? (i := 9) rfl) (by decide) rfl dX9_statement_278 q2235 q2237 qs53 q149 q2238 (by decide +kernel), fun _ h => nomatch h⟩)) rfl (xcP (xok_aload_n dX9_statement_281 rfl) rfl (xcP (xok_iload_n dX9_statement_282 rfl) rfl (xcC0 (xokc_list (List.forall_mem_cons.mpr ⟨xokc_V (r := (RX9, TX9, 96)) xm143 (List.mem_of_getElem? (i := 9) rfl) (by decide) rfl dX9_statement_283 q2401 q2403 qs93 q149 q2404 (by decide +kernel), fun _ h => nomatch h⟩)) rfl (xcP (xok_goto dX9_statement_286 (by decide)) rfl trivial)))))))
theorem okX9_statement_289 : XOkL xms rX9_statement bX9_statement_289 := xcP (xok_aload_n dX9_statement_289 rfl) rfl (xcP (xok_bipush dX9_statement_290 rfl) rfl (xcC0 (xokc_list (List.forall_mem_cons.mpr ⟨xokc_V (r := (RX9, TX9, 96)) xm125 (List.mem_of_getElem? (i := 9) rfl) (by decide) rfl dX9_statement_292 q2329 q2331 qs75 q149 q2332 (by decide +kernel), fun _ h => nomatch h⟩)) rfl (xcP (xok_istore_n dX9_statement_295 rfl) rfl (xcP (xok_aload_n dX9_statement_296 rfl) rfl (xcC0 (xokc_list (List.forall_mem_cons.mpr ⟨xokc_V (r := (RX9, TX9, 96)) xm102 (List.mem_of_getElem? (i := 9) rfl) (by decide) rfl dX9_statement_297 q2235 q2237 qs53 q149 q2238 (by decide +kernel), fun _ h => nomatch h⟩)) rfl (xcP (xok_aload_n dX9_statement_300 rfl) rfl (xcP (xok_iload_n dX9_statement_301 rfl) rfl (xcP (xok_iconst dX9_statement_302 rfl) rfl (xcP (xok_aload_n dX9_statement_303 rfl) rfl (xcP (xok_iconst dX9_statement_304 rfl) rfl (xcC0 (xokc_list (List.forall_mem_cons.mpr ⟨xokc_V (r := (RX9, TX9, 96)) xm113 (List.mem_of_getElem? (i := 9) rfl) (by decide) rfl dX9_statement_305 q2281 q2283 qs63 q149 q2284 (by decide +kernel), fun _ h => nomatch h⟩)) rfl (xcC0 (xokc_list (List.forall_mem_cons.mpr ⟨xokc_V (r := (RX9, TX9, 96)) xm120 (List.mem_of_getElem? (i := 9) rfl) (by decide) rfl dX9_statement_308 q2309 q2311 qs70 q149 q2312 (by decide +kernel), fun _ h => nomatch h⟩)) rfl (xcP (xok_aload_n dX9_statement_311 rfl) rfl (xcP (xok_bipush dX9_statement_312 rfl) rfl (xcC0 (xokc_list (List.forall_mem_cons.mpr ⟨xokc_V (r := (RX9, TX9, 96)) xm116 (List.mem_of_getElem? (i := 9) rfl) (by decide) rfl dX9_statement_314 q2293 q2295 qs66 q149 q2296 (by decide +kernel), fun _ h => nomatch h⟩)) rfl (xcP (xok_goto dX9_statement_317 (by decide)) rfl trivial))))))))))))))))
theorem okX9_statement_320 : XOkL xms rX9_statement bX9_statement_320 := xcP (xok_aload_n dX9_statement_320 rfl) rfl (xcP (xok_bipush dX9_statement_321 rfl) rfl (xcC0 (xokc_list (List.forall_mem_cons.mpr ⟨xokc_V (r := (RX9, TX9, 96)) xm145 (List.mem_of_getElem? (i := 9) rfl) (by decide) rfl dX9_statement_323 q2409 q2411 qs95 q149 q2412 (by decide +kernel), fun _ h => nomatch h⟩)) rfl (xcP (xok_goto dX9_statement_326 (by decide)) rfl trivial)))
theorem okX9_statement_329 : XOkL xms rX9_statement bX9_statement_329 := xcP (xok_aload_n dX9_statement_329 rfl) rfl (xcP (xok_bipush dX9_statement_330 rfl) rfl (xcC0 (xokc_list (List.forall_mem_cons.mpr ⟨xokc_V (r := (RX9, TX9, 96)) xm145 (List.mem_of_getElem? (i := 9) rfl) (by decide) rfl dX9_statement_332 q2409 q2411 qs95 q149 q2412 (by decide +kernel), fun _ h => nomatch h⟩)) rfl (xcP (xok_goto dX9_statement_335 (by decide)) rfl trivial)))
theorem okX9_statement_338 : XOkL xms rX9_statement bX9_statement_338 := xcP (xok_aload_n dX9_statement_338 rfl) rfl (xcP (xok_bipush dX9_statement_339 rfl) rfl (xcC0 (xokc_list (List.forall_mem_cons.mpr ⟨xokc_V (r := (RX9, TX9, 96)) xm125 (List.mem_of_getElem? (i := 9) rfl) (by decide) rfl dX9_statement_341 q2329 q2331 qs75 q149 q2332 (by decide +kernel), fun _ h => nomatch h⟩)) rfl (xcP (xok_istore_n dX9_statement_344 rfl) rfl (xcP (xok_aload_n dX9_statement_345 rfl) rfl (xcC0 (xokc_list (List.forall_mem_cons.mpr ⟨xokc_V (r := (RX9, TX9, 96)) xm102 (List.mem_of_getElem? (i := 9) rfl) (by decide) rfl dX9_statement_346 q2235 q2237 qs53 q149 q2238 (by decide +kernel), fun _ h => nomatch h⟩)) rfl (xcP (xok_aload_n dX9_statement_349 rfl) rfl (xcP (xok_iload_n dX9_statement_350 rfl) rfl (xcP (xok_bipush dX9_statement_351 rfl) rfl (xcP (xok_aload_n dX9_statement_353 rfl) rfl (xcP (xok_iconst dX9_statement_354 rfl) rfl (xcP (xok_iload_n dX9_statement_355 rfl) rfl (xcC0 (xokc_list (List.forall_mem_cons.mpr ⟨xokc_V (r := (RX9, TX9, 96)) xm118 (List.mem_of_getElem? (i := 9) rfl) (by decide) rfl dX9_statement_356 q2301 q2303 qs68 q149 q2304 (by decide +kernel), fun _ h => nomatch h⟩)) rfl (xcC0 (xokc_list (List.forall_mem_cons.mpr ⟨xokc_V (r := (RX9, TX9, 96)) xm120 (List.mem_of_getElem? (i := 9) rfl) (by decide) rfl dX9_statement_359 q2309 q2311 qs70 q149 q2312 (by decide +kernel), fun _ h => nomatch h⟩)) rfl (xcP (xok_goto dX9_statement_362 (by decide)) rfl trivial))))))))))))))
theorem okX9_statement_365 : XOkL xms rX9_statement bX9_statement_365 := xcP (xok_aload_n dX9_statement_365 rfl) rfl (xcC0 (xokc_list (List.forall_mem_cons.mpr ⟨xokc_V (r := (RX9, TX9, 96)) xm146 (List.mem_of_getElem? (i := 9) rfl) (by decide) rfl dX9_statement_366 q2413 q2415 qs96 q149 q2416 (by decide +kernel), fun _ h => nomatch h⟩)) rfl (xcP xok_fal rfl trivial))
theorem okX9_statement_369 : XOkL xms rX9_statement bX9_statement_369 := xcR ⟨dX9_statement_369, rfl⟩
theorem okM_X9_statement : XOkM xms rX9_statement := xokM0 (List.forall_mem_cons.mpr ⟨⟨rfl, okX9_statement_0⟩, List.forall_mem_cons.mpr ⟨⟨rfl, okX9_statement_12⟩, List.forall_mem_cons.mpr ⟨⟨rfl, okX9_statement_36⟩, List.forall_mem_cons.mpr ⟨⟨rfl, okX9_statement_60⟩, List.forall_mem_cons.mpr ⟨⟨rfl, okX9_statement_64⟩, List.forall_mem_cons.mpr ⟨⟨rfl, okX9_statement_65⟩, List.forall_mem_cons.mpr ⟨⟨rfl, okX9_statement_140⟩, List.forall_mem_cons.mpr ⟨⟨rfl, okX9_statement_169⟩, List.forall_mem_cons.mpr ⟨⟨rfl, okX9_statement_188⟩, List.forall_mem_cons.mpr ⟨⟨rfl, okX9_statement_215⟩, List.forall_mem_cons.mpr ⟨⟨rfl, okX9_statement_222⟩, List.forall_mem_cons.mpr ⟨⟨rfl, okX9_statement_256⟩, List.forall_mem_cons.mpr ⟨⟨rfl, okX9_statement_271⟩, List.forall_mem_cons.mpr ⟨⟨rfl, okX9_statement_273⟩, List.forall_mem_cons.mpr ⟨⟨rfl, okX9_statement_289⟩, List.forall_mem_cons.mpr ⟨⟨rfl, okX9_statement_320⟩, List.forall_mem_cons.mpr ⟨⟨rfl, okX9_statement_329⟩, List.forall_mem_cons.mpr ⟨⟨rfl, okX9_statement_338⟩, List.forall_mem_cons.mpr ⟨⟨rfl, okX9_statement_365⟩, List.forall_mem_cons.mpr ⟨⟨rfl, okX9_statement_369⟩, fun _ h => nomatch h⟩⟩⟩⟩⟩⟩⟩⟩⟩⟩⟩⟩⟩⟩⟩⟩⟩⟩⟩⟩) (xokH0 rfl (fun _ _ => rfl)) (by decide +kernel) (by decide)
abbrev cX9_canBegin : ByteArray := prog_36_method_46_code
def dkwX9_canBegin_3 : List UInt8 := [16, 7, 16, 14, 184, 0, 239, 153, 0, 7, 4, 167, 0, 4, 3, 172]
abbrev dktX9_canBegin_3 : List UInt8 := dkwX9_canBegin_3 ++ []
def dkwX9_canBegin_2 : List UInt8 := [42, 180, 1, 16, 4, 159, 0, 29, 42, 180, 1, 16, 7, 8, 184, 0, 239, 154, 0, 17, 42, 180, 1, 16]
abbrev dktX9_canBegin_2 : List UInt8 := dkwX9_canBegin_2 ++ dktX9_canBegin_3
def dkwX9_canBegin_1 : List UInt8 := [160, 0, 7, 4, 167, 0, 4, 3, 172, 42, 180, 1, 13, 5, 160, 0, 48, 42, 180, 1, 16, 153, 0, 37]
abbrev dktX9_canBegin_1 : List UInt8 := dkwX9_canBegin_1 ++ dktX9_canBegin_2
def dkwX9_canBegin_0 : List UInt8 := [42, 180, 1, 13, 6, 160, 0, 27, 42, 180, 1, 16, 16, 118, 159, 0, 12, 42, 180, 1, 16, 16, 114]
abbrev dktX9_canBegin_0 : List UInt8 := dkwX9_canBegin_0 ++ dktX9_canBegin_1
theorem dksX9_canBegin_0 : cX9_canBegin.data.toList.drop 0 = dktX9_canBegin_0 := by decide +kernel
theorem dksX9_canBegin_1 : cX9_canBegin.data.toList.drop 23 = dktX9_canBegin_1 := dk_seg dksX9_canBegin_0 23 rfl rfl
theorem dksX9_canBegin_2 : cX9_canBegin.data.toList.drop 47 = dktX9_canBegin_2 := dk_seg dksX9_canBegin_1 24 rfl rfl
theorem dksX9_canBegin_3 : cX9_canBegin.data.toList.drop 71 = dktX9_canBegin_3 := dk_seg dksX9_canBegin_2 24 rfl rfl
theorem dX9_canBegin_0 : decode cX9_canBegin 0 = .ok (.aload_n 0, 1) := dk_42 (dk_at dksX9_canBegin_0 0 rfl rfl)
theorem dX9_canBegin_1 : decode cX9_canBegin 1 = .ok (.getfield 269, 3) := dk_180 1 13 (dk_at dksX9_canBegin_0 1 rfl rfl)
theorem dX9_canBegin_4 : decode cX9_canBegin 4 = .ok (.iconst 3, 1) := dk_6 (dk_at dksX9_canBegin_0 4 rfl rfl)
theorem dX9_canBegin_5 : decode cX9_canBegin 5 = .ok (.if_icmp .ne 27, 3) := dk_160 0 27 (dk_at dksX9_canBegin_0 5 rfl rfl)
theorem dX9_canBegin_8 : decode cX9_canBegin 8 = .ok (.aload_n 0, 1) := dk_42 (dk_at dksX9_canBegin_0 8 rfl rfl)
theorem dX9_canBegin_9 : decode cX9_canBegin 9 = .ok (.getfield 272, 3) := dk_180 1 16 (dk_at dksX9_canBegin_0 9 rfl rfl)
theorem dX9_canBegin_12 : decode cX9_canBegin 12 = .ok (.bipush 118, 2) := dk_16 118 (dk_at dksX9_canBegin_0 12 rfl rfl)
theorem dX9_canBegin_14 : decode cX9_canBegin 14 = .ok (.if_icmp .eq 12, 3) := dk_159 0 12 (dk_at dksX9_canBegin_0 14 rfl rfl)
theorem dX9_canBegin_17 : decode cX9_canBegin 17 = .ok (.aload_n 0, 1) := dk_42 (dk_at dksX9_canBegin_0 17 rfl rfl)
theorem dX9_canBegin_18 : decode cX9_canBegin 18 = .ok (.getfield 272, 3) := dk_180 1 16 (dk_at dksX9_canBegin_0 18 rfl rfl)
theorem dX9_canBegin_21 : decode cX9_canBegin 21 = .ok (.bipush 114, 2) := dk_16 114 (dk_at dksX9_canBegin_0 21 rfl rfl)
theorem dX9_canBegin_23 : decode cX9_canBegin 23 = .ok (.if_icmp .ne 7, 3) := dk_160 0 7 (dk_at dksX9_canBegin_1 0 rfl rfl)
theorem dX9_canBegin_26 : decode cX9_canBegin 26 = .ok (.iconst 1, 1) := dk_4 (dk_at dksX9_canBegin_1 3 rfl rfl)
theorem dX9_canBegin_27 : decode cX9_canBegin 27 = .ok (.goto 4, 3) := dk_167 0 4 (dk_at dksX9_canBegin_1 4 rfl rfl)
theorem dX9_canBegin_30 : decode cX9_canBegin 30 = .ok (.iconst 0, 1) := dk_3 (dk_at dksX9_canBegin_1 7 rfl rfl)
theorem dX9_canBegin_31 : decode cX9_canBegin 31 = .ok (.ireturn, 1) := dk_172 (dk_at dksX9_canBegin_1 8 rfl rfl)
theorem dX9_canBegin_32 : decode cX9_canBegin 32 = .ok (.aload_n 0, 1) := dk_42 (dk_at dksX9_canBegin_1 9 rfl rfl)
theorem dX9_canBegin_33 : decode cX9_canBegin 33 = .ok (.getfield 269, 3) := dk_180 1 13 (dk_at dksX9_canBegin_1 10 rfl rfl)
theorem dX9_canBegin_36 : decode cX9_canBegin 36 = .ok (.iconst 2, 1) := dk_5 (dk_at dksX9_canBegin_1 13 rfl rfl)
theorem dX9_canBegin_37 : decode cX9_canBegin 37 = .ok (.if_icmp .ne 48, 3) := dk_160 0 48 (dk_at dksX9_canBegin_1 14 rfl rfl)
theorem dX9_canBegin_40 : decode cX9_canBegin 40 = .ok (.aload_n 0, 1) := dk_42 (dk_at dksX9_canBegin_1 17 rfl rfl)
theorem dX9_canBegin_41 : decode cX9_canBegin 41 = .ok (.getfield 272, 3) := dk_180 1 16 (dk_at dksX9_canBegin_1 18 rfl rfl)
theorem dX9_canBegin_44 : decode cX9_canBegin 44 = .ok (.ifCond .eq 37, 3) := dk_153 0 37 (dk_at dksX9_canBegin_1 21 rfl rfl)
theorem dX9_canBegin_47 : decode cX9_canBegin 47 = .ok (.aload_n 0, 1) := dk_42 (dk_at dksX9_canBegin_2 0 rfl rfl)
theorem dX9_canBegin_48 : decode cX9_canBegin 48 = .ok (.getfield 272, 3) := dk_180 1 16 (dk_at dksX9_canBegin_2 1 rfl rfl)
theorem dX9_canBegin_51 : decode cX9_canBegin 51 = .ok (.iconst 1, 1) := dk_4 (dk_at dksX9_canBegin_2 4 rfl rfl)
theorem dX9_canBegin_52 : decode cX9_canBegin 52 = .ok (.if_icmp .eq 29, 3) := dk_159 0 29 (dk_at dksX9_canBegin_2 5 rfl rfl)
theorem dX9_canBegin_55 : decode cX9_canBegin 55 = .ok (.aload_n 0, 1) := dk_42 (dk_at dksX9_canBegin_2 8 rfl rfl)
theorem dX9_canBegin_56 : decode cX9_canBegin 56 = .ok (.getfield 272, 3) := dk_180 1 16 (dk_at dksX9_canBegin_2 9 rfl rfl)
theorem dX9_canBegin_59 : decode cX9_canBegin 59 = .ok (.iconst 4, 1) := dk_7 (dk_at dksX9_canBegin_2 12 rfl rfl)
theorem dX9_canBegin_60 : decode cX9_canBegin 60 = .ok (.iconst 5, 1) := dk_8 (dk_at dksX9_canBegin_2 13 rfl rfl)
theorem dX9_canBegin_61 : decode cX9_canBegin 61 = .ok (.invokestatic 239, 3) := dk_184 0 239 (dk_at dksX9_canBegin_2 14 rfl rfl)
theorem dX9_canBegin_64 : decode cX9_canBegin 64 = .ok (.ifCond .ne 17, 3) := dk_154 0 17 (dk_at dksX9_canBegin_2 17 rfl rfl)
theorem dX9_canBegin_67 : decode cX9_canBegin 67 = .ok (.aload_n 0, 1) := dk_42 (dk_at dksX9_canBegin_2 20 rfl rfl)
theorem dX9_canBegin_68 : decode cX9_canBegin 68 = .ok (.getfield 272, 3) := dk_180 1 16 (dk_at dksX9_canBegin_2 21 rfl rfl)
theorem dX9_canBegin_71 : decode cX9_canBegin 71 = .ok (.bipush 7, 2) := dk_16 7 (dk_at dksX9_canBegin_3 0 rfl rfl)
theorem dX9_canBegin_73 : decode cX9_canBegin 73 = .ok (.bipush 14, 2) := dk_16 14 (dk_at dksX9_canBegin_3 2 rfl rfl)
theorem dX9_canBegin_75 : decode cX9_canBegin 75 = .ok (.invokestatic 239, 3) := dk_184 0 239 (dk_at dksX9_canBegin_3 4 rfl rfl)
theorem dX9_canBegin_78 : decode cX9_canBegin 78 = .ok (.ifCond .eq 7, 3) := dk_153 0 7 (dk_at dksX9_canBegin_3 7 rfl rfl)
theorem dX9_canBegin_81 : decode cX9_canBegin 81 = .ok (.iconst 1, 1) := dk_4 (dk_at dksX9_canBegin_3 10 rfl rfl)
theorem dX9_canBegin_82 : decode cX9_canBegin 82 = .ok (.goto 4, 3) := dk_167 0 4 (dk_at dksX9_canBegin_3 11 rfl rfl)
theorem dX9_canBegin_85 : decode cX9_canBegin 85 = .ok (.iconst 0, 1) := dk_3 (dk_at dksX9_canBegin_3 14 rfl rfl)
theorem dX9_canBegin_86 : decode cX9_canBegin 86 = .ok (.ireturn, 1) := dk_172 (dk_at dksX9_canBegin_3 15 rfl rfl)
theorem okX9_canBegin_0 : XOkL xms rX9_canBegin bX9_canBegin_0 := xcP (xok_aload_n dX9_canBegin_0 rfl) rfl (xcP (xok_getfield (ref := "WaysAtlasModel") (Or.inl ⟨rfl, by decide⟩) dX9_canBegin_1 (Or.inl ⟨q1933, (Or.inl rfl)⟩) xh40) rfl (xcP (xok_iconst dX9_canBegin_4 rfl) rfl (xcP (xok_icmpne dX9_canBegin_5 (by decide)) rfl (xcP (xok_aload_n dX9_canBegin_8 rfl) rfl (xcP (xok_getfield (ref := "WaysAtlasModel") (Or.inl ⟨rfl, by decide⟩) dX9_canBegin_9 (Or.inl ⟨q1935, (Or.inl rfl)⟩) xh42) rfl (xcP (xok_bipush dX9_canBegin_12 rfl) rfl (xcP (xok_icmpeq dX9_canBegin_14 (by decide)) rfl (xcP (xok_aload_n dX9_canBegin_17 rfl) rfl (xcP (xok_getfield (ref := "WaysAtlasModel") (Or.inl ⟨rfl, by decide⟩) dX9_canBegin_18 (Or.inl ⟨q1935, (Or.inl rfl)⟩) xh42) rfl (xcP (xok_bipush dX9_canBegin_21 rfl) rfl (xcP (xok_icmpne dX9_canBegin_23 (by decide)) rfl (xcP xok_fal rfl trivial))))))))))))
theorem okX9_canBegin_26 : XOkL xms rX9_canBegin bX9_canBegin_26 := xcP (xok_iconst dX9_canBegin_26 rfl) rfl (xcP (xok_goto dX9_canBegin_27 (by decide)) rfl trivial)
theorem okX9_canBegin_30 : XOkL xms rX9_canBegin bX9_canBegin_30 := xcP (xok_iconst dX9_canBegin_30 rfl) rfl (xcP xok_fal rfl trivial)
theorem okX9_canBegin_31 : XOkL xms rX9_canBegin bX9_canBegin_31 := xcR ⟨dX9_canBegin_31, rfl⟩
theorem okX9_canBegin_32 : XOkL xms rX9_canBegin bX9_canBegin_32 := xcP (xok_aload_n dX9_canBegin_32 rfl) rfl (xcP (xok_getfield (ref := "WaysAtlasModel") (Or.inl ⟨rfl, by decide⟩) dX9_canBegin_33 (Or.inl ⟨q1933, (Or.inl rfl)⟩) xh40) rfl (xcP (xok_iconst dX9_canBegin_36 rfl) rfl (xcP (xok_icmpne dX9_canBegin_37 (by decide)) rfl (xcP (xok_aload_n dX9_canBegin_40 rfl) rfl (xcP (xok_getfield (ref := "WaysAtlasModel") (Or.inl ⟨rfl, by decide⟩) dX9_canBegin_41 (Or.inl ⟨q1935, (Or.inl rfl)⟩) xh42) rfl (xcP (xok_ifeq dX9_canBegin_44 (by decide)) rfl (xcP (xok_aload_n dX9_canBegin_47 rfl) rfl (xcP (xok_getfield (ref := "WaysAtlasModel") (Or.inl ⟨rfl, by decide⟩) dX9_canBegin_48 (Or.inl ⟨q1935, (Or.inl rfl)⟩) xh42) rfl (xcP (xok_iconst dX9_canBegin_51 rfl) rfl (xcP (xok_icmpeq dX9_canBegin_52 (by decide)) rfl (xcP (xok_aload_n dX9_canBegin_55 rfl) rfl (xcP (xok_getfield (ref := "WaysAtlasModel") (Or.inl ⟨rfl, by decide⟩) dX9_canBegin_56 (Or.inl ⟨q1935, (Or.inl rfl)⟩) xh42) rfl (xcP (xok_iconst dX9_canBegin_59 rfl) rfl (xcP (xok_iconst dX9_canBegin_60 rfl) rfl (xcC0 (xokc_S xm99 rfl dX9_canBegin_61 q2224 q2225 q149 q2226 (by decide +kernel)) rfl (xcP (xok_ifne dX9_canBegin_64 (by decide)) rfl (xcP (xok_aload_n dX9_canBegin_67 rfl) rfl (xcP (xok_getfield (ref := "WaysAtlasModel") (Or.inl ⟨rfl, by decide⟩) dX9_canBegin_68 (Or.inl ⟨q1935, (Or.inl rfl)⟩) xh42) rfl (xcP (xok_bipush dX9_canBegin_71 rfl) rfl (xcP (xok_bipush dX9_canBegin_73 rfl) rfl (xcC0 (xokc_S xm99 rfl dX9_canBegin_75 q2224 q2225 q149 q2226 (by decide +kernel)) rfl (xcP (xok_ifeq dX9_canBegin_78 (by decide)) rfl (xcP xok_fal rfl trivial)))))))))))))))))))))))
theorem okX9_canBegin_81 : XOkL xms rX9_canBegin bX9_canBegin_81 := xcP (xok_iconst dX9_canBegin_81 rfl) rfl (xcP (xok_goto dX9_canBegin_82 (by decide)) rfl trivial)
theorem okX9_canBegin_85 : XOkL xms rX9_canBegin bX9_canBegin_85 := xcP (xok_iconst dX9_canBegin_85 rfl) rfl (xcP xok_fal rfl trivial)
theorem okX9_canBegin_86 : XOkL xms rX9_canBegin bX9_canBegin_86 := xcR ⟨dX9_canBegin_86, rfl⟩
theorem okM_X9_canBegin : XOkM xms rX9_canBegin := xokM0 (List.forall_mem_cons.mpr ⟨⟨rfl, okX9_canBegin_0⟩, List.forall_mem_cons.mpr ⟨⟨rfl, okX9_canBegin_26⟩, List.forall_mem_cons.mpr ⟨⟨rfl, okX9_canBegin_30⟩, List.forall_mem_cons.mpr ⟨⟨rfl, okX9_canBegin_31⟩, List.forall_mem_cons.mpr ⟨⟨rfl, okX9_canBegin_32⟩, List.forall_mem_cons.mpr ⟨⟨rfl, okX9_canBegin_81⟩, List.forall_mem_cons.mpr ⟨⟨rfl, okX9_canBegin_85⟩, List.forall_mem_cons.mpr ⟨⟨rfl, okX9_canBegin_86⟩, fun _ h => nomatch h⟩⟩⟩⟩⟩⟩⟩⟩) (xokH0 rfl (fun _ _ => rfl)) (by decide +kernel) (by decide)
abbrev cX9_ofVar : ByteArray := prog_36_method_40_code
def dkwX9_ofVar_4 : List UInt8 := [182, 1, 133, 42, 16, 59, 182, 1, 129, 177]
abbrev dktX9_ofVar_4 : List UInt8 := dkwX9_ofVar_4 ++ []
def dkwX9_ofVar_3 : List UInt8 := [182, 1, 54, 42, 28, 182, 1, 139, 167, 0, 23, 42, 180, 1, 35, 154, 0, 16, 42, 28, 6, 7]
abbrev dktX9_ofVar_3 : List UInt8 := dkwX9_ofVar_3 ++ dktX9_ofVar_4
def dkwX9_ofVar_2 : List UInt8 := [180, 1, 35, 154, 0, 30, 42, 4, 182, 1, 89, 153, 0, 22, 42, 28, 3, 5, 182, 1, 120, 42]
abbrev dktX9_ofVar_2 : List UInt8 := dkwX9_ofVar_2 ++ dktX9_ofVar_3
def dkwX9_ofVar_1 : List UInt8 := [182, 1, 136, 61, 42, 28, 4, 27, 182, 1, 120, 42, 182, 1, 54, 42, 16, 61, 182, 1, 129, 42]
abbrev dktX9_ofVar_1 : List UInt8 := dkwX9_ofVar_1 ++ dktX9_ofVar_2
def dkwX9_ofVar_0 : List UInt8 := [42, 180, 0, 250, 60, 27, 8, 164, 0, 13, 42, 5, 42, 180, 1, 23, 182, 1, 41, 177, 42, 4]
abbrev dktX9_ofVar_0 : List UInt8 := dkwX9_ofVar_0 ++ dktX9_ofVar_1
theorem dksX9_ofVar_0 : cX9_ofVar.data.toList.drop 0 = dktX9_ofVar_0 := by decide +kernel
theorem dksX9_ofVar_1 : cX9_ofVar.data.toList.drop 22 = dktX9_ofVar_1 := dk_seg dksX9_ofVar_0 22 rfl rfl
theorem dksX9_ofVar_2 : cX9_ofVar.data.toList.drop 44 = dktX9_ofVar_2 := dk_seg dksX9_ofVar_1 22 rfl rfl
theorem dksX9_ofVar_3 : cX9_ofVar.data.toList.drop 66 = dktX9_ofVar_3 := dk_seg dksX9_ofVar_2 22 rfl rfl
theorem dksX9_ofVar_4 : cX9_ofVar.data.toList.drop 88 = dktX9_ofVar_4 := dk_seg dksX9_ofVar_3 22 rfl rfl
theorem dX9_ofVar_0 : decode cX9_ofVar 0 = .ok (.aload_n 0, 1) := dk_42 (dk_at dksX9_ofVar_0 0 rfl rfl)
theorem dX9_ofVar_1 : decode cX9_ofVar 1 = .ok (.getfield 250, 3) := dk_180 0 250 (dk_at dksX9_ofVar_0 1 rfl rfl)
theorem dX9_ofVar_4 : decode cX9_ofVar 4 = .ok (.istore_n 1, 1) := dk_60 (dk_at dksX9_ofVar_0 4 rfl rfl)
theorem dX9_ofVar_5 : decode cX9_ofVar 5 = .ok (.iload_n 1, 1) := dk_27 (dk_at dksX9_ofVar_0 5 rfl rfl)
theorem dX9_ofVar_6 : decode cX9_ofVar 6 = .ok (.iconst 5, 1) := dk_8 (dk_at dksX9_ofVar_0 6 rfl rfl)
theorem dX9_ofVar_7 : decode cX9_ofVar 7 = .ok (.if_icmp .le 13, 3) := dk_164 0 13 (dk_at dksX9_ofVar_0 7 rfl rfl)
theorem dX9_ofVar_10 : decode cX9_ofVar 10 = .ok (.aload_n 0, 1) := dk_42 (dk_at dksX9_ofVar_0 10 rfl rfl)
theorem dX9_ofVar_11 : decode cX9_ofVar 11 = .ok (.iconst 2, 1) := dk_5 (dk_at dksX9_ofVar_0 11 rfl rfl)
theorem dX9_ofVar_12 : decode cX9_ofVar 12 = .ok (.aload_n 0, 1) := dk_42 (dk_at dksX9_ofVar_0 12 rfl rfl)
theorem dX9_ofVar_13 : decode cX9_ofVar 13 = .ok (.getfield 279, 3) := dk_180 1 23 (dk_at dksX9_ofVar_0 13 rfl rfl)
theorem dX9_ofVar_16 : decode cX9_ofVar 16 = .ok (.invokevirtual 297, 3) := dk_182 1 41 (dk_at dksX9_ofVar_0 16 rfl rfl)
theorem dX9_ofVar_19 : decode cX9_ofVar 19 = .ok (.return_, 1) := dk_177 (dk_at dksX9_ofVar_0 19 rfl rfl)
theorem dX9_ofVar_20 : decode cX9_ofVar 20 = .ok (.aload_n 0, 1) := dk_42 (dk_at dksX9_ofVar_0 20 rfl rfl)
theorem dX9_ofVar_21 : decode cX9_ofVar 21 = .ok (.iconst 1, 1) := dk_4 (dk_at dksX9_ofVar_0 21 rfl rfl)
theorem dX9_ofVar_22 : decode cX9_ofVar 22 = .ok (.invokevirtual 392, 3) := dk_182 1 136 (dk_at dksX9_ofVar_1 0 rfl rfl)
theorem dX9_ofVar_25 : decode cX9_ofVar 25 = .ok (.istore_n 2, 1) := dk_61 (dk_at dksX9_ofVar_1 3 rfl rfl)
theorem dX9_ofVar_26 : decode cX9_ofVar 26 = .ok (.aload_n 0, 1) := dk_42 (dk_at dksX9_ofVar_1 4 rfl rfl)
theorem dX9_ofVar_27 : decode cX9_ofVar 27 = .ok (.iload_n 2, 1) := dk_28 (dk_at dksX9_ofVar_1 5 rfl rfl)
theorem dX9_ofVar_28 : decode cX9_ofVar 28 = .ok (.iconst 1, 1) := dk_4 (dk_at dksX9_ofVar_1 6 rfl rfl)
theorem dX9_ofVar_29 : decode cX9_ofVar 29 = .ok (.iload_n 1, 1) := dk_27 (dk_at dksX9_ofVar_1 7 rfl rfl)
theorem dX9_ofVar_30 : decode cX9_ofVar 30 = .ok (.invokevirtual 376, 3) := dk_182 1 120 (dk_at dksX9_ofVar_1 8 rfl rfl)
theorem dX9_ofVar_33 : decode cX9_ofVar 33 = .ok (.aload_n 0, 1) := dk_42 (dk_at dksX9_ofVar_1 11 rfl rfl)
theorem dX9_ofVar_34 : decode cX9_ofVar 34 = .ok (.invokevirtual 310, 3) := dk_182 1 54 (dk_at dksX9_ofVar_1 12 rfl rfl)
theorem dX9_ofVar_37 : decode cX9_ofVar 37 = .ok (.aload_n 0, 1) := dk_42 (dk_at dksX9_ofVar_1 15 rfl rfl)
theorem dX9_ofVar_38 : decode cX9_ofVar 38 = .ok (.bipush 61, 2) := dk_16 61 (dk_at dksX9_ofVar_1 16 rfl rfl)
theorem dX9_ofVar_40 : decode cX9_ofVar 40 = .ok (.invokevirtual 385, 3) := dk_182 1 129 (dk_at dksX9_ofVar_1 18 rfl rfl)
theorem dX9_ofVar_43 : decode cX9_ofVar 43 = .ok (.aload_n 0, 1) := dk_42 (dk_at dksX9_ofVar_1 21 rfl rfl)
theorem dX9_ofVar_44 : decode cX9_ofVar 44 = .ok (.getfield 291, 3) := dk_180 1 35 (dk_at dksX9_ofVar_2 0 rfl rfl)
theorem dX9_ofVar_47 : decode cX9_ofVar 47 = .ok (.ifCond .ne 30, 3) := dk_154 0 30 (dk_at dksX9_ofVar_2 3 rfl rfl)
theorem dX9_ofVar_50 : decode cX9_ofVar 50 = .ok (.aload_n 0, 1) := dk_42 (dk_at dksX9_ofVar_2 6 rfl rfl)
theorem dX9_ofVar_51 : decode cX9_ofVar 51 = .ok (.iconst 1, 1) := dk_4 (dk_at dksX9_ofVar_2 7 rfl rfl)
theorem dX9_ofVar_52 : decode cX9_ofVar 52 = .ok (.invokevirtual 345, 3) := dk_182 1 89 (dk_at dksX9_ofVar_2 8 rfl rfl)
theorem dX9_ofVar_55 : decode cX9_ofVar 55 = .ok (.ifCond .eq 22, 3) := dk_153 0 22 (dk_at dksX9_ofVar_2 11 rfl rfl)
theorem dX9_ofVar_58 : decode cX9_ofVar 58 = .ok (.aload_n 0, 1) := dk_42 (dk_at dksX9_ofVar_2 14 rfl rfl)
theorem dX9_ofVar_59 : decode cX9_ofVar 59 = .ok (.iload_n 2, 1) := dk_28 (dk_at dksX9_ofVar_2 15 rfl rfl)
theorem dX9_ofVar_60 : decode cX9_ofVar 60 = .ok (.iconst 0, 1) := dk_3 (dk_at dksX9_ofVar_2 16 rfl rfl)
theorem dX9_ofVar_61 : decode cX9_ofVar 61 = .ok (.iconst 2, 1) := dk_5 (dk_at dksX9_ofVar_2 17 rfl rfl)
theorem dX9_ofVar_62 : decode cX9_ofVar 62 = .ok (.invokevirtual 376, 3) := dk_182 1 120 (dk_at dksX9_ofVar_2 18 rfl rfl)
theorem dX9_ofVar_65 : decode cX9_ofVar 65 = .ok (.aload_n 0, 1) := dk_42 (dk_at dksX9_ofVar_2 21 rfl rfl)
theorem dX9_ofVar_66 : decode cX9_ofVar 66 = .ok (.invokevirtual 310, 3) := dk_182 1 54 (dk_at dksX9_ofVar_3 0 rfl rfl)
theorem dX9_ofVar_69 : decode cX9_ofVar 69 = .ok (.aload_n 0, 1) := dk_42 (dk_at dksX9_ofVar_3 3 rfl rfl)
theorem dX9_ofVar_70 : decode cX9_ofVar 70 = .ok (.iload_n 2, 1) := dk_28 (dk_at dksX9_ofVar_3 4 rfl rfl)
theorem dX9_ofVar_71 : decode cX9_ofVar 71 = .ok (.invokevirtual 395, 3) := dk_182 1 139 (dk_at dksX9_ofVar_3 5 rfl rfl)
theorem dX9_ofVar_74 : decode cX9_ofVar 74 = .ok (.goto 23, 3) := dk_167 0 23 (dk_at dksX9_ofVar_3 8 rfl rfl)
theorem dX9_ofVar_77 : decode cX9_ofVar 77 = .ok (.aload_n 0, 1) := dk_42 (dk_at dksX9_ofVar_3 11 rfl rfl)
theorem dX9_ofVar_78 : decode cX9_ofVar 78 = .ok (.getfield 291, 3) := dk_180 1 35 (dk_at dksX9_ofVar_3 12 rfl rfl)
theorem dX9_ofVar_81 : decode cX9_ofVar 81 = .ok (.ifCond .ne 16, 3) := dk_154 0 16 (dk_at dksX9_ofVar_3 15 rfl rfl)
theorem dX9_ofVar_84 : decode cX9_ofVar 84 = .ok (.aload_n 0, 1) := dk_42 (dk_at dksX9_ofVar_3 18 rfl rfl)
theorem dX9_ofVar_85 : decode cX9_ofVar 85 = .ok (.iload_n 2, 1) := dk_28 (dk_at dksX9_ofVar_3 19 rfl rfl)
theorem dX9_ofVar_86 : decode cX9_ofVar 86 = .ok (.iconst 3, 1) := dk_6 (dk_at dksX9_ofVar_3 20 rfl rfl)
theorem dX9_ofVar_87 : decode cX9_ofVar 87 = .ok (.iconst 4, 1) := dk_7 (dk_at dksX9_ofVar_3 21 rfl rfl)
theorem dX9_ofVar_88 : decode cX9_ofVar 88 = .ok (.invokevirtual 389, 3) := dk_182 1 133 (dk_at dksX9_ofVar_4 0 rfl rfl)
theorem dX9_ofVar_91 : decode cX9_ofVar 91 = .ok (.aload_n 0, 1) := dk_42 (dk_at dksX9_ofVar_4 3 rfl rfl)
theorem dX9_ofVar_92 : decode cX9_ofVar 92 = .ok (.bipush 59, 2) := dk_16 59 (dk_at dksX9_ofVar_4 4 rfl rfl)
theorem dX9_ofVar_94 : decode cX9_ofVar 94 = .ok (.invokevirtual 385, 3) := dk_182 1 129 (dk_at dksX9_ofVar_4 6 rfl rfl)
theorem dX9_ofVar_97 : decode cX9_ofVar 97 = .ok (.return_, 1) := dk_177 (dk_at dksX9_ofVar_4 9 rfl rfl)
theorem okX9_ofVar_0 : XOkL xms rX9_ofVar bX9_ofVar_0 := xcP (xok_aload_n dX9_ofVar_0 rfl) rfl (xcP (xok_getfield (ref := "WaysAtlasModel") (Or.inl ⟨rfl, by decide⟩) dX9_ofVar_1 (Or.inl ⟨q1936, (Or.inl rfl)⟩) xh43) rfl (xcP (xok_istore_n dX9_ofVar_4 rfl) rfl (xcP (xok_iload_n dX9_ofVar_5 rfl) rfl (xcP (xok_iconst dX9_ofVar_6 rfl) rfl (xcP (xok_icmple dX9_ofVar_7 (by decide)) rfl (xcP (xok_aload_n dX9_ofVar_10 rfl) rfl (xcP (xok_iconst dX9_ofVar_11 rfl) rfl (xcP (xok_aload_n dX9_ofVar_12 rfl) rfl (xcP (xok_getfield (ref := "WaysAtlasModel") (Or.inl ⟨rfl, by decide⟩) dX9_ofVar_13 (Or.inl ⟨q1934, (Or.inl rfl)⟩) xh41) rfl (xcC0 (xokc_list (List.forall_mem_cons.mpr ⟨xokc_V (r := (RX9, TX9, 96)) xm111 (List.mem_of_getElem? (i := 9) rfl) (by decide) rfl dX9_ofVar_16 q2273 q2275 qs61 q149 q2276 (by decide +kernel), fun _ h => nomatch h⟩)) rfl (xcR ⟨dX9_ofVar_19, rfl⟩)))))))))))
theorem okX9_ofVar_20 : XOkL xms rX9_ofVar bX9_ofVar_20 := xcP (xok_aload_n dX9_ofVar_20 rfl) rfl (xcP (xok_iconst dX9_ofVar_21 rfl) rfl (xcC0 (xokc_list (List.forall_mem_cons.mpr ⟨xokc_V (r := (RX9, TX9, 96)) xm125 (List.mem_of_getElem? (i := 9) rfl) (by decide) rfl dX9_ofVar_22 q2329 q2331 qs75 q149 q2332 (by decide +kernel), fun _ h => nomatch h⟩)) rfl (xcP (xok_istore_n dX9_ofVar_25 rfl) rfl (xcP (xok_aload_n dX9_ofVar_26 rfl) rfl (xcP (xok_iload_n dX9_ofVar_27 rfl) rfl (xcP (xok_iconst dX9_ofVar_28 rfl) rfl (xcP (xok_iload_n dX9_ofVar_29 rfl) rfl (xcC0 (xokc_list (List.forall_mem_cons.mpr ⟨xokc_V (r := (RX9, TX9, 96)) xm120 (List.mem_of_getElem? (i := 9) rfl) (by decide) rfl dX9_ofVar_30 q2309 q2311 qs70 q149 q2312 (by decide +kernel), fun _ h => nomatch h⟩)) rfl (xcP (xok_aload_n dX9_ofVar_33 rfl) rfl (xcC0 (xokc_list (List.forall_mem_cons.mpr ⟨xokc_V (r := (RX9, TX9, 96)) xm102 (List.mem_of_getElem? (i := 9) rfl) (by decide) rfl dX9_ofVar_34 q2235 q2237 qs53 q149 q2238 (by decide +kernel), fun _ h => nomatch h⟩)) rfl (xcP (xok_aload_n dX9_ofVar_37 rfl) rfl (xcP (xok_bipush dX9_ofVar_38 rfl) rfl (xcC0 (xokc_list (List.forall_mem_cons.mpr ⟨xokc_V (r := (RX9, TX9, 96)) xm116 (List.mem_of_getElem? (i := 9) rfl) (by decide) rfl dX9_ofVar_40 q2293 q2295 qs66 q149 q2296 (by decide +kernel), fun _ h => nomatch h⟩)) rfl (xcP (xok_aload_n dX9_ofVar_43 rfl) rfl (xcP (xok_getfield (ref := "WaysAtlasModel") (Or.inl ⟨rfl, by decide⟩) dX9_ofVar_44 (Or.inl ⟨q1955, (Or.inl rfl)⟩) xh49) rfl (xcP (xok_ifne dX9_ofVar_47 (by decide)) rfl (xcP (xok_aload_n dX9_ofVar_50 rfl) rfl (xcP (xok_iconst dX9_ofVar_51 rfl) rfl (xcC0 (xokc_list (List.forall_mem_cons.mpr ⟨xokc_V (r := (RX9, TX9, 96)) xm110 (List.mem_of_getElem? (i := 9) rfl) (by decide) rfl dX9_ofVar_52 q2269 q2271 qs60 q149 q2272 (by decide +kernel), fun _ h => nomatch h⟩)) rfl (xcP (xok_ifeq dX9_ofVar_55 (by decide)) rfl (xcP (xok_aload_n dX9_ofVar_58 rfl) rfl (xcP (xok_iload_n dX9_ofVar_59 rfl) rfl (xcP (xok_iconst dX9_ofVar_60 rfl) rfl (xcP (xok_iconst dX9_ofVar_61 rfl) rfl (xcC0 (xokc_list (List.forall_mem_cons.mpr ⟨xokc_V (r := (RX9, TX9, 96)) xm120 (List.mem_of_getElem? (i := 9) rfl) (by decide) rfl dX9_ofVar_62 q2309 q2311 qs70 q149 q2312 (by decide +kernel), fun _ h => nomatch h⟩)) rfl (xcP (xok_aload_n dX9_ofVar_65 rfl) rfl (xcC0 (xokc_list (List.forall_mem_cons.mpr ⟨xokc_V (r := (RX9, TX9, 96)) xm102 (List.mem_of_getElem? (i := 9) rfl) (by decide) rfl dX9_ofVar_66 q2235 q2237 qs53 q149 q2238 (by decide +kernel), fun _ h => nomatch h⟩)) rfl (xcP (xok_aload_n dX9_ofVar_69 rfl) rfl (xcP (xok_iload_n dX9_ofVar_70 rfl) rfl (xcC0 (xokc_list (List.forall_mem_cons.mpr ⟨xokc_V (r := (RX9, TX9, 96)) xm126 (List.mem_of_getElem? (i := 9) rfl) (by decide) rfl dX9_ofVar_71 q2333 q2335 qs76 q149 q2336 (by decide +kernel), fun _ h => nomatch h⟩)) rfl (xcP (xok_goto dX9_ofVar_74 (by decide)) rfl trivial)))))))))))))))))))))))))))))))
theorem okX9_ofVar_77 : XOkL xms rX9_ofVar bX9_ofVar_77 := xcP (xok_aload_n dX9_ofVar_77 rfl) rfl (xcP (xok_getfield (ref := "WaysAtlasModel") (Or.inl ⟨rfl, by decide⟩) dX9_ofVar_78 (Or.inl ⟨q1955, (Or.inl rfl)⟩) xh49) rfl (xcP (xok_ifne dX9_ofVar_81 (by decide)) rfl (xcP (xok_aload_n dX9_ofVar_84 rfl) rfl (xcP (xok_iload_n dX9_ofVar_85 rfl) rfl (xcP (xok_iconst dX9_ofVar_86 rfl) rfl (xcP (xok_iconst dX9_ofVar_87 rfl) rfl (xcC0 (xokc_list (List.forall_mem_cons.mpr ⟨xokc_V (r := (RX9, TX9, 96)) xm128 (List.mem_of_getElem? (i := 9) rfl) (by decide) rfl dX9_ofVar_88 q2341 q2343 qs78 q149 q2344 (by decide +kernel), fun _ h => nomatch h⟩)) rfl (xcP (xok_aload_n dX9_ofVar_91 rfl) rfl (xcP (xok_bipush dX9_ofVar_92 rfl) rfl (xcC0 (xokc_list (List.forall_mem_cons.mpr ⟨xokc_V (r := (RX9, TX9, 96)) xm116 (List.mem_of_getElem? (i := 9) rfl) (by decide) rfl dX9_ofVar_94 q2293 q2295 qs66 q149 q2296 (by decide +kernel), fun _ h => nomatch h⟩)) rfl (xcP xok_fal rfl trivial)))))))))))
theorem okX9_ofVar_97 : XOkL xms rX9_ofVar bX9_ofVar_97 := xcR ⟨dX9_ofVar_97, rfl⟩
theorem okM_X9_ofVar : XOkM xms rX9_ofVar := xokM0 (List.forall_mem_cons.mpr ⟨⟨rfl, okX9_ofVar_0⟩, List.forall_mem_cons.mpr ⟨⟨rfl, okX9_ofVar_20⟩, List.forall_mem_cons.mpr ⟨⟨rfl, okX9_ofVar_77⟩, List.forall_mem_cons.mpr ⟨⟨rfl, okX9_ofVar_97⟩, fun _ h => nomatch h⟩⟩⟩⟩) (xokH0 rfl (fun _ _ => rfl)) (by decide +kernel) (by decide)
abbrev cX9_comes : ByteArray := prog_36_method_37_code
def dkwX9_comes_6 : List UInt8 := [28, 172]
abbrev dktX9_comes_6 : List UInt8 := dkwX9_comes_6 ++ []
def dkwX9_comes_5 : List UInt8 := [180, 0, 123, 42, 180, 1, 114, 4, 100, 28, 79, 42, 180, 0, 63, 42, 180, 1, 32, 92, 46, 4, 96, 79]
abbrev dktX9_comes_5 : List UInt8 := dkwX9_comes_5 ++ dktX9_comes_6
def dkwX9_comes_4 : List UInt8 := [28, 79, 167, 0, 21, 42, 42, 180, 0, 123, 42, 180, 1, 114, 4, 100, 46, 16, 10, 28, 182, 1, 120, 42]
abbrev dktX9_comes_4 : List UInt8 := dkwX9_comes_4 ++ dktX9_comes_5
def dkwX9_comes_3 : List UInt8 := [42, 180, 0, 72, 17, 1, 144, 42, 180, 1, 32, 104, 42, 180, 0, 120, 42, 180, 1, 114, 4, 100, 46, 96]
abbrev dktX9_comes_3 : List UInt8 := dkwX9_comes_3 ++ dktX9_comes_4
def dkwX9_comes_2 : List UInt8 := [42, 180, 1, 32, 46, 4, 100, 182, 1, 120, 42, 180, 0, 123, 42, 180, 1, 114, 4, 100, 46, 156, 0, 32]
abbrev dktX9_comes_2 : List UInt8 := dkwX9_comes_2 ++ dktX9_comes_3
def dkwX9_comes_1 : List UInt8 := [182, 1, 120, 132, 3, 1, 167, 255, 240, 42, 28, 3, 27, 182, 1, 120, 42, 28, 16, 11, 42, 180, 0, 90]
abbrev dktX9_comes_1 : List UInt8 := dkwX9_comes_1 ++ dktX9_comes_2
def dkwX9_comes_0 : List UInt8 := [42, 180, 0, 63, 42, 180, 1, 32, 46, 61, 3, 62, 29, 16, 16, 162, 0, 16, 42, 28, 29, 2]
abbrev dktX9_comes_0 : List UInt8 := dkwX9_comes_0 ++ dktX9_comes_1
theorem dksX9_comes_0 : cX9_comes.data.toList.drop 0 = dktX9_comes_0 := by decide +kernel
theorem dksX9_comes_1 : cX9_comes.data.toList.drop 22 = dktX9_comes_1 := dk_seg dksX9_comes_0 22 rfl rfl
theorem dksX9_comes_2 : cX9_comes.data.toList.drop 46 = dktX9_comes_2 := dk_seg dksX9_comes_1 24 rfl rfl
theorem dksX9_comes_3 : cX9_comes.data.toList.drop 70 = dktX9_comes_3 := dk_seg dksX9_comes_2 24 rfl rfl
theorem dksX9_comes_4 : cX9_comes.data.toList.drop 94 = dktX9_comes_4 := dk_seg dksX9_comes_3 24 rfl rfl
theorem dksX9_comes_5 : cX9_comes.data.toList.drop 118 = dktX9_comes_5 := dk_seg dksX9_comes_4 24 rfl rfl
theorem dksX9_comes_6 : cX9_comes.data.toList.drop 142 = dktX9_comes_6 := dk_seg dksX9_comes_5 24 rfl rfl
theorem dX9_comes_0 : decode cX9_comes 0 = .ok (.aload_n 0, 1) := dk_42 (dk_at dksX9_comes_0 0 rfl rfl)
theorem dX9_comes_1 : decode cX9_comes 1 = .ok (.getfield 63, 3) := dk_180 0 63 (dk_at dksX9_comes_0 1 rfl rfl)
theorem dX9_comes_4 : decode cX9_comes 4 = .ok (.aload_n 0, 1) := dk_42 (dk_at dksX9_comes_0 4 rfl rfl)
theorem dX9_comes_5 : decode cX9_comes 5 = .ok (.getfield 288, 3) := dk_180 1 32 (dk_at dksX9_comes_0 5 rfl rfl)
theorem dX9_comes_8 : decode cX9_comes 8 = .ok (.iaload, 1) := dk_46 (dk_at dksX9_comes_0 8 rfl rfl)
theorem dX9_comes_9 : decode cX9_comes 9 = .ok (.istore_n 2, 1) := dk_61 (dk_at dksX9_comes_0 9 rfl rfl)
theorem dX9_comes_10 : decode cX9_comes 10 = .ok (.iconst 0, 1) := dk_3 (dk_at dksX9_comes_0 10 rfl rfl)
theorem dX9_comes_11 : decode cX9_comes 11 = .ok (.istore_n 3, 1) := dk_62 (dk_at dksX9_comes_0 11 rfl rfl)
theorem dX9_comes_12 : decode cX9_comes 12 = .ok (.iload_n 3, 1) := dk_29 (dk_at dksX9_comes_0 12 rfl rfl)
theorem dX9_comes_13 : decode cX9_comes 13 = .ok (.bipush 16, 2) := dk_16 16 (dk_at dksX9_comes_0 13 rfl rfl)
theorem dX9_comes_15 : decode cX9_comes 15 = .ok (.if_icmp .ge 16, 3) := dk_162 0 16 (dk_at dksX9_comes_0 15 rfl rfl)
theorem dX9_comes_18 : decode cX9_comes 18 = .ok (.aload_n 0, 1) := dk_42 (dk_at dksX9_comes_0 18 rfl rfl)
theorem dX9_comes_19 : decode cX9_comes 19 = .ok (.iload_n 2, 1) := dk_28 (dk_at dksX9_comes_0 19 rfl rfl)
theorem dX9_comes_20 : decode cX9_comes 20 = .ok (.iload_n 3, 1) := dk_29 (dk_at dksX9_comes_0 20 rfl rfl)
theorem dX9_comes_21 : decode cX9_comes 21 = .ok (.iconst (-1), 1) := dk_2 (dk_at dksX9_comes_0 21 rfl rfl)
theorem dX9_comes_22 : decode cX9_comes 22 = .ok (.invokevirtual 376, 3) := dk_182 1 120 (dk_at dksX9_comes_1 0 rfl rfl)
theorem dX9_comes_25 : decode cX9_comes 25 = .ok (.iinc 3 1, 3) := dk_132 3 1 (dk_at dksX9_comes_1 3 rfl rfl)
theorem dX9_comes_28 : decode cX9_comes 28 = .ok (.goto (-16), 3) := dk_167 255 240 (dk_at dksX9_comes_1 6 rfl rfl)
theorem dX9_comes_31 : decode cX9_comes 31 = .ok (.aload_n 0, 1) := dk_42 (dk_at dksX9_comes_1 9 rfl rfl)
theorem dX9_comes_32 : decode cX9_comes 32 = .ok (.iload_n 2, 1) := dk_28 (dk_at dksX9_comes_1 10 rfl rfl)
theorem dX9_comes_33 : decode cX9_comes 33 = .ok (.iconst 0, 1) := dk_3 (dk_at dksX9_comes_1 11 rfl rfl)
theorem dX9_comes_34 : decode cX9_comes 34 = .ok (.iload_n 1, 1) := dk_27 (dk_at dksX9_comes_1 12 rfl rfl)
theorem dX9_comes_35 : decode cX9_comes 35 = .ok (.invokevirtual 376, 3) := dk_182 1 120 (dk_at dksX9_comes_1 13 rfl rfl)
theorem dX9_comes_38 : decode cX9_comes 38 = .ok (.aload_n 0, 1) := dk_42 (dk_at dksX9_comes_1 16 rfl rfl)
theorem dX9_comes_39 : decode cX9_comes 39 = .ok (.iload_n 2, 1) := dk_28 (dk_at dksX9_comes_1 17 rfl rfl)
theorem dX9_comes_40 : decode cX9_comes 40 = .ok (.bipush 11, 2) := dk_16 11 (dk_at dksX9_comes_1 18 rfl rfl)
theorem dX9_comes_42 : decode cX9_comes 42 = .ok (.aload_n 0, 1) := dk_42 (dk_at dksX9_comes_1 20 rfl rfl)
theorem dX9_comes_43 : decode cX9_comes 43 = .ok (.getfield 90, 3) := dk_180 0 90 (dk_at dksX9_comes_1 21 rfl rfl)
theorem dX9_comes_46 : decode cX9_comes 46 = .ok (.aload_n 0, 1) := dk_42 (dk_at dksX9_comes_2 0 rfl rfl)
theorem dX9_comes_47 : decode cX9_comes 47 = .ok (.getfield 288, 3) := dk_180 1 32 (dk_at dksX9_comes_2 1 rfl rfl)
theorem dX9_comes_50 : decode cX9_comes 50 = .ok (.iaload, 1) := dk_46 (dk_at dksX9_comes_2 4 rfl rfl)
theorem dX9_comes_51 : decode cX9_comes 51 = .ok (.iconst 1, 1) := dk_4 (dk_at dksX9_comes_2 5 rfl rfl)
theorem dX9_comes_52 : decode cX9_comes 52 = .ok (.isub, 1) := dk_100 (dk_at dksX9_comes_2 6 rfl rfl)
theorem dX9_comes_53 : decode cX9_comes 53 = .ok (.invokevirtual 376, 3) := dk_182 1 120 (dk_at dksX9_comes_2 7 rfl rfl)
theorem dX9_comes_56 : decode cX9_comes 56 = .ok (.aload_n 0, 1) := dk_42 (dk_at dksX9_comes_2 10 rfl rfl)
theorem dX9_comes_57 : decode cX9_comes 57 = .ok (.getfield 123, 3) := dk_180 0 123 (dk_at dksX9_comes_2 11 rfl rfl)
theorem dX9_comes_60 : decode cX9_comes 60 = .ok (.aload_n 0, 1) := dk_42 (dk_at dksX9_comes_2 14 rfl rfl)
theorem dX9_comes_61 : decode cX9_comes 61 = .ok (.getfield 370, 3) := dk_180 1 114 (dk_at dksX9_comes_2 15 rfl rfl)
theorem dX9_comes_64 : decode cX9_comes 64 = .ok (.iconst 1, 1) := dk_4 (dk_at dksX9_comes_2 18 rfl rfl)
theorem dX9_comes_65 : decode cX9_comes 65 = .ok (.isub, 1) := dk_100 (dk_at dksX9_comes_2 19 rfl rfl)
theorem dX9_comes_66 : decode cX9_comes 66 = .ok (.iaload, 1) := dk_46 (dk_at dksX9_comes_2 20 rfl rfl)
theorem dX9_comes_67 : decode cX9_comes 67 = .ok (.ifCond .ge 32, 3) := dk_156 0 32 (dk_at dksX9_comes_2 21 rfl rfl)
theorem dX9_comes_70 : decode cX9_comes 70 = .ok (.aload_n 0, 1) := dk_42 (dk_at dksX9_comes_3 0 rfl rfl)
theorem dX9_comes_71 : decode cX9_comes 71 = .ok (.getfield 72, 3) := dk_180 0 72 (dk_at dksX9_comes_3 1 rfl rfl)
theorem dX9_comes_74 : decode cX9_comes 74 = .ok (.sipush 400, 3) := dk_17 1 144 (dk_at dksX9_comes_3 4 rfl rfl)
theorem dX9_comes_77 : decode cX9_comes 77 = .ok (.aload_n 0, 1) := dk_42 (dk_at dksX9_comes_3 7 rfl rfl)
theorem dX9_comes_78 : decode cX9_comes 78 = .ok (.getfield 288, 3) := dk_180 1 32 (dk_at dksX9_comes_3 8 rfl rfl)
theorem dX9_comes_81 : decode cX9_comes 81 = .ok (.imul, 1) := dk_104 (dk_at dksX9_comes_3 11 rfl rfl)
theorem dX9_comes_82 : decode cX9_comes 82 = .ok (.aload_n 0, 1) := dk_42 (dk_at dksX9_comes_3 12 rfl rfl)
theorem dX9_comes_83 : decode cX9_comes 83 = .ok (.getfield 120, 3) := dk_180 0 120 (dk_at dksX9_comes_3 13 rfl rfl)
theorem dX9_comes_86 : decode cX9_comes 86 = .ok (.aload_n 0, 1) := dk_42 (dk_at dksX9_comes_3 16 rfl rfl)
theorem dX9_comes_87 : decode cX9_comes 87 = .ok (.getfield 370, 3) := dk_180 1 114 (dk_at dksX9_comes_3 17 rfl rfl)
theorem dX9_comes_90 : decode cX9_comes 90 = .ok (.iconst 1, 1) := dk_4 (dk_at dksX9_comes_3 20 rfl rfl)
theorem dX9_comes_91 : decode cX9_comes 91 = .ok (.isub, 1) := dk_100 (dk_at dksX9_comes_3 21 rfl rfl)
theorem dX9_comes_92 : decode cX9_comes 92 = .ok (.iaload, 1) := dk_46 (dk_at dksX9_comes_3 22 rfl rfl)
theorem dX9_comes_93 : decode cX9_comes 93 = .ok (.iadd, 1) := dk_96 (dk_at dksX9_comes_3 23 rfl rfl)
theorem dX9_comes_94 : decode cX9_comes 94 = .ok (.iload_n 2, 1) := dk_28 (dk_at dksX9_comes_4 0 rfl rfl)
theorem dX9_comes_95 : decode cX9_comes 95 = .ok (.iastore, 1) := dk_79 (dk_at dksX9_comes_4 1 rfl rfl)
theorem dX9_comes_96 : decode cX9_comes 96 = .ok (.goto 21, 3) := dk_167 0 21 (dk_at dksX9_comes_4 2 rfl rfl)
theorem dX9_comes_99 : decode cX9_comes 99 = .ok (.aload_n 0, 1) := dk_42 (dk_at dksX9_comes_4 5 rfl rfl)
theorem dX9_comes_100 : decode cX9_comes 100 = .ok (.aload_n 0, 1) := dk_42 (dk_at dksX9_comes_4 6 rfl rfl)
theorem dX9_comes_101 : decode cX9_comes 101 = .ok (.getfield 123, 3) := dk_180 0 123 (dk_at dksX9_comes_4 7 rfl rfl)
theorem dX9_comes_104 : decode cX9_comes 104 = .ok (.aload_n 0, 1) := dk_42 (dk_at dksX9_comes_4 10 rfl rfl)
theorem dX9_comes_105 : decode cX9_comes 105 = .ok (.getfield 370, 3) := dk_180 1 114 (dk_at dksX9_comes_4 11 rfl rfl)
theorem dX9_comes_108 : decode cX9_comes 108 = .ok (.iconst 1, 1) := dk_4 (dk_at dksX9_comes_4 14 rfl rfl)
theorem dX9_comes_109 : decode cX9_comes 109 = .ok (.isub, 1) := dk_100 (dk_at dksX9_comes_4 15 rfl rfl)
theorem dX9_comes_110 : decode cX9_comes 110 = .ok (.iaload, 1) := dk_46 (dk_at dksX9_comes_4 16 rfl rfl)
theorem dX9_comes_111 : decode cX9_comes 111 = .ok (.bipush 10, 2) := dk_16 10 (dk_at dksX9_comes_4 17 rfl rfl)
theorem dX9_comes_113 : decode cX9_comes 113 = .ok (.iload_n 2, 1) := dk_28 (dk_at dksX9_comes_4 19 rfl rfl)
theorem dX9_comes_114 : decode cX9_comes 114 = .ok (.invokevirtual 376, 3) := dk_182 1 120 (dk_at dksX9_comes_4 20 rfl rfl)
theorem dX9_comes_117 : decode cX9_comes 117 = .ok (.aload_n 0, 1) := dk_42 (dk_at dksX9_comes_4 23 rfl rfl)
theorem dX9_comes_118 : decode cX9_comes 118 = .ok (.getfield 123, 3) := dk_180 0 123 (dk_at dksX9_comes_5 0 rfl rfl)
theorem dX9_comes_121 : decode cX9_comes 121 = .ok (.aload_n 0, 1) := dk_42 (dk_at dksX9_comes_5 3 rfl rfl)
theorem dX9_comes_122 : decode cX9_comes 122 = .ok (.getfield 370, 3) := dk_180 1 114 (dk_at dksX9_comes_5 4 rfl rfl)
theorem dX9_comes_125 : decode cX9_comes 125 = .ok (.iconst 1, 1) := dk_4 (dk_at dksX9_comes_5 7 rfl rfl)
theorem dX9_comes_126 : decode cX9_comes 126 = .ok (.isub, 1) := dk_100 (dk_at dksX9_comes_5 8 rfl rfl)
theorem dX9_comes_127 : decode cX9_comes 127 = .ok (.iload_n 2, 1) := dk_28 (dk_at dksX9_comes_5 9 rfl rfl)
theorem dX9_comes_128 : decode cX9_comes 128 = .ok (.iastore, 1) := dk_79 (dk_at dksX9_comes_5 10 rfl rfl)
theorem dX9_comes_129 : decode cX9_comes 129 = .ok (.aload_n 0, 1) := dk_42 (dk_at dksX9_comes_5 11 rfl rfl)
theorem dX9_comes_130 : decode cX9_comes 130 = .ok (.getfield 63, 3) := dk_180 0 63 (dk_at dksX9_comes_5 12 rfl rfl)
theorem dX9_comes_133 : decode cX9_comes 133 = .ok (.aload_n 0, 1) := dk_42 (dk_at dksX9_comes_5 15 rfl rfl)
theorem dX9_comes_134 : decode cX9_comes 134 = .ok (.getfield 288, 3) := dk_180 1 32 (dk_at dksX9_comes_5 16 rfl rfl)
theorem dX9_comes_137 : decode cX9_comes 137 = .ok (.dup2, 1) := dk_92 (dk_at dksX9_comes_5 19 rfl rfl)
theorem dX9_comes_138 : decode cX9_comes 138 = .ok (.iaload, 1) := dk_46 (dk_at dksX9_comes_5 20 rfl rfl)
theorem dX9_comes_139 : decode cX9_comes 139 = .ok (.iconst 1, 1) := dk_4 (dk_at dksX9_comes_5 21 rfl rfl)
theorem dX9_comes_140 : decode cX9_comes 140 = .ok (.iadd, 1) := dk_96 (dk_at dksX9_comes_5 22 rfl rfl)
theorem dX9_comes_141 : decode cX9_comes 141 = .ok (.iastore, 1) := dk_79 (dk_at dksX9_comes_5 23 rfl rfl)
theorem dX9_comes_142 : decode cX9_comes 142 = .ok (.iload_n 2, 1) := dk_28 (dk_at dksX9_comes_6 0 rfl rfl)
theorem dX9_comes_143 : decode cX9_comes 143 = .ok (.ireturn, 1) := dk_172 (dk_at dksX9_comes_6 1 rfl rfl)
theorem okX9_comes_0 : XOkL xms rX9_comes bX9_comes_0 := xcP (xok_aload_n dX9_comes_0 rfl) rfl (xcP (xok_getfield (ref := "WaysAtlasModel") (Or.inr ⟨rfl, by decide⟩) dX9_comes_1 (Or.inl ⟨q1941, (Or.inl rfl)⟩) xh1060) rfl (xcP (xok_aload_n dX9_comes_4 rfl) rfl (xcP (xok_getfield (ref := "WaysAtlasModel") (Or.inl ⟨rfl, by decide⟩) dX9_comes_5 (Or.inl ⟨q1938, (Or.inl rfl)⟩) xh45) rfl (xcP (xok_iaload dX9_comes_8) rfl (xcP (xok_istore_n dX9_comes_9 rfl) rfl (xcP (xok_iconst dX9_comes_10 rfl) rfl (xcP (xok_istore_n dX9_comes_11 rfl) rfl (xcP xok_fal rfl trivial))))))))
theorem okX9_comes_12 : XOkL xms rX9_comes bX9_comes_12 := xcP (xok_iload_n dX9_comes_12 rfl) rfl (xcP (xok_bipush dX9_comes_13 rfl) rfl (xcP (xok_icmpge dX9_comes_15 (by decide)) rfl (xcP (xok_aload_n dX9_comes_18 rfl) rfl (xcP (xok_iload_n dX9_comes_19 rfl) rfl (xcP (xok_iload_n dX9_comes_20 rfl) rfl (xcP (xok_iconst dX9_comes_21 rfl) rfl (xcC0 (xokc_list (List.forall_mem_cons.mpr ⟨xokc_V (r := (RX9, TX9, 96)) xm120 (List.mem_of_getElem? (i := 9) rfl) (by decide) rfl dX9_comes_22 q2309 q2311 qs70 q149 q2312 (by decide +kernel), fun _ h => nomatch h⟩)) rfl (xcP (xok_iinc dX9_comes_25 rfl) rfl (xcP (xok_goto dX9_comes_28 (by decide)) rfl trivial)))))))))
theorem okX9_comes_31 : XOkL xms rX9_comes bX9_comes_31 := xcP (xok_aload_n dX9_comes_31 rfl) rfl (xcP (xok_iload_n dX9_comes_32 rfl) rfl (xcP (xok_iconst dX9_comes_33 rfl) rfl (xcP (xok_iload_n dX9_comes_34 rfl) rfl (xcC0 (xokc_list (List.forall_mem_cons.mpr ⟨xokc_V (r := (RX9, TX9, 96)) xm120 (List.mem_of_getElem? (i := 9) rfl) (by decide) rfl dX9_comes_35 q2309 q2311 qs70 q149 q2312 (by decide +kernel), fun _ h => nomatch h⟩)) rfl (xcP (xok_aload_n dX9_comes_38 rfl) rfl (xcP (xok_iload_n dX9_comes_39 rfl) rfl (xcP (xok_bipush dX9_comes_40 rfl) rfl (xcP (xok_aload_n dX9_comes_42 rfl) rfl (xcP (xok_getfield (ref := "WaysAtlasModel") (Or.inr ⟨rfl, by decide⟩) dX9_comes_43 (Or.inl ⟨q1950, (Or.inl rfl)⟩) xh1069) rfl (xcP (xok_aload_n dX9_comes_46 rfl) rfl (xcP (xok_getfield (ref := "WaysAtlasModel") (Or.inl ⟨rfl, by decide⟩) dX9_comes_47 (Or.inl ⟨q1938, (Or.inl rfl)⟩) xh45) rfl (xcP (xok_iaload dX9_comes_50) rfl (xcP (xok_iconst dX9_comes_51 rfl) rfl (xcP (xok_isub dX9_comes_52) rfl (xcC0 (xokc_list (List.forall_mem_cons.mpr ⟨xokc_V (r := (RX9, TX9, 96)) xm120 (List.mem_of_getElem? (i := 9) rfl) (by decide) rfl dX9_comes_53 q2309 q2311 qs70 q149 q2312 (by decide +kernel), fun _ h => nomatch h⟩)) rfl (xcP (xok_aload_n dX9_comes_56 rfl) rfl (xcP (xok_getfield (ref := "WaysAtlasModel") (Or.inr ⟨rfl, by decide⟩) dX9_comes_57 (Or.inl ⟨q1971, (Or.inl rfl)⟩) xh1080) rfl (xcP (xok_aload_n dX9_comes_60 rfl) rfl (xcP (xok_getfield (ref := "WaysAtlasModel") (Or.inl ⟨rfl, by decide⟩) dX9_comes_61 (Or.inl ⟨q1967, (Or.inl rfl)⟩) xh56) rfl (xcP (xok_iconst dX9_comes_64 rfl) rfl (xcP (xok_isub dX9_comes_65) rfl (xcP (xok_iaload dX9_comes_66) rfl (xcP (xok_ifge dX9_comes_67 (by decide)) rfl (xcP (xok_aload_n dX9_comes_70 rfl) rfl (xcP (xok_getfield (ref := "WaysAtlasModel") (Or.inr ⟨rfl, by decide⟩) dX9_comes_71 (Or.inl ⟨q1944, (Or.inl rfl)⟩) xh1063) rfl (xcP (xok_sipush dX9_comes_74 rfl) rfl (xcP (xok_aload_n dX9_comes_77 rfl) rfl (xcP (xok_getfield (ref := "WaysAtlasModel") (Or.inl ⟨rfl, by decide⟩) dX9_comes_78 (Or.inl ⟨q1938, (Or.inl rfl)⟩) xh45) rfl (xcP (xok_imul dX9_comes_81) rfl (xcP (xok_aload_n dX9_comes_82 rfl) rfl (xcP (xok_getfield (ref := "WaysAtlasModel") (Or.inr ⟨rfl, by decide⟩) dX9_comes_83 (Or.inl ⟨q1970, (Or.inl rfl)⟩) xh1079) rfl (xcP (xok_aload_n dX9_comes_86 rfl) rfl (xcP (xok_getfield (ref := "WaysAtlasModel") (Or.inl ⟨rfl, by decide⟩) dX9_comes_87 (Or.inl ⟨q1967, (Or.inl rfl)⟩) xh56) rfl (xcP (xok_iconst dX9_comes_90 rfl) rfl (xcP (xok_isub dX9_comes_91) rfl (xcP (xok_iaload dX9_comes_92) rfl (xcP (xok_iadd dX9_comes_93) rfl (xcP (xok_iload_n dX9_comes_94 rfl) rfl (xcP (xok_iastore dX9_comes_95) rfl (xcP (xok_goto dX9_comes_96 (by decide)) rfl trivial))))))))))))))))))))))))))))))))))))))))
theorem okX9_comes_99 : XOkL xms rX9_comes bX9_comes_99 := xcP (xok_aload_n dX9_comes_99 rfl) rfl (xcP (xok_aload_n dX9_comes_100 rfl) rfl (xcP (xok_getfield (ref := "WaysAtlasModel") (Or.inr ⟨rfl, by decide⟩) dX9_comes_101 (Or.inl ⟨q1971, (Or.inl rfl)⟩) xh1080) rfl (xcP (xok_aload_n dX9_comes_104 rfl) rfl (xcP (xok_getfield (ref := "WaysAtlasModel") (Or.inl ⟨rfl, by decide⟩) dX9_comes_105 (Or.inl ⟨q1967, (Or.inl rfl)⟩) xh56) rfl (xcP (xok_iconst dX9_comes_108 rfl) rfl (xcP (xok_isub dX9_comes_109) rfl (xcP (xok_iaload dX9_comes_110) rfl (xcP (xok_bipush dX9_comes_111 rfl) rfl (xcP (xok_iload_n dX9_comes_113 rfl) rfl (xcC0 (xokc_list (List.forall_mem_cons.mpr ⟨xokc_V (r := (RX9, TX9, 96)) xm120 (List.mem_of_getElem? (i := 9) rfl) (by decide) rfl dX9_comes_114 q2309 q2311 qs70 q149 q2312 (by decide +kernel), fun _ h => nomatch h⟩)) rfl (xcP xok_fal rfl trivial)))))))))))
theorem okX9_comes_117 : XOkL xms rX9_comes bX9_comes_117 := xcP (xok_aload_n dX9_comes_117 rfl) rfl (xcP (xok_getfield (ref := "WaysAtlasModel") (Or.inr ⟨rfl, by decide⟩) dX9_comes_118 (Or.inl ⟨q1971, (Or.inl rfl)⟩) xh1080) rfl (xcP (xok_aload_n dX9_comes_121 rfl) rfl (xcP (xok_getfield (ref := "WaysAtlasModel") (Or.inl ⟨rfl, by decide⟩) dX9_comes_122 (Or.inl ⟨q1967, (Or.inl rfl)⟩) xh56) rfl (xcP (xok_iconst dX9_comes_125 rfl) rfl (xcP (xok_isub dX9_comes_126) rfl (xcP (xok_iload_n dX9_comes_127 rfl) rfl (xcP (xok_iastore dX9_comes_128) rfl (xcP (xok_aload_n dX9_comes_129 rfl) rfl (xcP (xok_getfield (ref := "WaysAtlasModel") (Or.inr ⟨rfl, by decide⟩) dX9_comes_130 (Or.inl ⟨q1941, (Or.inl rfl)⟩) xh1060) rfl (xcP (xok_aload_n dX9_comes_133 rfl) rfl (xcP (xok_getfield (ref := "WaysAtlasModel") (Or.inl ⟨rfl, by decide⟩) dX9_comes_134 (Or.inl ⟨q1938, (Or.inl rfl)⟩) xh45) rfl (xcP (xok_dup2 dX9_comes_137) rfl (xcP (xok_iaload dX9_comes_138) rfl (xcP (xok_iconst dX9_comes_139 rfl) rfl (xcP (xok_iadd dX9_comes_140) rfl (xcP (xok_iastore dX9_comes_141) rfl (xcP (xok_iload_n dX9_comes_142 rfl) rfl (xcR ⟨dX9_comes_143, rfl⟩))))))))))))))))))
theorem okM_X9_comes : XOkM xms rX9_comes := xokM0 (List.forall_mem_cons.mpr ⟨⟨rfl, okX9_comes_0⟩, List.forall_mem_cons.mpr ⟨⟨rfl, okX9_comes_12⟩, List.forall_mem_cons.mpr ⟨⟨rfl, okX9_comes_31⟩, List.forall_mem_cons.mpr ⟨⟨rfl, okX9_comes_99⟩, List.forall_mem_cons.mpr ⟨⟨rfl, okX9_comes_117⟩, fun _ h => nomatch h⟩⟩⟩⟩⟩) (xokH0 rfl (fun _ _ => rfl)) (by decide +kernel) (by decide)
abbrev cX9_call : ByteArray := prog_36_method_39_code
def dkwX9_call_2 : List UInt8 := [182, 1, 129, 177]
abbrev dktX9_call_2 : List UInt8 := dkwX9_call_2 ++ []
def dkwX9_call_1 : List UInt8 := [16, 44, 182, 1, 129, 42, 27, 8, 16, 6, 182, 1, 133, 42, 16, 41, 182, 1, 129, 42, 16, 59]
abbrev dktX9_call_1 : List UInt8 := dkwX9_call_1 ++ dktX9_call_2
def dkwX9_call_0 : List UInt8 := [42, 27, 5, 42, 182, 1, 126, 182, 1, 120, 42, 16, 40, 182, 1, 129, 42, 27, 6, 7, 182, 1, 133, 42]
abbrev dktX9_call_0 : List UInt8 := dkwX9_call_0 ++ dktX9_call_1
theorem dksX9_call_0 : cX9_call.data.toList.drop 0 = dktX9_call_0 := by decide +kernel
theorem dksX9_call_1 : cX9_call.data.toList.drop 24 = dktX9_call_1 := dk_seg dksX9_call_0 24 rfl rfl
theorem dksX9_call_2 : cX9_call.data.toList.drop 46 = dktX9_call_2 := dk_seg dksX9_call_1 22 rfl rfl
theorem dX9_call_0 : decode cX9_call 0 = .ok (.aload_n 0, 1) := dk_42 (dk_at dksX9_call_0 0 rfl rfl)
theorem dX9_call_1 : decode cX9_call 1 = .ok (.iload_n 1, 1) := dk_27 (dk_at dksX9_call_0 1 rfl rfl)
theorem dX9_call_2 : decode cX9_call 2 = .ok (.iconst 2, 1) := dk_5 (dk_at dksX9_call_0 2 rfl rfl)
theorem dX9_call_3 : decode cX9_call 3 = .ok (.aload_n 0, 1) := dk_42 (dk_at dksX9_call_0 3 rfl rfl)
theorem dX9_call_4 : decode cX9_call 4 = .ok (.invokevirtual 382, 3) := dk_182 1 126 (dk_at dksX9_call_0 4 rfl rfl)
theorem dX9_call_7 : decode cX9_call 7 = .ok (.invokevirtual 376, 3) := dk_182 1 120 (dk_at dksX9_call_0 7 rfl rfl)
theorem dX9_call_10 : decode cX9_call 10 = .ok (.aload_n 0, 1) := dk_42 (dk_at dksX9_call_0 10 rfl rfl)
theorem dX9_call_11 : decode cX9_call 11 = .ok (.bipush 40, 2) := dk_16 40 (dk_at dksX9_call_0 11 rfl rfl)
theorem dX9_call_13 : decode cX9_call 13 = .ok (.invokevirtual 385, 3) := dk_182 1 129 (dk_at dksX9_call_0 13 rfl rfl)
theorem dX9_call_16 : decode cX9_call 16 = .ok (.aload_n 0, 1) := dk_42 (dk_at dksX9_call_0 16 rfl rfl)
theorem dX9_call_17 : decode cX9_call 17 = .ok (.iload_n 1, 1) := dk_27 (dk_at dksX9_call_0 17 rfl rfl)
theorem dX9_call_18 : decode cX9_call 18 = .ok (.iconst 3, 1) := dk_6 (dk_at dksX9_call_0 18 rfl rfl)
theorem dX9_call_19 : decode cX9_call 19 = .ok (.iconst 4, 1) := dk_7 (dk_at dksX9_call_0 19 rfl rfl)
theorem dX9_call_20 : decode cX9_call 20 = .ok (.invokevirtual 389, 3) := dk_182 1 133 (dk_at dksX9_call_0 20 rfl rfl)
theorem dX9_call_23 : decode cX9_call 23 = .ok (.aload_n 0, 1) := dk_42 (dk_at dksX9_call_0 23 rfl rfl)
theorem dX9_call_24 : decode cX9_call 24 = .ok (.bipush 44, 2) := dk_16 44 (dk_at dksX9_call_1 0 rfl rfl)
theorem dX9_call_26 : decode cX9_call 26 = .ok (.invokevirtual 385, 3) := dk_182 1 129 (dk_at dksX9_call_1 2 rfl rfl)
theorem dX9_call_29 : decode cX9_call 29 = .ok (.aload_n 0, 1) := dk_42 (dk_at dksX9_call_1 5 rfl rfl)
theorem dX9_call_30 : decode cX9_call 30 = .ok (.iload_n 1, 1) := dk_27 (dk_at dksX9_call_1 6 rfl rfl)
theorem dX9_call_31 : decode cX9_call 31 = .ok (.iconst 5, 1) := dk_8 (dk_at dksX9_call_1 7 rfl rfl)
theorem dX9_call_32 : decode cX9_call 32 = .ok (.bipush 6, 2) := dk_16 6 (dk_at dksX9_call_1 8 rfl rfl)
theorem dX9_call_34 : decode cX9_call 34 = .ok (.invokevirtual 389, 3) := dk_182 1 133 (dk_at dksX9_call_1 10 rfl rfl)
theorem dX9_call_37 : decode cX9_call 37 = .ok (.aload_n 0, 1) := dk_42 (dk_at dksX9_call_1 13 rfl rfl)
theorem dX9_call_38 : decode cX9_call 38 = .ok (.bipush 41, 2) := dk_16 41 (dk_at dksX9_call_1 14 rfl rfl)
theorem dX9_call_40 : decode cX9_call 40 = .ok (.invokevirtual 385, 3) := dk_182 1 129 (dk_at dksX9_call_1 16 rfl rfl)
theorem dX9_call_43 : decode cX9_call 43 = .ok (.aload_n 0, 1) := dk_42 (dk_at dksX9_call_1 19 rfl rfl)
theorem dX9_call_44 : decode cX9_call 44 = .ok (.bipush 59, 2) := dk_16 59 (dk_at dksX9_call_1 20 rfl rfl)
theorem dX9_call_46 : decode cX9_call 46 = .ok (.invokevirtual 385, 3) := dk_182 1 129 (dk_at dksX9_call_2 0 rfl rfl)
theorem dX9_call_49 : decode cX9_call 49 = .ok (.return_, 1) := dk_177 (dk_at dksX9_call_2 3 rfl rfl)
theorem okX9_call_0 : XOkL xms rX9_call bX9_call_0 := xcP (xok_aload_n dX9_call_0 rfl) rfl (xcP (xok_iload_n dX9_call_1 rfl) rfl (xcP (xok_iconst dX9_call_2 rfl) rfl (xcP (xok_aload_n dX9_call_3 rfl) rfl (xcC0 (xokc_list (List.forall_mem_cons.mpr ⟨xokc_V (r := (RX9, TX9, 96)) xm127 (List.mem_of_getElem? (i := 9) rfl) (by decide) rfl dX9_call_4 q2337 q2339 qs77 q149 q2340 (by decide +kernel), fun _ h => nomatch h⟩)) rfl (xcC0 (xokc_list (List.forall_mem_cons.mpr ⟨xokc_V (r := (RX9, TX9, 96)) xm120 (List.mem_of_getElem? (i := 9) rfl) (by decide) rfl dX9_call_7 q2309 q2311 qs70 q149 q2312 (by decide +kernel), fun _ h => nomatch h⟩)) rfl (xcP (xok_aload_n dX9_call_10 rfl) rfl (xcP (xok_bipush dX9_call_11 rfl) rfl (xcC0 (xokc_list (List.forall_mem_cons.mpr ⟨xokc_V (r := (RX9, TX9, 96)) xm116 (List.mem_of_getElem? (i := 9) rfl) (by decide) rfl dX9_call_13 q2293 q2295 qs66 q149 q2296 (by decide +kernel), fun _ h => nomatch h⟩)) rfl (xcP (xok_aload_n dX9_call_16 rfl) rfl (xcP (xok_iload_n dX9_call_17 rfl) rfl (xcP (xok_iconst dX9_call_18 rfl) rfl (xcP (xok_iconst dX9_call_19 rfl) rfl (xcC0 (xokc_list (List.forall_mem_cons.mpr ⟨xokc_V (r := (RX9, TX9, 96)) xm128 (List.mem_of_getElem? (i := 9) rfl) (by decide) rfl dX9_call_20 q2341 q2343 qs78 q149 q2344 (by decide +kernel), fun _ h => nomatch h⟩)) rfl (xcP (xok_aload_n dX9_call_23 rfl) rfl (xcP (xok_bipush dX9_call_24 rfl) rfl (xcC0 (xokc_list (List.forall_mem_cons.mpr ⟨xokc_V (r := (RX9, TX9, 96)) xm116 (List.mem_of_getElem? (i := 9) rfl) (by decide) rfl dX9_call_26 q2293 q2295 qs66 q149 q2296 (by decide +kernel), fun _ h => nomatch h⟩)) rfl (xcP (xok_aload_n dX9_call_29 rfl) rfl (xcP (xok_iload_n dX9_call_30 rfl) rfl (xcP (xok_iconst dX9_call_31 rfl) rfl (xcP (xok_bipush dX9_call_32 rfl) rfl (xcC0 (xokc_list (List.forall_mem_cons.mpr ⟨xokc_V (r := (RX9, TX9, 96)) xm128 (List.mem_of_getElem? (i := 9) rfl) (by decide) rfl dX9_call_34 q2341 q2343 qs78 q149 q2344 (by decide +kernel), fun _ h => nomatch h⟩)) rfl (xcP (xok_aload_n dX9_call_37 rfl) rfl (xcP (xok_bipush dX9_call_38 rfl) rfl (xcC0 (xokc_list (List.forall_mem_cons.mpr ⟨xokc_V (r := (RX9, TX9, 96)) xm116 (List.mem_of_getElem? (i := 9) rfl) (by decide) rfl dX9_call_40 q2293 q2295 qs66 q149 q2296 (by decide +kernel), fun _ h => nomatch h⟩)) rfl (xcP (xok_aload_n dX9_call_43 rfl) rfl (xcP (xok_bipush dX9_call_44 rfl) rfl (xcC0 (xokc_list (List.forall_mem_cons.mpr ⟨xokc_V (r := (RX9, TX9, 96)) xm116 (List.mem_of_getElem? (i := 9) rfl) (by decide) rfl dX9_call_46 q2293 q2295 qs66 q149 q2296 (by decide +kernel), fun _ h => nomatch h⟩)) rfl (xcR ⟨dX9_call_49, rfl⟩))))))))))))))))))))))))))))
theorem okM_X9_call : XOkM xms rX9_call := xokM0 (List.forall_mem_cons.mpr ⟨⟨rfl, okX9_call_0⟩, fun _ h => nomatch h⟩) (xokH0 rfl (fun _ _ => rfl)) (by decide +kernel) (by decide)
abbrev cX9_takeMethod : ByteArray := prog_36_method_23_code
def dkwX9_takeMethod_1 : List UInt8 := [60, 42, 180, 1, 35, 154, 0, 17, 42, 6, 42, 180, 1, 23, 27, 182, 1, 60, 42, 182, 1, 54, 27, 172]
abbrev dktX9_takeMethod_1 : List UInt8 := dkwX9_takeMethod_1 ++ []
def dkwX9_takeMethod_0 : List UInt8 := [42, 180, 1, 35, 154, 0, 16, 42, 16, 109, 182, 1, 57, 154, 0, 7, 42, 182, 1, 51, 42, 180, 0, 250]
abbrev dktX9_takeMethod_0 : List UInt8 := dkwX9_takeMethod_0 ++ dktX9_takeMethod_1
theorem dksX9_takeMethod_0 : cX9_takeMethod.data.toList.drop 0 = dktX9_takeMethod_0 := by decide +kernel
theorem dksX9_takeMethod_1 : cX9_takeMethod.data.toList.drop 24 = dktX9_takeMethod_1 := dk_seg dksX9_takeMethod_0 24 rfl rfl
theorem dX9_takeMethod_0 : decode cX9_takeMethod 0 = .ok (.aload_n 0, 1) := dk_42 (dk_at dksX9_takeMethod_0 0 rfl rfl)
theorem dX9_takeMethod_1 : decode cX9_takeMethod 1 = .ok (.getfield 291, 3) := dk_180 1 35 (dk_at dksX9_takeMethod_0 1 rfl rfl)
theorem dX9_takeMethod_4 : decode cX9_takeMethod 4 = .ok (.ifCond .ne 16, 3) := dk_154 0 16 (dk_at dksX9_takeMethod_0 4 rfl rfl)
theorem dX9_takeMethod_7 : decode cX9_takeMethod 7 = .ok (.aload_n 0, 1) := dk_42 (dk_at dksX9_takeMethod_0 7 rfl rfl)
theorem dX9_takeMethod_8 : decode cX9_takeMethod 8 = .ok (.bipush 109, 2) := dk_16 109 (dk_at dksX9_takeMethod_0 8 rfl rfl)
theorem dX9_takeMethod_10 : decode cX9_takeMethod 10 = .ok (.invokevirtual 313, 3) := dk_182 1 57 (dk_at dksX9_takeMethod_0 10 rfl rfl)
theorem dX9_takeMethod_13 : decode cX9_takeMethod 13 = .ok (.ifCond .ne 7, 3) := dk_154 0 7 (dk_at dksX9_takeMethod_0 13 rfl rfl)
theorem dX9_takeMethod_16 : decode cX9_takeMethod 16 = .ok (.aload_n 0, 1) := dk_42 (dk_at dksX9_takeMethod_0 16 rfl rfl)
theorem dX9_takeMethod_17 : decode cX9_takeMethod 17 = .ok (.invokevirtual 307, 3) := dk_182 1 51 (dk_at dksX9_takeMethod_0 17 rfl rfl)
theorem dX9_takeMethod_20 : decode cX9_takeMethod 20 = .ok (.aload_n 0, 1) := dk_42 (dk_at dksX9_takeMethod_0 20 rfl rfl)
theorem dX9_takeMethod_21 : decode cX9_takeMethod 21 = .ok (.getfield 250, 3) := dk_180 0 250 (dk_at dksX9_takeMethod_0 21 rfl rfl)
theorem dX9_takeMethod_24 : decode cX9_takeMethod 24 = .ok (.istore_n 1, 1) := dk_60 (dk_at dksX9_takeMethod_1 0 rfl rfl)
theorem dX9_takeMethod_25 : decode cX9_takeMethod 25 = .ok (.aload_n 0, 1) := dk_42 (dk_at dksX9_takeMethod_1 1 rfl rfl)
theorem dX9_takeMethod_26 : decode cX9_takeMethod 26 = .ok (.getfield 291, 3) := dk_180 1 35 (dk_at dksX9_takeMethod_1 2 rfl rfl)
theorem dX9_takeMethod_29 : decode cX9_takeMethod 29 = .ok (.ifCond .ne 17, 3) := dk_154 0 17 (dk_at dksX9_takeMethod_1 5 rfl rfl)
theorem dX9_takeMethod_32 : decode cX9_takeMethod 32 = .ok (.aload_n 0, 1) := dk_42 (dk_at dksX9_takeMethod_1 8 rfl rfl)
theorem dX9_takeMethod_33 : decode cX9_takeMethod 33 = .ok (.iconst 3, 1) := dk_6 (dk_at dksX9_takeMethod_1 9 rfl rfl)
theorem dX9_takeMethod_34 : decode cX9_takeMethod 34 = .ok (.aload_n 0, 1) := dk_42 (dk_at dksX9_takeMethod_1 10 rfl rfl)
theorem dX9_takeMethod_35 : decode cX9_takeMethod 35 = .ok (.getfield 279, 3) := dk_180 1 23 (dk_at dksX9_takeMethod_1 11 rfl rfl)
theorem dX9_takeMethod_38 : decode cX9_takeMethod 38 = .ok (.iload_n 1, 1) := dk_27 (dk_at dksX9_takeMethod_1 14 rfl rfl)
theorem dX9_takeMethod_39 : decode cX9_takeMethod 39 = .ok (.invokevirtual 316, 3) := dk_182 1 60 (dk_at dksX9_takeMethod_1 15 rfl rfl)
theorem dX9_takeMethod_42 : decode cX9_takeMethod 42 = .ok (.aload_n 0, 1) := dk_42 (dk_at dksX9_takeMethod_1 18 rfl rfl)
theorem dX9_takeMethod_43 : decode cX9_takeMethod 43 = .ok (.invokevirtual 310, 3) := dk_182 1 54 (dk_at dksX9_takeMethod_1 19 rfl rfl)
theorem dX9_takeMethod_46 : decode cX9_takeMethod 46 = .ok (.iload_n 1, 1) := dk_27 (dk_at dksX9_takeMethod_1 22 rfl rfl)
theorem dX9_takeMethod_47 : decode cX9_takeMethod 47 = .ok (.ireturn, 1) := dk_172 (dk_at dksX9_takeMethod_1 23 rfl rfl)
theorem okX9_takeMethod_0 : XOkL xms rX9_takeMethod bX9_takeMethod_0 := xcP (xok_aload_n dX9_takeMethod_0 rfl) rfl (xcP (xok_getfield (ref := "WaysAtlasModel") (Or.inl ⟨rfl, by decide⟩) dX9_takeMethod_1 (Or.inl ⟨q1955, (Or.inl rfl)⟩) xh49) rfl (xcP (xok_ifne dX9_takeMethod_4 (by decide)) rfl (xcP (xok_aload_n dX9_takeMethod_7 rfl) rfl (xcP (xok_bipush dX9_takeMethod_8 rfl) rfl (xcC0 (xokc_list (List.forall_mem_cons.mpr ⟨xokc_V (r := (RX9, TX9, 96)) xm114 (List.mem_of_getElem? (i := 9) rfl) (by decide) rfl dX9_takeMethod_10 q2285 q2287 qs64 q149 q2288 (by decide +kernel), fun _ h => nomatch h⟩)) rfl (xcP (xok_ifne dX9_takeMethod_13 (by decide)) rfl (xcP (xok_aload_n dX9_takeMethod_16 rfl) rfl (xcC0 (xokc_list (List.forall_mem_cons.mpr ⟨xokc_V (r := (RX9, TX9, 96)) xm112 (List.mem_of_getElem? (i := 9) rfl) (by decide) rfl dX9_takeMethod_17 q2277 q2279 qs62 q149 q2280 (by decide +kernel), fun _ h => nomatch h⟩)) rfl (xcP xok_fal rfl trivial)))))))))
theorem okX9_takeMethod_20 : XOkL xms rX9_takeMethod bX9_takeMethod_20 := xcP (xok_aload_n dX9_takeMethod_20 rfl) rfl (xcP (xok_getfield (ref := "WaysAtlasModel") (Or.inl ⟨rfl, by decide⟩) dX9_takeMethod_21 (Or.inl ⟨q1936, (Or.inl rfl)⟩) xh43) rfl (xcP (xok_istore_n dX9_takeMethod_24 rfl) rfl (xcP (xok_aload_n dX9_takeMethod_25 rfl) rfl (xcP (xok_getfield (ref := "WaysAtlasModel") (Or.inl ⟨rfl, by decide⟩) dX9_takeMethod_26 (Or.inl ⟨q1955, (Or.inl rfl)⟩) xh49) rfl (xcP (xok_ifne dX9_takeMethod_29 (by decide)) rfl (xcP (xok_aload_n dX9_takeMethod_32 rfl) rfl (xcP (xok_iconst dX9_takeMethod_33 rfl) rfl (xcP (xok_aload_n dX9_takeMethod_34 rfl) rfl (xcP (xok_getfield (ref := "WaysAtlasModel") (Or.inl ⟨rfl, by decide⟩) dX9_takeMethod_35 (Or.inl ⟨q1934, (Or.inl rfl)⟩) xh41) rfl (xcP (xok_iload_n dX9_takeMethod_38 rfl) rfl (xcC0 (xokc_list (List.forall_mem_cons.mpr ⟨xokc_V (r := (RX9, TX9, 96)) xm115 (List.mem_of_getElem? (i := 9) rfl) (by decide) rfl dX9_takeMethod_39 q2289 q2291 qs65 q149 q2292 (by decide +kernel), fun _ h => nomatch h⟩)) rfl (xcP (xok_aload_n dX9_takeMethod_42 rfl) rfl (xcC0 (xokc_list (List.forall_mem_cons.mpr ⟨xokc_V (r := (RX9, TX9, 96)) xm102 (List.mem_of_getElem? (i := 9) rfl) (by decide) rfl dX9_takeMethod_43 q2235 q2237 qs53 q149 q2238 (by decide +kernel), fun _ h => nomatch h⟩)) rfl (xcP xok_fal rfl trivial))))))))))))))
theorem okX9_takeMethod_46 : XOkL xms rX9_takeMethod bX9_takeMethod_46 := xcP (xok_iload_n dX9_takeMethod_46 rfl) rfl (xcR ⟨dX9_takeMethod_47, rfl⟩)
theorem okM_X9_takeMethod : XOkM xms rX9_takeMethod := xokM0 (List.forall_mem_cons.mpr ⟨⟨rfl, okX9_takeMethod_0⟩, List.forall_mem_cons.mpr ⟨⟨rfl, okX9_takeMethod_20⟩, List.forall_mem_cons.mpr ⟨⟨rfl, okX9_takeMethod_46⟩, fun _ h => nomatch h⟩⟩⟩) (xokH0 rfl (fun _ _ => rfl)) (by decide +kernel) (by decide)
abbrev cX9_sumOf : ByteArray := prog_36_method_38_code
def dkwX9_sumOf_1 : List UInt8 := [177]
abbrev dktX9_sumOf_1 : List UInt8 := dkwX9_sumOf_1 ++ []
def dkwX9_sumOf_0 : List UInt8 := [42, 27, 28, 42, 180, 1, 64, 182, 1, 120, 42, 182, 1, 123, 42, 27, 29, 42, 180, 1, 64, 182, 1, 120]
abbrev dktX9_sumOf_0 : List UInt8 := dkwX9_sumOf_0 ++ dktX9_sumOf_1
theorem dksX9_sumOf_0 : cX9_sumOf.data.toList.drop 0 = dktX9_sumOf_0 := by decide +kernel
theorem dksX9_sumOf_1 : cX9_sumOf.data.toList.drop 24 = dktX9_sumOf_1 := dk_seg dksX9_sumOf_0 24 rfl rfl
theorem dX9_sumOf_0 : decode cX9_sumOf 0 = .ok (.aload_n 0, 1) := dk_42 (dk_at dksX9_sumOf_0 0 rfl rfl)
theorem dX9_sumOf_1 : decode cX9_sumOf 1 = .ok (.iload_n 1, 1) := dk_27 (dk_at dksX9_sumOf_0 1 rfl rfl)
theorem dX9_sumOf_2 : decode cX9_sumOf 2 = .ok (.iload_n 2, 1) := dk_28 (dk_at dksX9_sumOf_0 2 rfl rfl)
theorem dX9_sumOf_3 : decode cX9_sumOf 3 = .ok (.aload_n 0, 1) := dk_42 (dk_at dksX9_sumOf_0 3 rfl rfl)
theorem dX9_sumOf_4 : decode cX9_sumOf 4 = .ok (.getfield 320, 3) := dk_180 1 64 (dk_at dksX9_sumOf_0 4 rfl rfl)
theorem dX9_sumOf_7 : decode cX9_sumOf 7 = .ok (.invokevirtual 376, 3) := dk_182 1 120 (dk_at dksX9_sumOf_0 7 rfl rfl)
theorem dX9_sumOf_10 : decode cX9_sumOf 10 = .ok (.aload_n 0, 1) := dk_42 (dk_at dksX9_sumOf_0 10 rfl rfl)
theorem dX9_sumOf_11 : decode cX9_sumOf 11 = .ok (.invokevirtual 379, 3) := dk_182 1 123 (dk_at dksX9_sumOf_0 11 rfl rfl)
theorem dX9_sumOf_14 : decode cX9_sumOf 14 = .ok (.aload_n 0, 1) := dk_42 (dk_at dksX9_sumOf_0 14 rfl rfl)
theorem dX9_sumOf_15 : decode cX9_sumOf 15 = .ok (.iload_n 1, 1) := dk_27 (dk_at dksX9_sumOf_0 15 rfl rfl)
theorem dX9_sumOf_16 : decode cX9_sumOf 16 = .ok (.iload_n 3, 1) := dk_29 (dk_at dksX9_sumOf_0 16 rfl rfl)
theorem dX9_sumOf_17 : decode cX9_sumOf 17 = .ok (.aload_n 0, 1) := dk_42 (dk_at dksX9_sumOf_0 17 rfl rfl)
theorem dX9_sumOf_18 : decode cX9_sumOf 18 = .ok (.getfield 320, 3) := dk_180 1 64 (dk_at dksX9_sumOf_0 18 rfl rfl)
theorem dX9_sumOf_21 : decode cX9_sumOf 21 = .ok (.invokevirtual 376, 3) := dk_182 1 120 (dk_at dksX9_sumOf_0 21 rfl rfl)
theorem dX9_sumOf_24 : decode cX9_sumOf 24 = .ok (.return_, 1) := dk_177 (dk_at dksX9_sumOf_1 0 rfl rfl)
theorem okX9_sumOf_0 : XOkL xms rX9_sumOf bX9_sumOf_0 := xcP (xok_aload_n dX9_sumOf_0 rfl) rfl (xcP (xok_iload_n dX9_sumOf_1 rfl) rfl (xcP (xok_iload_n dX9_sumOf_2 rfl) rfl (xcP (xok_aload_n dX9_sumOf_3 rfl) rfl (xcP (xok_getfield (ref := "WaysAtlasModel") (Or.inl ⟨rfl, by decide⟩) dX9_sumOf_4 (Or.inl ⟨q1953, (Or.inl rfl)⟩) xh47) rfl (xcC0 (xokc_list (List.forall_mem_cons.mpr ⟨xokc_V (r := (RX9, TX9, 96)) xm120 (List.mem_of_getElem? (i := 9) rfl) (by decide) rfl dX9_sumOf_7 q2309 q2311 qs70 q149 q2312 (by decide +kernel), fun _ h => nomatch h⟩)) rfl (xcP (xok_aload_n dX9_sumOf_10 rfl) rfl (xcC0 (xokc_list (List.forall_mem_cons.mpr ⟨xokc_V (r := (RX9, TX9, 96)) xm129 (List.mem_of_getElem? (i := 9) rfl) (by decide) rfl dX9_sumOf_11 q2345 q2347 qs79 q149 q2348 (by decide +kernel), fun _ h => nomatch h⟩)) rfl (xcP (xok_aload_n dX9_sumOf_14 rfl) rfl (xcP (xok_iload_n dX9_sumOf_15 rfl) rfl (xcP (xok_iload_n dX9_sumOf_16 rfl) rfl (xcP (xok_aload_n dX9_sumOf_17 rfl) rfl (xcP (xok_getfield (ref := "WaysAtlasModel") (Or.inl ⟨rfl, by decide⟩) dX9_sumOf_18 (Or.inl ⟨q1953, (Or.inl rfl)⟩) xh47) rfl (xcC0 (xokc_list (List.forall_mem_cons.mpr ⟨xokc_V (r := (RX9, TX9, 96)) xm120 (List.mem_of_getElem? (i := 9) rfl) (by decide) rfl dX9_sumOf_21 q2309 q2311 qs70 q149 q2312 (by decide +kernel), fun _ h => nomatch h⟩)) rfl (xcR ⟨dX9_sumOf_24, rfl⟩))))))))))))))
theorem okM_X9_sumOf : XOkM xms rX9_sumOf := xokM0 (List.forall_mem_cons.mpr ⟨⟨rfl, okX9_sumOf_0⟩, fun _ h => nomatch h⟩) (xokH0 rfl (fun _ _ => rfl)) (by decide +kernel) (by decide)
