set_option maxRecDepth 100000
abbrev cX5_init : ByteArray := prog_23_method_1_code
def dkwX5_init_8 : List UInt8 := [89, 183, 0, 82, 83, 132, 2, 1, 167, 255, 234, 177]
abbrev dktX5_init_8 : List UInt8 := dkwX5_init_8 ++ []
def dkwX5_init_7 : List UInt8 := [181, 0, 74, 42, 43, 181, 0, 78, 3, 61, 28, 16, 12, 162, 0, 22, 42, 180, 0, 11, 28, 187, 0, 9]
abbrev dktX5_init_7 : List UInt8 := dkwX5_init_7 ++ dktX5_init_8
def dkwX5_init_6 : List UInt8 := [16, 247, 181, 0, 60, 42, 187, 0, 64, 89, 183, 0, 66, 181, 0, 67, 42, 187, 0, 71, 89, 183, 0, 73]
abbrev dktX5_init_6 : List UInt8 := dkwX5_init_6 ++ dktX5_init_7
def dkwX5_init_5 : List UInt8 := [188, 10, 181, 0, 51, 42, 17, 1, 145, 188, 10, 181, 0, 54, 42, 17, 12, 136, 188, 10, 181, 0, 57, 42]
abbrev dktX5_init_5 : List UInt8 := dkwX5_init_5 ++ dktX5_init_6
def dkwX5_init_4 : List UInt8 := [181, 0, 42, 42, 16, 80, 188, 10, 181, 0, 45, 42, 17, 2, 48, 188, 10, 181, 0, 48, 42, 16, 120]
abbrev dktX5_init_4 : List UInt8 := dkwX5_init_4 ++ dktX5_init_5
def dkwX5_init_3 : List UInt8 := [17, 1, 145, 188, 10, 181, 0, 36, 42, 17, 18, 204, 188, 10, 181, 0, 39, 42, 17, 1, 144, 188, 10]
abbrev dktX5_init_3 : List UInt8 := dkwX5_init_3 ++ dktX5_init_4
def dkwX5_init_2 : List UInt8 := [181, 0, 27, 42, 17, 1, 145, 188, 10, 181, 0, 30, 42, 17, 1, 145, 188, 10, 181, 0, 33, 42]
abbrev dktX5_init_2 : List UInt8 := dkwX5_init_2 ++ dktX5_init_3
def dkwX5_init_1 : List UInt8 := [17, 1, 145, 188, 10, 181, 0, 21, 42, 17, 1, 145, 188, 10, 181, 0, 24, 42, 17, 1, 145, 188, 10]
abbrev dktX5_init_1 : List UInt8 := dkwX5_init_1 ++ dktX5_init_2
def dkwX5_init_0 : List UInt8 := [42, 183, 0, 3, 42, 16, 12, 189, 0, 9, 181, 0, 11, 42, 17, 1, 144, 188, 10, 181, 0, 17, 42]
abbrev dktX5_init_0 : List UInt8 := dkwX5_init_0 ++ dktX5_init_1
theorem dksX5_init_0 : cX5_init.data.toList.drop 0 = dktX5_init_0 := by decide +kernel
theorem dksX5_init_1 : cX5_init.data.toList.drop 23 = dktX5_init_1 := dk_seg dksX5_init_0 23 rfl rfl
theorem dksX5_init_2 : cX5_init.data.toList.drop 46 = dktX5_init_2 := dk_seg dksX5_init_1 23 rfl rfl
theorem dksX5_init_3 : cX5_init.data.toList.drop 68 = dktX5_init_3 := dk_seg dksX5_init_2 22 rfl rfl
theorem dksX5_init_4 : cX5_init.data.toList.drop 91 = dktX5_init_4 := dk_seg dksX5_init_3 23 rfl rfl
theorem dksX5_init_5 : cX5_init.data.toList.drop 114 = dktX5_init_5 := dk_seg dksX5_init_4 23 rfl rfl
theorem dksX5_init_6 : cX5_init.data.toList.drop 138 = dktX5_init_6 := dk_seg dksX5_init_5 24 rfl rfl
theorem dksX5_init_7 : cX5_init.data.toList.drop 162 = dktX5_init_7 := dk_seg dksX5_init_6 24 rfl rfl
theorem dksX5_init_8 : cX5_init.data.toList.drop 186 = dktX5_init_8 := dk_seg dksX5_init_7 24 rfl rfl
theorem dX5_init_0 : decode cX5_init 0 = .ok (.aload_n 0, 1) := dk_42 (dk_at dksX5_init_0 0 rfl rfl)
theorem dX5_init_1 : decode cX5_init 1 = .ok (.invokespecial 3, 3) := dk_183 0 3 (dk_at dksX5_init_0 1 rfl rfl)
theorem dX5_init_4 : decode cX5_init 4 = .ok (.aload_n 0, 1) := dk_42 (dk_at dksX5_init_0 4 rfl rfl)
theorem dX5_init_5 : decode cX5_init 5 = .ok (.bipush 12, 2) := dk_16 12 (dk_at dksX5_init_0 5 rfl rfl)
theorem dX5_init_7 : decode cX5_init 7 = .ok (.anewarray 9, 3) := dk_189 0 9 (dk_at dksX5_init_0 7 rfl rfl)
theorem dX5_init_10 : decode cX5_init 10 = .ok (.putfield 11, 3) := dk_181 0 11 (dk_at dksX5_init_0 10 rfl rfl)
theorem dX5_init_13 : decode cX5_init 13 = .ok (.aload_n 0, 1) := dk_42 (dk_at dksX5_init_0 13 rfl rfl)
theorem dX5_init_14 : decode cX5_init 14 = .ok (.sipush 400, 3) := dk_17 1 144 (dk_at dksX5_init_0 14 rfl rfl)
theorem dX5_init_17 : decode cX5_init 17 = .ok (.newarray .int, 2) := dk_188_10 (dk_at dksX5_init_0 17 rfl rfl)
theorem dX5_init_19 : decode cX5_init 19 = .ok (.putfield 17, 3) := dk_181 0 17 (dk_at dksX5_init_0 19 rfl rfl)
theorem dX5_init_22 : decode cX5_init 22 = .ok (.aload_n 0, 1) := dk_42 (dk_at dksX5_init_0 22 rfl rfl)
theorem dX5_init_23 : decode cX5_init 23 = .ok (.sipush 401, 3) := dk_17 1 145 (dk_at dksX5_init_1 0 rfl rfl)
theorem dX5_init_26 : decode cX5_init 26 = .ok (.newarray .int, 2) := dk_188_10 (dk_at dksX5_init_1 3 rfl rfl)
theorem dX5_init_28 : decode cX5_init 28 = .ok (.putfield 21, 3) := dk_181 0 21 (dk_at dksX5_init_1 5 rfl rfl)
theorem dX5_init_31 : decode cX5_init 31 = .ok (.aload_n 0, 1) := dk_42 (dk_at dksX5_init_1 8 rfl rfl)
theorem dX5_init_32 : decode cX5_init 32 = .ok (.sipush 401, 3) := dk_17 1 145 (dk_at dksX5_init_1 9 rfl rfl)
theorem dX5_init_35 : decode cX5_init 35 = .ok (.newarray .int, 2) := dk_188_10 (dk_at dksX5_init_1 12 rfl rfl)
theorem dX5_init_37 : decode cX5_init 37 = .ok (.putfield 24, 3) := dk_181 0 24 (dk_at dksX5_init_1 14 rfl rfl)
theorem dX5_init_40 : decode cX5_init 40 = .ok (.aload_n 0, 1) := dk_42 (dk_at dksX5_init_1 17 rfl rfl)
theorem dX5_init_41 : decode cX5_init 41 = .ok (.sipush 401, 3) := dk_17 1 145 (dk_at dksX5_init_1 18 rfl rfl)
theorem dX5_init_44 : decode cX5_init 44 = .ok (.newarray .int, 2) := dk_188_10 (dk_at dksX5_init_1 21 rfl rfl)
theorem dX5_init_46 : decode cX5_init 46 = .ok (.putfield 27, 3) := dk_181 0 27 (dk_at dksX5_init_2 0 rfl rfl)
theorem dX5_init_49 : decode cX5_init 49 = .ok (.aload_n 0, 1) := dk_42 (dk_at dksX5_init_2 3 rfl rfl)
theorem dX5_init_50 : decode cX5_init 50 = .ok (.sipush 401, 3) := dk_17 1 145 (dk_at dksX5_init_2 4 rfl rfl)
theorem dX5_init_53 : decode cX5_init 53 = .ok (.newarray .int, 2) := dk_188_10 (dk_at dksX5_init_2 7 rfl rfl)
theorem dX5_init_55 : decode cX5_init 55 = .ok (.putfield 30, 3) := dk_181 0 30 (dk_at dksX5_init_2 9 rfl rfl)
theorem dX5_init_58 : decode cX5_init 58 = .ok (.aload_n 0, 1) := dk_42 (dk_at dksX5_init_2 12 rfl rfl)
theorem dX5_init_59 : decode cX5_init 59 = .ok (.sipush 401, 3) := dk_17 1 145 (dk_at dksX5_init_2 13 rfl rfl)
theorem dX5_init_62 : decode cX5_init 62 = .ok (.newarray .int, 2) := dk_188_10 (dk_at dksX5_init_2 16 rfl rfl)
theorem dX5_init_64 : decode cX5_init 64 = .ok (.putfield 33, 3) := dk_181 0 33 (dk_at dksX5_init_2 18 rfl rfl)
theorem dX5_init_67 : decode cX5_init 67 = .ok (.aload_n 0, 1) := dk_42 (dk_at dksX5_init_2 21 rfl rfl)
theorem dX5_init_68 : decode cX5_init 68 = .ok (.sipush 401, 3) := dk_17 1 145 (dk_at dksX5_init_3 0 rfl rfl)
theorem dX5_init_71 : decode cX5_init 71 = .ok (.newarray .int, 2) := dk_188_10 (dk_at dksX5_init_3 3 rfl rfl)
theorem dX5_init_73 : decode cX5_init 73 = .ok (.putfield 36, 3) := dk_181 0 36 (dk_at dksX5_init_3 5 rfl rfl)
theorem dX5_init_76 : decode cX5_init 76 = .ok (.aload_n 0, 1) := dk_42 (dk_at dksX5_init_3 8 rfl rfl)
theorem dX5_init_77 : decode cX5_init 77 = .ok (.sipush 4812, 3) := dk_17 18 204 (dk_at dksX5_init_3 9 rfl rfl)
theorem dX5_init_80 : decode cX5_init 80 = .ok (.newarray .int, 2) := dk_188_10 (dk_at dksX5_init_3 12 rfl rfl)
theorem dX5_init_82 : decode cX5_init 82 = .ok (.putfield 39, 3) := dk_181 0 39 (dk_at dksX5_init_3 14 rfl rfl)
theorem dX5_init_85 : decode cX5_init 85 = .ok (.aload_n 0, 1) := dk_42 (dk_at dksX5_init_3 17 rfl rfl)
theorem dX5_init_86 : decode cX5_init 86 = .ok (.sipush 400, 3) := dk_17 1 144 (dk_at dksX5_init_3 18 rfl rfl)
theorem dX5_init_89 : decode cX5_init 89 = .ok (.newarray .int, 2) := dk_188_10 (dk_at dksX5_init_3 21 rfl rfl)
theorem dX5_init_91 : decode cX5_init 91 = .ok (.putfield 42, 3) := dk_181 0 42 (dk_at dksX5_init_4 0 rfl rfl)
theorem dX5_init_94 : decode cX5_init 94 = .ok (.aload_n 0, 1) := dk_42 (dk_at dksX5_init_4 3 rfl rfl)
theorem dX5_init_95 : decode cX5_init 95 = .ok (.bipush 80, 2) := dk_16 80 (dk_at dksX5_init_4 4 rfl rfl)
theorem dX5_init_97 : decode cX5_init 97 = .ok (.newarray .int, 2) := dk_188_10 (dk_at dksX5_init_4 6 rfl rfl)
theorem dX5_init_99 : decode cX5_init 99 = .ok (.putfield 45, 3) := dk_181 0 45 (dk_at dksX5_init_4 8 rfl rfl)
theorem dX5_init_102 : decode cX5_init 102 = .ok (.aload_n 0, 1) := dk_42 (dk_at dksX5_init_4 11 rfl rfl)
theorem dX5_init_103 : decode cX5_init 103 = .ok (.sipush 560, 3) := dk_17 2 48 (dk_at dksX5_init_4 12 rfl rfl)
theorem dX5_init_106 : decode cX5_init 106 = .ok (.newarray .int, 2) := dk_188_10 (dk_at dksX5_init_4 15 rfl rfl)
theorem dX5_init_108 : decode cX5_init 108 = .ok (.putfield 48, 3) := dk_181 0 48 (dk_at dksX5_init_4 17 rfl rfl)
theorem dX5_init_111 : decode cX5_init 111 = .ok (.aload_n 0, 1) := dk_42 (dk_at dksX5_init_4 20 rfl rfl)
theorem dX5_init_112 : decode cX5_init 112 = .ok (.bipush 120, 2) := dk_16 120 (dk_at dksX5_init_4 21 rfl rfl)
theorem dX5_init_114 : decode cX5_init 114 = .ok (.newarray .int, 2) := dk_188_10 (dk_at dksX5_init_5 0 rfl rfl)
theorem dX5_init_116 : decode cX5_init 116 = .ok (.putfield 51, 3) := dk_181 0 51 (dk_at dksX5_init_5 2 rfl rfl)
theorem dX5_init_119 : decode cX5_init 119 = .ok (.aload_n 0, 1) := dk_42 (dk_at dksX5_init_5 5 rfl rfl)
theorem dX5_init_120 : decode cX5_init 120 = .ok (.sipush 401, 3) := dk_17 1 145 (dk_at dksX5_init_5 6 rfl rfl)
theorem dX5_init_123 : decode cX5_init 123 = .ok (.newarray .int, 2) := dk_188_10 (dk_at dksX5_init_5 9 rfl rfl)
theorem dX5_init_125 : decode cX5_init 125 = .ok (.putfield 54, 3) := dk_181 0 54 (dk_at dksX5_init_5 11 rfl rfl)
theorem dX5_init_128 : decode cX5_init 128 = .ok (.aload_n 0, 1) := dk_42 (dk_at dksX5_init_5 14 rfl rfl)
theorem dX5_init_129 : decode cX5_init 129 = .ok (.sipush 3208, 3) := dk_17 12 136 (dk_at dksX5_init_5 15 rfl rfl)
theorem dX5_init_132 : decode cX5_init 132 = .ok (.newarray .int, 2) := dk_188_10 (dk_at dksX5_init_5 18 rfl rfl)
theorem dX5_init_134 : decode cX5_init 134 = .ok (.putfield 57, 3) := dk_181 0 57 (dk_at dksX5_init_5 20 rfl rfl)
theorem dX5_init_137 : decode cX5_init 137 = .ok (.aload_n 0, 1) := dk_42 (dk_at dksX5_init_5 23 rfl rfl)
theorem dX5_init_138 : decode cX5_init 138 = .ok (.bipush (-9), 2) := dk_16 247 (dk_at dksX5_init_6 0 rfl rfl)
theorem dX5_init_140 : decode cX5_init 140 = .ok (.putfield 60, 3) := dk_181 0 60 (dk_at dksX5_init_6 2 rfl rfl)
theorem dX5_init_143 : decode cX5_init 143 = .ok (.aload_n 0, 1) := dk_42 (dk_at dksX5_init_6 5 rfl rfl)
theorem dX5_init_144 : decode cX5_init 144 = .ok (.new 64, 3) := dk_187 0 64 (dk_at dksX5_init_6 6 rfl rfl)
theorem dX5_init_147 : decode cX5_init 147 = .ok (.dup, 1) := dk_89 (dk_at dksX5_init_6 9 rfl rfl)
theorem dX5_init_148 : decode cX5_init 148 = .ok (.invokespecial 66, 3) := dk_183 0 66 (dk_at dksX5_init_6 10 rfl rfl)
theorem dX5_init_151 : decode cX5_init 151 = .ok (.putfield 67, 3) := dk_181 0 67 (dk_at dksX5_init_6 13 rfl rfl)
theorem dX5_init_154 : decode cX5_init 154 = .ok (.aload_n 0, 1) := dk_42 (dk_at dksX5_init_6 16 rfl rfl)
theorem dX5_init_155 : decode cX5_init 155 = .ok (.new 71, 3) := dk_187 0 71 (dk_at dksX5_init_6 17 rfl rfl)
theorem dX5_init_158 : decode cX5_init 158 = .ok (.dup, 1) := dk_89 (dk_at dksX5_init_6 20 rfl rfl)
theorem dX5_init_159 : decode cX5_init 159 = .ok (.invokespecial 73, 3) := dk_183 0 73 (dk_at dksX5_init_6 21 rfl rfl)
theorem dX5_init_162 : decode cX5_init 162 = .ok (.putfield 74, 3) := dk_181 0 74 (dk_at dksX5_init_7 0 rfl rfl)
theorem dX5_init_165 : decode cX5_init 165 = .ok (.aload_n 0, 1) := dk_42 (dk_at dksX5_init_7 3 rfl rfl)
theorem dX5_init_166 : decode cX5_init 166 = .ok (.aload_n 1, 1) := dk_43 (dk_at dksX5_init_7 4 rfl rfl)
theorem dX5_init_167 : decode cX5_init 167 = .ok (.putfield 78, 3) := dk_181 0 78 (dk_at dksX5_init_7 5 rfl rfl)
theorem dX5_init_170 : decode cX5_init 170 = .ok (.iconst 0, 1) := dk_3 (dk_at dksX5_init_7 8 rfl rfl)
theorem dX5_init_171 : decode cX5_init 171 = .ok (.istore_n 2, 1) := dk_61 (dk_at dksX5_init_7 9 rfl rfl)
theorem dX5_init_172 : decode cX5_init 172 = .ok (.iload_n 2, 1) := dk_28 (dk_at dksX5_init_7 10 rfl rfl)
theorem dX5_init_173 : decode cX5_init 173 = .ok (.bipush 12, 2) := dk_16 12 (dk_at dksX5_init_7 11 rfl rfl)
theorem dX5_init_175 : decode cX5_init 175 = .ok (.if_icmp .ge 22, 3) := dk_162 0 22 (dk_at dksX5_init_7 13 rfl rfl)
theorem dX5_init_178 : decode cX5_init 178 = .ok (.aload_n 0, 1) := dk_42 (dk_at dksX5_init_7 16 rfl rfl)
theorem dX5_init_179 : decode cX5_init 179 = .ok (.getfield 11, 3) := dk_180 0 11 (dk_at dksX5_init_7 17 rfl rfl)
theorem dX5_init_182 : decode cX5_init 182 = .ok (.iload_n 2, 1) := dk_28 (dk_at dksX5_init_7 20 rfl rfl)
theorem dX5_init_183 : decode cX5_init 183 = .ok (.new 9, 3) := dk_187 0 9 (dk_at dksX5_init_7 21 rfl rfl)
theorem dX5_init_186 : decode cX5_init 186 = .ok (.dup, 1) := dk_89 (dk_at dksX5_init_8 0 rfl rfl)
theorem dX5_init_187 : decode cX5_init 187 = .ok (.invokespecial 82, 3) := dk_183 0 82 (dk_at dksX5_init_8 1 rfl rfl)
theorem dX5_init_190 : decode cX5_init 190 = .ok (.aastore, 1) := dk_83 (dk_at dksX5_init_8 4 rfl rfl)
theorem dX5_init_191 : decode cX5_init 191 = .ok (.iinc 2 1, 3) := dk_132 2 1 (dk_at dksX5_init_8 5 rfl rfl)
theorem dX5_init_194 : decode cX5_init 194 = .ok (.goto (-22), 3) := dk_167 255 234 (dk_at dksX5_init_8 8 rfl rfl)
theorem dX5_init_197 : decode cX5_init 197 = .ok (.return_, 1) := dk_177 (dk_at dksX5_init_8 11 rfl rfl)
theorem okX5_init_0 : XOkL xms rX5_init bX5_init_0 := xcP (xok_aload_n dX5_init_0 rfl) rfl (xcP (xok_objInit dX5_init_1 q361 q186 q187) rfl (xcP (xok_aload_n dX5_init_4 rfl) rfl (xcP (xok_bipush dX5_init_5 rfl) rfl (xcP (xok_anewarray (by decide) (by decide) rfl dX5_init_7 q362 (List.mem_of_getElem? (i := 1) rfl)) rfl (xcP (xok_putfield (ref := "WaysAtlas$Run") (Or.inr (Or.inr ⟨rfl, by decide, rfl⟩)) dX5_init_10 (Or.inl ⟨q501, (Or.inl rfl)⟩) (Or.inr ⟨rfl, rfl, ⟨q501, (Or.inl rfl)⟩⟩) xh1031) rfl (xcP (xok_aload_n dX5_init_13 rfl) rfl (xcP (xok_sipush dX5_init_14 rfl) rfl (xcP (xok_newarray (atype := .int) (by decide) rfl dX5_init_17 q222) rfl (xcP (xok_putfield (ref := "WaysAtlas$Run") (Or.inr (Or.inr ⟨rfl, by decide, rfl⟩)) dX5_init_19 (Or.inl ⟨q509, (Or.inl rfl)⟩) (Or.inr ⟨rfl, rfl, ⟨q509, (Or.inl rfl)⟩⟩) xh1032) rfl (xcP (xok_aload_n dX5_init_22 rfl) rfl (xcP (xok_sipush dX5_init_23 rfl) rfl (xcP (xok_newarray (atype := .int) (by decide) rfl dX5_init_26 q222) rfl (xcP (xok_putfield (ref := "WaysAtlas$Run") (Or.inr (Or.inr ⟨rfl, by decide, rfl⟩)) dX5_init_28 (Or.inl ⟨q513, (Or.inl rfl)⟩) (Or.inr ⟨rfl, rfl, ⟨q513, (Or.inl rfl)⟩⟩) xh1033) rfl (xcP (xok_aload_n dX5_init_31 rfl) rfl (xcP (xok_sipush dX5_init_32 rfl) rfl (xcP (xok_newarray (atype := .int) (by decide) rfl dX5_init_35 q222) rfl (xcP (xok_putfield (ref := "WaysAtlas$Run") (Or.inr (Or.inr ⟨rfl, by decide, rfl⟩)) dX5_init_37 (Or.inl ⟨q517, (Or.inl rfl)⟩) (Or.inr ⟨rfl, rfl, ⟨q517, (Or.inl rfl)⟩⟩) xh1034) rfl (xcP (xok_aload_n dX5_init_40 rfl) rfl (xcP (xok_sipush dX5_init_41 rfl) rfl (xcP (xok_newarray (atype := .int) (by decide) rfl dX5_init_44 q222) rfl (xcP (xok_putfield (ref := "WaysAtlas$Run") (Or.inr (Or.inr ⟨rfl, by decide, rfl⟩)) dX5_init_46 (Or.inl ⟨q519, (Or.inl rfl)⟩) (Or.inr ⟨rfl, rfl, ⟨q519, (Or.inl rfl)⟩⟩) xh1035) rfl (xcP (xok_aload_n dX5_init_49 rfl) rfl (xcP (xok_sipush dX5_init_50 rfl) rfl (xcP (xok_newarray (atype := .int) (by decide) rfl dX5_init_53 q222) rfl (xcP (xok_putfield (ref := "WaysAtlas$Run") (Or.inr (Or.inr ⟨rfl, by decide, rfl⟩)) dX5_init_55 (Or.inl ⟨q521, (Or.inl rfl)⟩) (Or.inr ⟨rfl, rfl, ⟨q521, (Or.inl rfl)⟩⟩) xh1036) rfl (xcP (xok_aload_n dX5_init_58 rfl) rfl (xcP (xok_sipush dX5_init_59 rfl) rfl (xcP (xok_newarray (atype := .int) (by decide) rfl dX5_init_62 q222) rfl (xcP (xok_putfield (ref := "WaysAtlas$Run") (Or.inr (Or.inr ⟨rfl, by decide, rfl⟩)) dX5_init_64 (Or.inl ⟨q523, (Or.inl rfl)⟩) (Or.inr ⟨rfl, rfl, ⟨q523, (Or.inl rfl)⟩⟩) xh1037) rfl (xcP (xok_aload_n dX5_init_67 rfl) rfl (xcP (xok_sipush dX5_init_68 rfl) rfl (xcP (xok_newarray (atype := .int) (by decide) rfl dX5_init_71 q222) rfl (xcP (xok_putfield (ref := "WaysAtlas$Run") (Or.inr (Or.inr ⟨rfl, by decide, rfl⟩)) dX5_init_73 (Or.inl ⟨q525, (Or.inl rfl)⟩) (Or.inr ⟨rfl, rfl, ⟨q525, (Or.inl rfl)⟩⟩) xh1038) rfl (xcP (xok_aload_n dX5_init_76 rfl) rfl (xcP (xok_sipush dX5_init_77 rfl) rfl (xcP (xok_newarray (atype := .int) (by decide) rfl dX5_init_80 q222) rfl (xcP (xok_putfield (ref := "WaysAtlas$Run") (Or.inr (Or.inr ⟨rfl, by decide, rfl⟩)) dX5_init_82 (Or.inl ⟨q527, (Or.inl rfl)⟩) (Or.inr ⟨rfl, rfl, ⟨q527, (Or.inl rfl)⟩⟩) xh1039) rfl (xcP (xok_aload_n dX5_init_85 rfl) rfl (xcP (xok_sipush dX5_init_86 rfl) rfl (xcP (xok_newarray (atype := .int) (by decide) rfl dX5_init_89 q222) rfl (xcP (xok_putfield (ref := "WaysAtlas$Run") (Or.inr (Or.inr ⟨rfl, by decide, rfl⟩)) dX5_init_91 (Or.inl ⟨q533, (Or.inl rfl)⟩) (Or.inr ⟨rfl, rfl, ⟨q533, (Or.inl rfl)⟩⟩) xh1040) rfl (xcP (xok_aload_n dX5_init_94 rfl) rfl (xcP (xok_bipush dX5_init_95 rfl) rfl (xcP (xok_newarray (atype := .int) (by decide) rfl dX5_init_97 q222) rfl (xcP (xok_putfield (ref := "WaysAtlas$Run") (Or.inr (Or.inr ⟨rfl, by decide, rfl⟩)) dX5_init_99 (Or.inl ⟨q541, (Or.inl rfl)⟩) (Or.inr ⟨rfl, rfl, ⟨q541, (Or.inl rfl)⟩⟩) xh1041) rfl (xcP (xok_aload_n dX5_init_102 rfl) rfl (xcP (xok_sipush dX5_init_103 rfl) rfl (xcP (xok_newarray (atype := .int) (by decide) rfl dX5_init_106 q222) rfl (xcP (xok_putfield (ref := "WaysAtlas$Run") (Or.inr (Or.inr ⟨rfl, by decide, rfl⟩)) dX5_init_108 (Or.inl ⟨q545, (Or.inl rfl)⟩) (Or.inr ⟨rfl, rfl, ⟨q545, (Or.inl rfl)⟩⟩) xh1042) rfl (xcP (xok_aload_n dX5_init_111 rfl) rfl (xcP (xok_bipush dX5_init_112 rfl) rfl (xcP (xok_newarray (atype := .int) (by decide) rfl dX5_init_114 q222) rfl (xcP (xok_putfield (ref := "WaysAtlas$Run") (Or.inr (Or.inr ⟨rfl, by decide, rfl⟩)) dX5_init_116 (Or.inl ⟨q546, (Or.inl rfl)⟩) (Or.inr ⟨rfl, rfl, ⟨q546, (Or.inl rfl)⟩⟩) xh1043) rfl (xcP (xok_aload_n dX5_init_119 rfl) rfl (xcP (xok_sipush dX5_init_120 rfl) rfl (xcP (xok_newarray (atype := .int) (by decide) rfl dX5_init_123 q222) rfl (xcP (xok_putfield (ref := "WaysAtlas$Run") (Or.inr (Or.inr ⟨rfl, by decide, rfl⟩)) dX5_init_125 (Or.inl ⟨q550, (Or.inl rfl)⟩) (Or.inr ⟨rfl, rfl, ⟨q550, (Or.inl rfl)⟩⟩) xh1044) rfl (xcP (xok_aload_n dX5_init_128 rfl) rfl (xcP (xok_sipush dX5_init_129 rfl) rfl (xcP (xok_newarray (atype := .int) (by decide) rfl dX5_init_132 q222) rfl (xcP (xok_putfield (ref := "WaysAtlas$Run") (Or.inr (Or.inr ⟨rfl, by decide, rfl⟩)) dX5_init_134 (Or.inl ⟨q553, (Or.inl rfl)⟩) (Or.inr ⟨rfl, rfl, ⟨q553, (Or.inl rfl)⟩⟩) xh1045) rfl (xcP (xok_aload_n dX5_init_137 rfl) rfl (xcP (xok_bipush dX5_init_138 rfl) rfl (xcP (xok_putfield (ref := "WaysAtlas$Run") (Or.inl ⟨rfl, by decide, rfl⟩) dX5_init_140 (Or.inl ⟨q559, (Or.inl rfl)⟩) (Or.inl rfl) xh28) rfl (xcP (xok_aload_n dX5_init_143 rfl) rfl (xcP (xok_new (r := (RX6, TX6, 7)) (List.mem_of_getElem? (i := 6) rfl) rfl (by decide) dX5_init_144 q364 q365 q146) rfl (xcP (xok_dup dX5_init_147) rfl (xcC0 (xokc_I xm92 rfl rfl dX5_init_148 q403 q404 q146 q405 rfl (by decide +kernel)) rfl (xcP (xok_putfield (ref := "WaysAtlas$Run") (Or.inr (Or.inr ⟨rfl, by decide, rfl⟩)) dX5_init_151 (Or.inl ⟨q571, (Or.inl rfl)⟩) (Or.inr ⟨rfl, rfl, ⟨q571, (Or.inl rfl)⟩⟩) xh1046) rfl (xcP (xok_aload_n dX5_init_154 rfl) rfl (xcP (xok_new (r := (RX7, TX7, 6)) (List.mem_of_getElem? (i := 7) rfl) rfl (by decide) dX5_init_155 q431 q432 q147) rfl (xcP (xok_dup dX5_init_158) rfl (xcC0 (xokc_I xm94 rfl rfl dX5_init_159 q440 q441 q147 q442 rfl (by decide +kernel)) rfl (xcP (xok_putfield (ref := "WaysAtlas$Run") (Or.inr (Or.inr ⟨rfl, by decide, rfl⟩)) dX5_init_162 (Or.inl ⟨q575, (Or.inl rfl)⟩) (Or.inr ⟨rfl, rfl, ⟨q575, (Or.inl rfl)⟩⟩) xh1047) rfl (xcP (xok_aload_n dX5_init_165 rfl) rfl (xcP (xok_aload_n dX5_init_166 rfl) rfl (xcP (xok_putfield (ref := "WaysAtlas$Run") (Or.inr (Or.inr ⟨rfl, by decide, rfl⟩)) dX5_init_167 (Or.inl ⟨q499, (Or.inl rfl)⟩) (Or.inl rfl) xh1030) rfl (xcP (xok_iconst dX5_init_170 rfl) rfl (xcP (xok_istore_n dX5_init_171 rfl) rfl (xcP xok_fal rfl trivial))))))))))))))))))))))))))))))))))))))))))))))))))))))))))))))))))))))))))))))))
theorem okX5_init_172 : XOkL xms rX5_init bX5_init_172 := xcP (xok_iload_n dX5_init_172 rfl) rfl (xcP (xok_bipush dX5_init_173 rfl) rfl (xcP (xok_icmpge dX5_init_175 (by decide)) rfl (xcP (xok_aload_n dX5_init_178 rfl) rfl (xcP (xok_getfield (ref := "WaysAtlas$Run") (Or.inr ⟨rfl, by decide⟩) dX5_init_179 (Or.inl ⟨q501, (Or.inl rfl)⟩) xh1031) rfl (xcP (xok_iload_n dX5_init_182 rfl) rfl (xcP (xok_new (r := (RX8, TX8, 8)) (List.mem_of_getElem? (i := 8) rfl) rfl (by decide) dX5_init_183 q362 q447 q148) rfl (xcP (xok_dup dX5_init_186) rfl (xcC0 (xokc_IN (host := "WaysAtlas") xm95 rfl rfl dX5_init_187 (List.mem_of_getElem? (i := 11) rfl) q449 q148 q450 rfl (by decide +kernel)) rfl (xcP (xok_aastore (E := "WaysAtlas$Frame") (by decide) (by decide) rfl xfit_8 dX5_init_190) rfl (xcP (xok_iinc dX5_init_191 rfl) rfl (xcP (xok_goto dX5_init_194 (by decide)) rfl trivial)))))))))))
theorem okX5_init_197 : XOkL xms rX5_init bX5_init_197 := xcR ⟨dX5_init_197, rfl⟩
theorem okM_X5_init : XOkM xms rX5_init := xokM0 (List.forall_mem_cons.mpr ⟨⟨rfl, okX5_init_0⟩, List.forall_mem_cons.mpr ⟨⟨rfl, okX5_init_172⟩, List.forall_mem_cons.mpr ⟨⟨rfl, okX5_init_197⟩, fun _ h => nomatch h⟩⟩⟩) (xokH0 rfl (fun _ _ => rfl)) (by decide +kernel) (by decide)
abbrev cX5_begin : ByteArray := prog_23_method_2_code
def dkwX5_begin_4 : List UInt8 := [162, 0, 16, 42, 180, 0, 48, 28, 3, 79, 132, 2, 1, 167, 255, 239, 177]
abbrev dktX5_begin_4 : List UInt8 := dkwX5_begin_4 ++ []
def dkwX5_begin_3 : List UInt8 := [16, 80, 162, 0, 16, 42, 180, 0, 45, 28, 3, 79, 132, 2, 1, 167, 255, 240, 3, 61, 28, 17, 2, 48]
abbrev dktX5_begin_3 : List UInt8 := dkwX5_begin_3 ++ dktX5_begin_4
def dkwX5_begin_2 : List UInt8 := [3, 181, 0, 110, 42, 3, 181, 0, 113, 42, 3, 181, 0, 116, 42, 16, 247, 181, 0, 119, 3, 61, 28]
abbrev dktX5_begin_2 : List UInt8 := dkwX5_begin_2 ++ dktX5_begin_3
def dkwX5_begin_1 : List UInt8 := [181, 0, 95, 42, 3, 181, 0, 98, 42, 3, 181, 0, 101, 42, 3, 181, 0, 104, 42, 3, 181, 0, 107, 42]
abbrev dktX5_begin_1 : List UInt8 := dkwX5_begin_1 ++ dktX5_begin_2
def dkwX5_begin_0 : List UInt8 := [42, 27, 181, 0, 83, 42, 3, 181, 0, 86, 42, 3, 181, 0, 89, 42, 3, 181, 0, 92, 42, 3]
abbrev dktX5_begin_0 : List UInt8 := dkwX5_begin_0 ++ dktX5_begin_1
theorem dksX5_begin_0 : cX5_begin.data.toList.drop 0 = dktX5_begin_0 := by decide +kernel
theorem dksX5_begin_1 : cX5_begin.data.toList.drop 22 = dktX5_begin_1 := dk_seg dksX5_begin_0 22 rfl rfl
theorem dksX5_begin_2 : cX5_begin.data.toList.drop 46 = dktX5_begin_2 := dk_seg dksX5_begin_1 24 rfl rfl
theorem dksX5_begin_3 : cX5_begin.data.toList.drop 69 = dktX5_begin_3 := dk_seg dksX5_begin_2 23 rfl rfl
theorem dksX5_begin_4 : cX5_begin.data.toList.drop 93 = dktX5_begin_4 := dk_seg dksX5_begin_3 24 rfl rfl
theorem dX5_begin_0 : decode cX5_begin 0 = .ok (.aload_n 0, 1) := dk_42 (dk_at dksX5_begin_0 0 rfl rfl)
theorem dX5_begin_1 : decode cX5_begin 1 = .ok (.iload_n 1, 1) := dk_27 (dk_at dksX5_begin_0 1 rfl rfl)
theorem dX5_begin_2 : decode cX5_begin 2 = .ok (.putfield 83, 3) := dk_181 0 83 (dk_at dksX5_begin_0 2 rfl rfl)
theorem dX5_begin_5 : decode cX5_begin 5 = .ok (.aload_n 0, 1) := dk_42 (dk_at dksX5_begin_0 5 rfl rfl)
theorem dX5_begin_6 : decode cX5_begin 6 = .ok (.iconst 0, 1) := dk_3 (dk_at dksX5_begin_0 6 rfl rfl)
theorem dX5_begin_7 : decode cX5_begin 7 = .ok (.putfield 86, 3) := dk_181 0 86 (dk_at dksX5_begin_0 7 rfl rfl)
theorem dX5_begin_10 : decode cX5_begin 10 = .ok (.aload_n 0, 1) := dk_42 (dk_at dksX5_begin_0 10 rfl rfl)
theorem dX5_begin_11 : decode cX5_begin 11 = .ok (.iconst 0, 1) := dk_3 (dk_at dksX5_begin_0 11 rfl rfl)
theorem dX5_begin_12 : decode cX5_begin 12 = .ok (.putfield 89, 3) := dk_181 0 89 (dk_at dksX5_begin_0 12 rfl rfl)
theorem dX5_begin_15 : decode cX5_begin 15 = .ok (.aload_n 0, 1) := dk_42 (dk_at dksX5_begin_0 15 rfl rfl)
theorem dX5_begin_16 : decode cX5_begin 16 = .ok (.iconst 0, 1) := dk_3 (dk_at dksX5_begin_0 16 rfl rfl)
theorem dX5_begin_17 : decode cX5_begin 17 = .ok (.putfield 92, 3) := dk_181 0 92 (dk_at dksX5_begin_0 17 rfl rfl)
theorem dX5_begin_20 : decode cX5_begin 20 = .ok (.aload_n 0, 1) := dk_42 (dk_at dksX5_begin_0 20 rfl rfl)
theorem dX5_begin_21 : decode cX5_begin 21 = .ok (.iconst 0, 1) := dk_3 (dk_at dksX5_begin_0 21 rfl rfl)
theorem dX5_begin_22 : decode cX5_begin 22 = .ok (.putfield 95, 3) := dk_181 0 95 (dk_at dksX5_begin_1 0 rfl rfl)
theorem dX5_begin_25 : decode cX5_begin 25 = .ok (.aload_n 0, 1) := dk_42 (dk_at dksX5_begin_1 3 rfl rfl)
theorem dX5_begin_26 : decode cX5_begin 26 = .ok (.iconst 0, 1) := dk_3 (dk_at dksX5_begin_1 4 rfl rfl)
theorem dX5_begin_27 : decode cX5_begin 27 = .ok (.putfield 98, 3) := dk_181 0 98 (dk_at dksX5_begin_1 5 rfl rfl)
theorem dX5_begin_30 : decode cX5_begin 30 = .ok (.aload_n 0, 1) := dk_42 (dk_at dksX5_begin_1 8 rfl rfl)
theorem dX5_begin_31 : decode cX5_begin 31 = .ok (.iconst 0, 1) := dk_3 (dk_at dksX5_begin_1 9 rfl rfl)
theorem dX5_begin_32 : decode cX5_begin 32 = .ok (.putfield 101, 3) := dk_181 0 101 (dk_at dksX5_begin_1 10 rfl rfl)
theorem dX5_begin_35 : decode cX5_begin 35 = .ok (.aload_n 0, 1) := dk_42 (dk_at dksX5_begin_1 13 rfl rfl)
theorem dX5_begin_36 : decode cX5_begin 36 = .ok (.iconst 0, 1) := dk_3 (dk_at dksX5_begin_1 14 rfl rfl)
theorem dX5_begin_37 : decode cX5_begin 37 = .ok (.putfield 104, 3) := dk_181 0 104 (dk_at dksX5_begin_1 15 rfl rfl)
theorem dX5_begin_40 : decode cX5_begin 40 = .ok (.aload_n 0, 1) := dk_42 (dk_at dksX5_begin_1 18 rfl rfl)
theorem dX5_begin_41 : decode cX5_begin 41 = .ok (.iconst 0, 1) := dk_3 (dk_at dksX5_begin_1 19 rfl rfl)
theorem dX5_begin_42 : decode cX5_begin 42 = .ok (.putfield 107, 3) := dk_181 0 107 (dk_at dksX5_begin_1 20 rfl rfl)
theorem dX5_begin_45 : decode cX5_begin 45 = .ok (.aload_n 0, 1) := dk_42 (dk_at dksX5_begin_1 23 rfl rfl)
theorem dX5_begin_46 : decode cX5_begin 46 = .ok (.iconst 0, 1) := dk_3 (dk_at dksX5_begin_2 0 rfl rfl)
theorem dX5_begin_47 : decode cX5_begin 47 = .ok (.putfield 110, 3) := dk_181 0 110 (dk_at dksX5_begin_2 1 rfl rfl)
theorem dX5_begin_50 : decode cX5_begin 50 = .ok (.aload_n 0, 1) := dk_42 (dk_at dksX5_begin_2 4 rfl rfl)
theorem dX5_begin_51 : decode cX5_begin 51 = .ok (.iconst 0, 1) := dk_3 (dk_at dksX5_begin_2 5 rfl rfl)
theorem dX5_begin_52 : decode cX5_begin 52 = .ok (.putfield 113, 3) := dk_181 0 113 (dk_at dksX5_begin_2 6 rfl rfl)
theorem dX5_begin_55 : decode cX5_begin 55 = .ok (.aload_n 0, 1) := dk_42 (dk_at dksX5_begin_2 9 rfl rfl)
theorem dX5_begin_56 : decode cX5_begin 56 = .ok (.iconst 0, 1) := dk_3 (dk_at dksX5_begin_2 10 rfl rfl)
theorem dX5_begin_57 : decode cX5_begin 57 = .ok (.putfield 116, 3) := dk_181 0 116 (dk_at dksX5_begin_2 11 rfl rfl)
theorem dX5_begin_60 : decode cX5_begin 60 = .ok (.aload_n 0, 1) := dk_42 (dk_at dksX5_begin_2 14 rfl rfl)
theorem dX5_begin_61 : decode cX5_begin 61 = .ok (.bipush (-9), 2) := dk_16 247 (dk_at dksX5_begin_2 15 rfl rfl)
theorem dX5_begin_63 : decode cX5_begin 63 = .ok (.putfield 119, 3) := dk_181 0 119 (dk_at dksX5_begin_2 17 rfl rfl)
theorem dX5_begin_66 : decode cX5_begin 66 = .ok (.iconst 0, 1) := dk_3 (dk_at dksX5_begin_2 20 rfl rfl)
theorem dX5_begin_67 : decode cX5_begin 67 = .ok (.istore_n 2, 1) := dk_61 (dk_at dksX5_begin_2 21 rfl rfl)
theorem dX5_begin_68 : decode cX5_begin 68 = .ok (.iload_n 2, 1) := dk_28 (dk_at dksX5_begin_2 22 rfl rfl)
theorem dX5_begin_69 : decode cX5_begin 69 = .ok (.bipush 80, 2) := dk_16 80 (dk_at dksX5_begin_3 0 rfl rfl)
theorem dX5_begin_71 : decode cX5_begin 71 = .ok (.if_icmp .ge 16, 3) := dk_162 0 16 (dk_at dksX5_begin_3 2 rfl rfl)
theorem dX5_begin_74 : decode cX5_begin 74 = .ok (.aload_n 0, 1) := dk_42 (dk_at dksX5_begin_3 5 rfl rfl)
theorem dX5_begin_75 : decode cX5_begin 75 = .ok (.getfield 45, 3) := dk_180 0 45 (dk_at dksX5_begin_3 6 rfl rfl)
theorem dX5_begin_78 : decode cX5_begin 78 = .ok (.iload_n 2, 1) := dk_28 (dk_at dksX5_begin_3 9 rfl rfl)
theorem dX5_begin_79 : decode cX5_begin 79 = .ok (.iconst 0, 1) := dk_3 (dk_at dksX5_begin_3 10 rfl rfl)
theorem dX5_begin_80 : decode cX5_begin 80 = .ok (.iastore, 1) := dk_79 (dk_at dksX5_begin_3 11 rfl rfl)
theorem dX5_begin_81 : decode cX5_begin 81 = .ok (.iinc 2 1, 3) := dk_132 2 1 (dk_at dksX5_begin_3 12 rfl rfl)
theorem dX5_begin_84 : decode cX5_begin 84 = .ok (.goto (-16), 3) := dk_167 255 240 (dk_at dksX5_begin_3 15 rfl rfl)
theorem dX5_begin_87 : decode cX5_begin 87 = .ok (.iconst 0, 1) := dk_3 (dk_at dksX5_begin_3 18 rfl rfl)
theorem dX5_begin_88 : decode cX5_begin 88 = .ok (.istore_n 2, 1) := dk_61 (dk_at dksX5_begin_3 19 rfl rfl)
theorem dX5_begin_89 : decode cX5_begin 89 = .ok (.iload_n 2, 1) := dk_28 (dk_at dksX5_begin_3 20 rfl rfl)
theorem dX5_begin_90 : decode cX5_begin 90 = .ok (.sipush 560, 3) := dk_17 2 48 (dk_at dksX5_begin_3 21 rfl rfl)
theorem dX5_begin_93 : decode cX5_begin 93 = .ok (.if_icmp .ge 16, 3) := dk_162 0 16 (dk_at dksX5_begin_4 0 rfl rfl)
theorem dX5_begin_96 : decode cX5_begin 96 = .ok (.aload_n 0, 1) := dk_42 (dk_at dksX5_begin_4 3 rfl rfl)
theorem dX5_begin_97 : decode cX5_begin 97 = .ok (.getfield 48, 3) := dk_180 0 48 (dk_at dksX5_begin_4 4 rfl rfl)
theorem dX5_begin_100 : decode cX5_begin 100 = .ok (.iload_n 2, 1) := dk_28 (dk_at dksX5_begin_4 7 rfl rfl)
theorem dX5_begin_101 : decode cX5_begin 101 = .ok (.iconst 0, 1) := dk_3 (dk_at dksX5_begin_4 8 rfl rfl)
theorem dX5_begin_102 : decode cX5_begin 102 = .ok (.iastore, 1) := dk_79 (dk_at dksX5_begin_4 9 rfl rfl)
theorem dX5_begin_103 : decode cX5_begin 103 = .ok (.iinc 2 1, 3) := dk_132 2 1 (dk_at dksX5_begin_4 10 rfl rfl)
theorem dX5_begin_106 : decode cX5_begin 106 = .ok (.goto (-17), 3) := dk_167 255 239 (dk_at dksX5_begin_4 13 rfl rfl)
theorem dX5_begin_109 : decode cX5_begin 109 = .ok (.return_, 1) := dk_177 (dk_at dksX5_begin_4 16 rfl rfl)
theorem okX5_begin_0 : XOkL xms rX5_begin bX5_begin_0 := xcP (xok_aload_n dX5_begin_0 rfl) rfl (xcP (xok_iload_n dX5_begin_1 rfl) rfl (xcP (xok_putfield (ref := "WaysAtlas$Run") (Or.inl ⟨rfl, by decide, rfl⟩) dX5_begin_2 (Or.inl ⟨q508, (Or.inl rfl)⟩) (Or.inl rfl) xh20) rfl (xcP (xok_aload_n dX5_begin_5 rfl) rfl (xcP (xok_iconst dX5_begin_6 rfl) rfl (xcP (xok_putfield (ref := "WaysAtlas$Run") (Or.inl ⟨rfl, by decide, rfl⟩) dX5_begin_7 (Or.inl ⟨q502, (Or.inl rfl)⟩) (Or.inl rfl) xh17) rfl (xcP (xok_aload_n dX5_begin_10 rfl) rfl (xcP (xok_iconst dX5_begin_11 rfl) rfl (xcP (xok_putfield (ref := "WaysAtlas$Run") (Or.inl ⟨rfl, by decide, rfl⟩) dX5_begin_12 (Or.inl ⟨q504, (Or.inl rfl)⟩) (Or.inl rfl) xh18) rfl (xcP (xok_aload_n dX5_begin_15 rfl) rfl (xcP (xok_iconst dX5_begin_16 rfl) rfl (xcP (xok_putfield (ref := "WaysAtlas$Run") (Or.inl ⟨rfl, by decide, rfl⟩) dX5_begin_17 (Or.inl ⟨q506, (Or.inl rfl)⟩) (Or.inl rfl) xh19) rfl (xcP (xok_aload_n dX5_begin_20 rfl) rfl (xcP (xok_iconst dX5_begin_21 rfl) rfl (xcP (xok_putfield (ref := "WaysAtlas$Run") (Or.inl ⟨rfl, by decide, rfl⟩) dX5_begin_22 (Or.inl ⟨q511, (Or.inl rfl)⟩) (Or.inl rfl) xh21) rfl (xcP (xok_aload_n dX5_begin_25 rfl) rfl (xcP (xok_iconst dX5_begin_26 rfl) rfl (xcP (xok_putfield (ref := "WaysAtlas$Run") (Or.inl ⟨rfl, by decide, rfl⟩) dX5_begin_27 (Or.inl ⟨q529, (Or.inl rfl)⟩) (Or.inl rfl) xh22) rfl (xcP (xok_aload_n dX5_begin_30 rfl) rfl (xcP (xok_iconst dX5_begin_31 rfl) rfl (xcP (xok_putfield (ref := "WaysAtlas$Run") (Or.inl ⟨rfl, by decide, rfl⟩) dX5_begin_32 (Or.inl ⟨q531, (Or.inl rfl)⟩) (Or.inl rfl) xh23) rfl (xcP (xok_aload_n dX5_begin_35 rfl) rfl (xcP (xok_iconst dX5_begin_36 rfl) rfl (xcP (xok_putfield (ref := "WaysAtlas$Run") (Or.inl ⟨rfl, by decide, rfl⟩) dX5_begin_37 (Or.inl ⟨q535, (Or.inl rfl)⟩) (Or.inl rfl) xh24) rfl (xcP (xok_aload_n dX5_begin_40 rfl) rfl (xcP (xok_iconst dX5_begin_41 rfl) rfl (xcP (xok_putfield (ref := "WaysAtlas$Run") (Or.inl ⟨rfl, by decide, rfl⟩) dX5_begin_42 (Or.inl ⟨q537, (Or.inl rfl)⟩) (Or.inl rfl) xh25) rfl (xcP (xok_aload_n dX5_begin_45 rfl) rfl (xcP (xok_iconst dX5_begin_46 rfl) rfl (xcP (xok_putfield (ref := "WaysAtlas$Run") (Or.inl ⟨rfl, by decide, rfl⟩) dX5_begin_47 (Or.inl ⟨q558, (Or.inl rfl)⟩) (Or.inl rfl) xh27) rfl (xcP (xok_aload_n dX5_begin_50 rfl) rfl (xcP (xok_iconst dX5_begin_51 rfl) rfl (xcP (xok_putfield (ref := "WaysAtlas$Run") (Or.inl ⟨rfl, by decide, rfl⟩) dX5_begin_52 (Or.inl ⟨q548, (Or.inl rfl)⟩) (Or.inl rfl) xh26) rfl (xcP (xok_aload_n dX5_begin_55 rfl) rfl (xcP (xok_iconst dX5_begin_56 rfl) rfl (xcP (xok_putfield (ref := "WaysAtlas$Run") (Or.inl ⟨rfl, by decide, rfl⟩) dX5_begin_57 (Or.inl ⟨q562, (Or.inl rfl)⟩) (Or.inl rfl) xh29) rfl (xcP (xok_aload_n dX5_begin_60 rfl) rfl (xcP (xok_bipush dX5_begin_61 rfl) rfl (xcP (xok_putfield (ref := "WaysAtlas$Run") (Or.inl ⟨rfl, by decide, rfl⟩) dX5_begin_63 (Or.inl ⟨q565, (Or.inl rfl)⟩) (Or.inl rfl) xh30) rfl (xcP (xok_iconst dX5_begin_66 rfl) rfl (xcP (xok_istore_n dX5_begin_67 rfl) rfl (xcP xok_fal rfl trivial)))))))))))))))))))))))))))))))))))))))))
theorem okX5_begin_68 : XOkL xms rX5_begin bX5_begin_68 := xcP (xok_iload_n dX5_begin_68 rfl) rfl (xcP (xok_bipush dX5_begin_69 rfl) rfl (xcP (xok_icmpge dX5_begin_71 (by decide)) rfl (xcP (xok_aload_n dX5_begin_74 rfl) rfl (xcP (xok_getfield (ref := "WaysAtlas$Run") (Or.inr ⟨rfl, by decide⟩) dX5_begin_75 (Or.inl ⟨q541, (Or.inl rfl)⟩) xh1041) rfl (xcP (xok_iload_n dX5_begin_78 rfl) rfl (xcP (xok_iconst dX5_begin_79 rfl) rfl (xcP (xok_iastore dX5_begin_80) rfl (xcP (xok_iinc dX5_begin_81 rfl) rfl (xcP (xok_goto dX5_begin_84 (by decide)) rfl trivial)))))))))
theorem okX5_begin_87 : XOkL xms rX5_begin bX5_begin_87 := xcP (xok_iconst dX5_begin_87 rfl) rfl (xcP (xok_istore_n dX5_begin_88 rfl) rfl (xcP xok_fal rfl trivial))
theorem okX5_begin_89 : XOkL xms rX5_begin bX5_begin_89 := xcP (xok_iload_n dX5_begin_89 rfl) rfl (xcP (xok_sipush dX5_begin_90 rfl) rfl (xcP (xok_icmpge dX5_begin_93 (by decide)) rfl (xcP (xok_aload_n dX5_begin_96 rfl) rfl (xcP (xok_getfield (ref := "WaysAtlas$Run") (Or.inr ⟨rfl, by decide⟩) dX5_begin_97 (Or.inl ⟨q545, (Or.inl rfl)⟩) xh1042) rfl (xcP (xok_iload_n dX5_begin_100 rfl) rfl (xcP (xok_iconst dX5_begin_101 rfl) rfl (xcP (xok_iastore dX5_begin_102) rfl (xcP (xok_iinc dX5_begin_103 rfl) rfl (xcP (xok_goto dX5_begin_106 (by decide)) rfl trivial)))))))))
theorem okX5_begin_109 : XOkL xms rX5_begin bX5_begin_109 := xcR ⟨dX5_begin_109, rfl⟩
theorem okM_X5_begin : XOkM xms rX5_begin := xokM0 (List.forall_mem_cons.mpr ⟨⟨rfl, okX5_begin_0⟩, List.forall_mem_cons.mpr ⟨⟨rfl, okX5_begin_68⟩, List.forall_mem_cons.mpr ⟨⟨rfl, okX5_begin_87⟩, List.forall_mem_cons.mpr ⟨⟨rfl, okX5_begin_89⟩, List.forall_mem_cons.mpr ⟨⟨rfl, okX5_begin_109⟩, fun _ h => nomatch h⟩⟩⟩⟩⟩) (xokH0 rfl (fun _ _ => rfl)) (by decide +kernel) (by decide)
abbrev cX5_enters : ByteArray := prog_23_method_12_code
def dkwX5_enters_2 : List UInt8 := [184, 0, 167, 181, 0, 89, 25, 4, 43, 28, 29, 182, 0, 172, 25, 4, 176]
abbrev dktX5_enters_2 : List UInt8 := dkwX5_enters_2 ++ []
def dkwX5_enters_1 : List UInt8 := [50, 58, 4, 42, 89, 180, 0, 86, 4, 96, 181, 0, 86, 42, 42, 180, 0, 89, 42, 180, 0, 86]
abbrev dktX5_enters_1 : List UInt8 := dkwX5_enters_1 ++ dktX5_enters_2
def dkwX5_enters_0 : List UInt8 := [42, 180, 0, 86, 16, 12, 160, 0, 10, 42, 16, 6, 182, 0, 154, 191, 42, 180, 0, 11, 42, 180, 0, 86]
abbrev dktX5_enters_0 : List UInt8 := dkwX5_enters_0 ++ dktX5_enters_1
theorem dksX5_enters_0 : cX5_enters.data.toList.drop 0 = dktX5_enters_0 := by decide +kernel
theorem dksX5_enters_1 : cX5_enters.data.toList.drop 24 = dktX5_enters_1 := dk_seg dksX5_enters_0 24 rfl rfl
theorem dksX5_enters_2 : cX5_enters.data.toList.drop 46 = dktX5_enters_2 := dk_seg dksX5_enters_1 22 rfl rfl
theorem dX5_enters_0 : decode cX5_enters 0 = .ok (.aload_n 0, 1) := dk_42 (dk_at dksX5_enters_0 0 rfl rfl)
theorem dX5_enters_1 : decode cX5_enters 1 = .ok (.getfield 86, 3) := dk_180 0 86 (dk_at dksX5_enters_0 1 rfl rfl)
theorem dX5_enters_4 : decode cX5_enters 4 = .ok (.bipush 12, 2) := dk_16 12 (dk_at dksX5_enters_0 4 rfl rfl)
theorem dX5_enters_6 : decode cX5_enters 6 = .ok (.if_icmp .ne 10, 3) := dk_160 0 10 (dk_at dksX5_enters_0 6 rfl rfl)
theorem dX5_enters_9 : decode cX5_enters 9 = .ok (.aload_n 0, 1) := dk_42 (dk_at dksX5_enters_0 9 rfl rfl)
theorem dX5_enters_10 : decode cX5_enters 10 = .ok (.bipush 6, 2) := dk_16 6 (dk_at dksX5_enters_0 10 rfl rfl)
theorem dX5_enters_12 : decode cX5_enters 12 = .ok (.invokevirtual 154, 3) := dk_182 0 154 (dk_at dksX5_enters_0 12 rfl rfl)
theorem dX5_enters_15 : decode cX5_enters 15 = .ok (.athrow, 1) := dk_191 (dk_at dksX5_enters_0 15 rfl rfl)
theorem dX5_enters_16 : decode cX5_enters 16 = .ok (.aload_n 0, 1) := dk_42 (dk_at dksX5_enters_0 16 rfl rfl)
theorem dX5_enters_17 : decode cX5_enters 17 = .ok (.getfield 11, 3) := dk_180 0 11 (dk_at dksX5_enters_0 17 rfl rfl)
theorem dX5_enters_20 : decode cX5_enters 20 = .ok (.aload_n 0, 1) := dk_42 (dk_at dksX5_enters_0 20 rfl rfl)
theorem dX5_enters_21 : decode cX5_enters 21 = .ok (.getfield 86, 3) := dk_180 0 86 (dk_at dksX5_enters_0 21 rfl rfl)
theorem dX5_enters_24 : decode cX5_enters 24 = .ok (.aaload, 1) := dk_50 (dk_at dksX5_enters_1 0 rfl rfl)
theorem dX5_enters_25 : decode cX5_enters 25 = .ok (.astore 4, 2) := dk_58 4 (dk_at dksX5_enters_1 1 rfl rfl)
theorem dX5_enters_27 : decode cX5_enters 27 = .ok (.aload_n 0, 1) := dk_42 (dk_at dksX5_enters_1 3 rfl rfl)
theorem dX5_enters_28 : decode cX5_enters 28 = .ok (.dup, 1) := dk_89 (dk_at dksX5_enters_1 4 rfl rfl)
theorem dX5_enters_29 : decode cX5_enters 29 = .ok (.getfield 86, 3) := dk_180 0 86 (dk_at dksX5_enters_1 5 rfl rfl)
theorem dX5_enters_32 : decode cX5_enters 32 = .ok (.iconst 1, 1) := dk_4 (dk_at dksX5_enters_1 8 rfl rfl)
theorem dX5_enters_33 : decode cX5_enters 33 = .ok (.iadd, 1) := dk_96 (dk_at dksX5_enters_1 9 rfl rfl)
theorem dX5_enters_34 : decode cX5_enters 34 = .ok (.putfield 86, 3) := dk_181 0 86 (dk_at dksX5_enters_1 10 rfl rfl)
theorem dX5_enters_37 : decode cX5_enters 37 = .ok (.aload_n 0, 1) := dk_42 (dk_at dksX5_enters_1 13 rfl rfl)
theorem dX5_enters_38 : decode cX5_enters 38 = .ok (.aload_n 0, 1) := dk_42 (dk_at dksX5_enters_1 14 rfl rfl)
theorem dX5_enters_39 : decode cX5_enters 39 = .ok (.getfield 89, 3) := dk_180 0 89 (dk_at dksX5_enters_1 15 rfl rfl)
theorem dX5_enters_42 : decode cX5_enters 42 = .ok (.aload_n 0, 1) := dk_42 (dk_at dksX5_enters_1 18 rfl rfl)
theorem dX5_enters_43 : decode cX5_enters 43 = .ok (.getfield 86, 3) := dk_180 0 86 (dk_at dksX5_enters_1 19 rfl rfl)
theorem dX5_enters_46 : decode cX5_enters 46 = .ok (.invokestatic 167, 3) := dk_184 0 167 (dk_at dksX5_enters_2 0 rfl rfl)
theorem dX5_enters_49 : decode cX5_enters 49 = .ok (.putfield 89, 3) := dk_181 0 89 (dk_at dksX5_enters_2 3 rfl rfl)
theorem dX5_enters_52 : decode cX5_enters 52 = .ok (.aload 4, 2) := dk_25 4 (dk_at dksX5_enters_2 6 rfl rfl)
theorem dX5_enters_54 : decode cX5_enters 54 = .ok (.aload_n 1, 1) := dk_43 (dk_at dksX5_enters_2 8 rfl rfl)
theorem dX5_enters_55 : decode cX5_enters 55 = .ok (.iload_n 2, 1) := dk_28 (dk_at dksX5_enters_2 9 rfl rfl)
theorem dX5_enters_56 : decode cX5_enters 56 = .ok (.iload_n 3, 1) := dk_29 (dk_at dksX5_enters_2 10 rfl rfl)
theorem dX5_enters_57 : decode cX5_enters 57 = .ok (.invokevirtual 172, 3) := dk_182 0 172 (dk_at dksX5_enters_2 11 rfl rfl)
theorem dX5_enters_60 : decode cX5_enters 60 = .ok (.aload 4, 2) := dk_25 4 (dk_at dksX5_enters_2 14 rfl rfl)
theorem dX5_enters_62 : decode cX5_enters 62 = .ok (.areturn, 1) := dk_176 (dk_at dksX5_enters_2 16 rfl rfl)
theorem okX5_enters_0 : XOkL xms rX5_enters bX5_enters_0 := xcP (xok_aload_n dX5_enters_0 rfl) rfl (xcP (xok_getfield (ref := "WaysAtlas$Run") (Or.inl ⟨rfl, by decide⟩) dX5_enters_1 (Or.inl ⟨q502, (Or.inl rfl)⟩) xh17) rfl (xcP (xok_bipush dX5_enters_4 rfl) rfl (xcP (xok_icmpne dX5_enters_6 (by decide)) rfl (xcP (xok_aload_n dX5_enters_9 rfl) rfl (xcP (xok_bipush dX5_enters_10 rfl) rfl (xcC0 (xokc_list (List.forall_mem_cons.mpr ⟨xokc_V (r := (RX5, TX5, 34)) xm82 (List.mem_of_getElem? (i := 5) rfl) (by decide) rfl dX5_enters_12 q1563 q1564 q1565 q143 q1566 (by decide +kernel), fun _ h => nomatch h⟩)) rfl (xcT dX5_enters_15)))))))
theorem okX5_enters_16 : XOkL xms rX5_enters bX5_enters_16 := xcP (xok_aload_n dX5_enters_16 rfl) rfl (xcP (xok_getfield (ref := "WaysAtlas$Run") (Or.inr ⟨rfl, by decide⟩) dX5_enters_17 (Or.inl ⟨q501, (Or.inl rfl)⟩) xh1031) rfl (xcP (xok_aload_n dX5_enters_20 rfl) rfl (xcP (xok_getfield (ref := "WaysAtlas$Run") (Or.inl ⟨rfl, by decide⟩) dX5_enters_21 (Or.inl ⟨q502, (Or.inl rfl)⟩) xh17) rfl (xcP (xok_aaload (by decide) rfl dX5_enters_24) rfl (xcP (xok_astore dX5_enters_25) rfl (xcP (xok_aload_n dX5_enters_27 rfl) rfl (xcP (xok_dup dX5_enters_28) rfl (xcP (xok_getfield (ref := "WaysAtlas$Run") (Or.inl ⟨rfl, by decide⟩) dX5_enters_29 (Or.inl ⟨q502, (Or.inl rfl)⟩) xh17) rfl (xcP (xok_iconst dX5_enters_32 rfl) rfl (xcP (xok_iadd dX5_enters_33) rfl (xcP (xok_putfield (ref := "WaysAtlas$Run") (Or.inl ⟨rfl, by decide, rfl⟩) dX5_enters_34 (Or.inl ⟨q502, (Or.inl rfl)⟩) (Or.inl rfl) xh17) rfl (xcP (xok_aload_n dX5_enters_37 rfl) rfl (xcP (xok_aload_n dX5_enters_38 rfl) rfl (xcP (xok_getfield (ref := "WaysAtlas$Run") (Or.inl ⟨rfl, by decide⟩) dX5_enters_39 (Or.inl ⟨q504, (Or.inl rfl)⟩) xh18) rfl (xcP (xok_aload_n dX5_enters_42 rfl) rfl (xcP (xok_getfield (ref := "WaysAtlas$Run") (Or.inl ⟨rfl, by decide⟩) dX5_enters_43 (Or.inl ⟨q502, (Or.inl rfl)⟩) xh17) rfl (xcC0 (xokc_S xm294 rfl dX5_enters_46 q1579 q1580 q155 q1581 (by decide +kernel)) rfl (xcP (xok_putfield (ref := "WaysAtlas$Run") (Or.inl ⟨rfl, by decide, rfl⟩) dX5_enters_49 (Or.inl ⟨q504, (Or.inl rfl)⟩) (Or.inl rfl) xh18) rfl (xcP (xok_aload dX5_enters_52) rfl (xcP (xok_aload_n dX5_enters_54 rfl) rfl (xcP (xok_iload_n dX5_enters_55 rfl) rfl (xcP (xok_iload_n dX5_enters_56 rfl) rfl (xcC0 (xokc_list (List.forall_mem_cons.mpr ⟨xokc_V (r := (RX8, TX8, 8)) xm96 (List.mem_of_getElem? (i := 8) rfl) (by decide) rfl dX5_enters_57 q1582 q1583 q1584 q148 q1585 (by decide +kernel), fun _ h => nomatch h⟩)) rfl (xcP (xok_aload dX5_enters_60) rfl (xcR ⟨dX5_enters_62, _, rfl, Or.inl ⟨_, rfl⟩⟩)))))))))))))))))))))))))
theorem okM_X5_enters : XOkM xms rX5_enters := xokM0 (List.forall_mem_cons.mpr ⟨⟨rfl, okX5_enters_0⟩, List.forall_mem_cons.mpr ⟨⟨rfl, okX5_enters_16⟩, fun _ h => nomatch h⟩⟩) (xokH0 rfl (fun _ _ => rfl)) (by decide +kernel) (by decide)
abbrev cX5_fails : ByteArray := prog_23_method_6_code
def dkwX5_fails_0 : List UInt8 := [42, 180, 0, 67, 42, 27, 16, 247, 182, 0, 138, 182, 0, 142, 176]
abbrev dktX5_fails_0 : List UInt8 := dkwX5_fails_0 ++ []
theorem dksX5_fails_0 : cX5_fails.data.toList.drop 0 = dktX5_fails_0 := by decide +kernel
theorem dX5_fails_0 : decode cX5_fails 0 = .ok (.aload_n 0, 1) := dk_42 (dk_at dksX5_fails_0 0 rfl rfl)
theorem dX5_fails_1 : decode cX5_fails 1 = .ok (.getfield 67, 3) := dk_180 0 67 (dk_at dksX5_fails_0 1 rfl rfl)
theorem dX5_fails_4 : decode cX5_fails 4 = .ok (.aload_n 0, 1) := dk_42 (dk_at dksX5_fails_0 4 rfl rfl)
theorem dX5_fails_5 : decode cX5_fails 5 = .ok (.iload_n 1, 1) := dk_27 (dk_at dksX5_fails_0 5 rfl rfl)
theorem dX5_fails_6 : decode cX5_fails 6 = .ok (.bipush (-9), 2) := dk_16 247 (dk_at dksX5_fails_0 6 rfl rfl)
theorem dX5_fails_8 : decode cX5_fails 8 = .ok (.invokevirtual 138, 3) := dk_182 0 138 (dk_at dksX5_fails_0 8 rfl rfl)
theorem dX5_fails_11 : decode cX5_fails 11 = .ok (.invokevirtual 142, 3) := dk_182 0 142 (dk_at dksX5_fails_0 11 rfl rfl)
theorem dX5_fails_14 : decode cX5_fails 14 = .ok (.areturn, 1) := dk_176 (dk_at dksX5_fails_0 14 rfl rfl)
theorem okX5_fails_0 : XOkL xms rX5_fails bX5_fails_0 := xcP (xok_aload_n dX5_fails_0 rfl) rfl (xcP (xok_getfield (ref := "WaysAtlas$Run") (Or.inr ⟨rfl, by decide⟩) dX5_fails_1 (Or.inl ⟨q571, (Or.inl rfl)⟩) xh1046) rfl (xcP (xok_aload_n dX5_fails_4 rfl) rfl (xcP (xok_iload_n dX5_fails_5 rfl) rfl (xcP (xok_bipush dX5_fails_6 rfl) rfl (xcC0 (xokc_list (List.forall_mem_cons.mpr ⟨xokc_V (r := (RX5, TX5, 34)) xm83 (List.mem_of_getElem? (i := 5) rfl) (by decide) rfl dX5_fails_8 q1567 q1568 q1569 q143 q1570 (by decide +kernel), fun _ h => nomatch h⟩)) rfl (xcC0 (xokc_list (List.forall_mem_cons.mpr ⟨xokc_V (r := (RX6, TX6, 7)) xm93 (List.mem_of_getElem? (i := 6) rfl) (by decide) rfl dX5_fails_11 q1575 q1576 q1577 q146 q1578 (by decide +kernel), fun _ h => nomatch h⟩)) rfl (xcR ⟨dX5_fails_14, _, rfl, Or.inl ⟨_, rfl⟩⟩)))))))
theorem okM_X5_fails : XOkM xms rX5_fails := xokM0 (List.forall_mem_cons.mpr ⟨⟨rfl, okX5_fails_0⟩, fun _ h => nomatch h⟩) (xokH0 rfl (fun _ _ => rfl)) (by decide +kernel) (by decide)
abbrev cX5_makes : ByteArray := prog_23_method_5_code
def dkwX5_makes_5 : List UInt8 := [180, 0, 133, 104, 25, 5, 180, 0, 126, 96, 79, 132, 4, 1, 167, 255, 198, 29, 172]
abbrev dktX5_makes_5 : List UInt8 := dkwX5_makes_5 ++ []
def dkwX5_makes_4 : List UInt8 := [50, 58, 5, 42, 180, 0, 39, 29, 16, 12, 104, 21, 4, 96, 17, 3, 232, 25, 5, 180, 0, 129]
abbrev dktX5_makes_4 : List UInt8 := dkwX5_makes_4 ++ dktX5_makes_5
def dkwX5_makes_3 : List UInt8 := [54, 4, 21, 4, 42, 180, 0, 86, 162, 0, 55, 42, 180, 0, 11, 42, 180, 0, 86, 4, 100, 21, 4, 100]
abbrev dktX5_makes_3 : List UInt8 := dkwX5_makes_3 ++ dktX5_makes_4
def dkwX5_makes_2 : List UInt8 := [180, 0, 33, 29, 42, 182, 0, 122, 180, 0, 126, 79, 42, 180, 0, 36, 29, 42, 180, 0, 86, 79, 3]
abbrev dktX5_makes_2 : List UInt8 := dkwX5_makes_2 ++ dktX5_makes_3
def dkwX5_makes_1 : List UInt8 := [180, 0, 24, 29, 28, 79, 42, 180, 0, 27, 29, 16, 247, 79, 42, 180, 0, 30, 29, 16, 247, 79, 42]
abbrev dktX5_makes_1 : List UInt8 := dkwX5_makes_1 ++ dktX5_makes_2
def dkwX5_makes_0 : List UInt8 := [42, 180, 0, 98, 62, 42, 89, 180, 0, 98, 4, 96, 181, 0, 98, 42, 180, 0, 21, 29, 27, 79, 42]
abbrev dktX5_makes_0 : List UInt8 := dkwX5_makes_0 ++ dktX5_makes_1
theorem dksX5_makes_0 : cX5_makes.data.toList.drop 0 = dktX5_makes_0 := by decide +kernel
theorem dksX5_makes_1 : cX5_makes.data.toList.drop 23 = dktX5_makes_1 := dk_seg dksX5_makes_0 23 rfl rfl
theorem dksX5_makes_2 : cX5_makes.data.toList.drop 46 = dktX5_makes_2 := dk_seg dksX5_makes_1 23 rfl rfl
theorem dksX5_makes_3 : cX5_makes.data.toList.drop 69 = dktX5_makes_3 := dk_seg dksX5_makes_2 23 rfl rfl
theorem dksX5_makes_4 : cX5_makes.data.toList.drop 93 = dktX5_makes_4 := dk_seg dksX5_makes_3 24 rfl rfl
theorem dksX5_makes_5 : cX5_makes.data.toList.drop 115 = dktX5_makes_5 := dk_seg dksX5_makes_4 22 rfl rfl
theorem dX5_makes_0 : decode cX5_makes 0 = .ok (.aload_n 0, 1) := dk_42 (dk_at dksX5_makes_0 0 rfl rfl)
theorem dX5_makes_1 : decode cX5_makes 1 = .ok (.getfield 98, 3) := dk_180 0 98 (dk_at dksX5_makes_0 1 rfl rfl)
theorem dX5_makes_4 : decode cX5_makes 4 = .ok (.istore_n 3, 1) := dk_62 (dk_at dksX5_makes_0 4 rfl rfl)
theorem dX5_makes_5 : decode cX5_makes 5 = .ok (.aload_n 0, 1) := dk_42 (dk_at dksX5_makes_0 5 rfl rfl)
theorem dX5_makes_6 : decode cX5_makes 6 = .ok (.dup, 1) := dk_89 (dk_at dksX5_makes_0 6 rfl rfl)
theorem dX5_makes_7 : decode cX5_makes 7 = .ok (.getfield 98, 3) := dk_180 0 98 (dk_at dksX5_makes_0 7 rfl rfl)
theorem dX5_makes_10 : decode cX5_makes 10 = .ok (.iconst 1, 1) := dk_4 (dk_at dksX5_makes_0 10 rfl rfl)
theorem dX5_makes_11 : decode cX5_makes 11 = .ok (.iadd, 1) := dk_96 (dk_at dksX5_makes_0 11 rfl rfl)
theorem dX5_makes_12 : decode cX5_makes 12 = .ok (.putfield 98, 3) := dk_181 0 98 (dk_at dksX5_makes_0 12 rfl rfl)
theorem dX5_makes_15 : decode cX5_makes 15 = .ok (.aload_n 0, 1) := dk_42 (dk_at dksX5_makes_0 15 rfl rfl)
theorem dX5_makes_16 : decode cX5_makes 16 = .ok (.getfield 21, 3) := dk_180 0 21 (dk_at dksX5_makes_0 16 rfl rfl)
theorem dX5_makes_19 : decode cX5_makes 19 = .ok (.iload_n 3, 1) := dk_29 (dk_at dksX5_makes_0 19 rfl rfl)
theorem dX5_makes_20 : decode cX5_makes 20 = .ok (.iload_n 1, 1) := dk_27 (dk_at dksX5_makes_0 20 rfl rfl)
theorem dX5_makes_21 : decode cX5_makes 21 = .ok (.iastore, 1) := dk_79 (dk_at dksX5_makes_0 21 rfl rfl)
theorem dX5_makes_22 : decode cX5_makes 22 = .ok (.aload_n 0, 1) := dk_42 (dk_at dksX5_makes_0 22 rfl rfl)
theorem dX5_makes_23 : decode cX5_makes 23 = .ok (.getfield 24, 3) := dk_180 0 24 (dk_at dksX5_makes_1 0 rfl rfl)
theorem dX5_makes_26 : decode cX5_makes 26 = .ok (.iload_n 3, 1) := dk_29 (dk_at dksX5_makes_1 3 rfl rfl)
theorem dX5_makes_27 : decode cX5_makes 27 = .ok (.iload_n 2, 1) := dk_28 (dk_at dksX5_makes_1 4 rfl rfl)
theorem dX5_makes_28 : decode cX5_makes 28 = .ok (.iastore, 1) := dk_79 (dk_at dksX5_makes_1 5 rfl rfl)
theorem dX5_makes_29 : decode cX5_makes 29 = .ok (.aload_n 0, 1) := dk_42 (dk_at dksX5_makes_1 6 rfl rfl)
theorem dX5_makes_30 : decode cX5_makes 30 = .ok (.getfield 27, 3) := dk_180 0 27 (dk_at dksX5_makes_1 7 rfl rfl)
theorem dX5_makes_33 : decode cX5_makes 33 = .ok (.iload_n 3, 1) := dk_29 (dk_at dksX5_makes_1 10 rfl rfl)
theorem dX5_makes_34 : decode cX5_makes 34 = .ok (.bipush (-9), 2) := dk_16 247 (dk_at dksX5_makes_1 11 rfl rfl)
theorem dX5_makes_36 : decode cX5_makes 36 = .ok (.iastore, 1) := dk_79 (dk_at dksX5_makes_1 13 rfl rfl)
theorem dX5_makes_37 : decode cX5_makes 37 = .ok (.aload_n 0, 1) := dk_42 (dk_at dksX5_makes_1 14 rfl rfl)
theorem dX5_makes_38 : decode cX5_makes 38 = .ok (.getfield 30, 3) := dk_180 0 30 (dk_at dksX5_makes_1 15 rfl rfl)
theorem dX5_makes_41 : decode cX5_makes 41 = .ok (.iload_n 3, 1) := dk_29 (dk_at dksX5_makes_1 18 rfl rfl)
theorem dX5_makes_42 : decode cX5_makes 42 = .ok (.bipush (-9), 2) := dk_16 247 (dk_at dksX5_makes_1 19 rfl rfl)
theorem dX5_makes_44 : decode cX5_makes 44 = .ok (.iastore, 1) := dk_79 (dk_at dksX5_makes_1 21 rfl rfl)
theorem dX5_makes_45 : decode cX5_makes 45 = .ok (.aload_n 0, 1) := dk_42 (dk_at dksX5_makes_1 22 rfl rfl)
theorem dX5_makes_46 : decode cX5_makes 46 = .ok (.getfield 33, 3) := dk_180 0 33 (dk_at dksX5_makes_2 0 rfl rfl)
theorem dX5_makes_49 : decode cX5_makes 49 = .ok (.iload_n 3, 1) := dk_29 (dk_at dksX5_makes_2 3 rfl rfl)
theorem dX5_makes_50 : decode cX5_makes 50 = .ok (.aload_n 0, 1) := dk_42 (dk_at dksX5_makes_2 4 rfl rfl)
theorem dX5_makes_51 : decode cX5_makes 51 = .ok (.invokevirtual 122, 3) := dk_182 0 122 (dk_at dksX5_makes_2 5 rfl rfl)
theorem dX5_makes_54 : decode cX5_makes 54 = .ok (.getfield 126, 3) := dk_180 0 126 (dk_at dksX5_makes_2 8 rfl rfl)
theorem dX5_makes_57 : decode cX5_makes 57 = .ok (.iastore, 1) := dk_79 (dk_at dksX5_makes_2 11 rfl rfl)
theorem dX5_makes_58 : decode cX5_makes 58 = .ok (.aload_n 0, 1) := dk_42 (dk_at dksX5_makes_2 12 rfl rfl)
theorem dX5_makes_59 : decode cX5_makes 59 = .ok (.getfield 36, 3) := dk_180 0 36 (dk_at dksX5_makes_2 13 rfl rfl)
theorem dX5_makes_62 : decode cX5_makes 62 = .ok (.iload_n 3, 1) := dk_29 (dk_at dksX5_makes_2 16 rfl rfl)
theorem dX5_makes_63 : decode cX5_makes 63 = .ok (.aload_n 0, 1) := dk_42 (dk_at dksX5_makes_2 17 rfl rfl)
theorem dX5_makes_64 : decode cX5_makes 64 = .ok (.getfield 86, 3) := dk_180 0 86 (dk_at dksX5_makes_2 18 rfl rfl)
theorem dX5_makes_67 : decode cX5_makes 67 = .ok (.iastore, 1) := dk_79 (dk_at dksX5_makes_2 21 rfl rfl)
theorem dX5_makes_68 : decode cX5_makes 68 = .ok (.iconst 0, 1) := dk_3 (dk_at dksX5_makes_2 22 rfl rfl)
theorem dX5_makes_69 : decode cX5_makes 69 = .ok (.istore 4, 2) := dk_54 4 (dk_at dksX5_makes_3 0 rfl rfl)
theorem dX5_makes_71 : decode cX5_makes 71 = .ok (.iload 4, 2) := dk_21 4 (dk_at dksX5_makes_3 2 rfl rfl)
theorem dX5_makes_73 : decode cX5_makes 73 = .ok (.aload_n 0, 1) := dk_42 (dk_at dksX5_makes_3 4 rfl rfl)
theorem dX5_makes_74 : decode cX5_makes 74 = .ok (.getfield 86, 3) := dk_180 0 86 (dk_at dksX5_makes_3 5 rfl rfl)
theorem dX5_makes_77 : decode cX5_makes 77 = .ok (.if_icmp .ge 55, 3) := dk_162 0 55 (dk_at dksX5_makes_3 8 rfl rfl)
theorem dX5_makes_80 : decode cX5_makes 80 = .ok (.aload_n 0, 1) := dk_42 (dk_at dksX5_makes_3 11 rfl rfl)
theorem dX5_makes_81 : decode cX5_makes 81 = .ok (.getfield 11, 3) := dk_180 0 11 (dk_at dksX5_makes_3 12 rfl rfl)
theorem dX5_makes_84 : decode cX5_makes 84 = .ok (.aload_n 0, 1) := dk_42 (dk_at dksX5_makes_3 15 rfl rfl)
theorem dX5_makes_85 : decode cX5_makes 85 = .ok (.getfield 86, 3) := dk_180 0 86 (dk_at dksX5_makes_3 16 rfl rfl)
theorem dX5_makes_88 : decode cX5_makes 88 = .ok (.iconst 1, 1) := dk_4 (dk_at dksX5_makes_3 19 rfl rfl)
theorem dX5_makes_89 : decode cX5_makes 89 = .ok (.isub, 1) := dk_100 (dk_at dksX5_makes_3 20 rfl rfl)
theorem dX5_makes_90 : decode cX5_makes 90 = .ok (.iload 4, 2) := dk_21 4 (dk_at dksX5_makes_3 21 rfl rfl)
theorem dX5_makes_92 : decode cX5_makes 92 = .ok (.isub, 1) := dk_100 (dk_at dksX5_makes_3 23 rfl rfl)
theorem dX5_makes_93 : decode cX5_makes 93 = .ok (.aaload, 1) := dk_50 (dk_at dksX5_makes_4 0 rfl rfl)
theorem dX5_makes_94 : decode cX5_makes 94 = .ok (.astore 5, 2) := dk_58 5 (dk_at dksX5_makes_4 1 rfl rfl)
theorem dX5_makes_96 : decode cX5_makes 96 = .ok (.aload_n 0, 1) := dk_42 (dk_at dksX5_makes_4 3 rfl rfl)
theorem dX5_makes_97 : decode cX5_makes 97 = .ok (.getfield 39, 3) := dk_180 0 39 (dk_at dksX5_makes_4 4 rfl rfl)
theorem dX5_makes_100 : decode cX5_makes 100 = .ok (.iload_n 3, 1) := dk_29 (dk_at dksX5_makes_4 7 rfl rfl)
theorem dX5_makes_101 : decode cX5_makes 101 = .ok (.bipush 12, 2) := dk_16 12 (dk_at dksX5_makes_4 8 rfl rfl)
theorem dX5_makes_103 : decode cX5_makes 103 = .ok (.imul, 1) := dk_104 (dk_at dksX5_makes_4 10 rfl rfl)
theorem dX5_makes_104 : decode cX5_makes 104 = .ok (.iload 4, 2) := dk_21 4 (dk_at dksX5_makes_4 11 rfl rfl)
theorem dX5_makes_106 : decode cX5_makes 106 = .ok (.iadd, 1) := dk_96 (dk_at dksX5_makes_4 13 rfl rfl)
theorem dX5_makes_107 : decode cX5_makes 107 = .ok (.sipush 1000, 3) := dk_17 3 232 (dk_at dksX5_makes_4 14 rfl rfl)
theorem dX5_makes_110 : decode cX5_makes 110 = .ok (.aload 5, 2) := dk_25 5 (dk_at dksX5_makes_4 17 rfl rfl)
theorem dX5_makes_112 : decode cX5_makes 112 = .ok (.getfield 129, 3) := dk_180 0 129 (dk_at dksX5_makes_4 19 rfl rfl)
theorem dX5_makes_115 : decode cX5_makes 115 = .ok (.getfield 133, 3) := dk_180 0 133 (dk_at dksX5_makes_5 0 rfl rfl)
theorem dX5_makes_118 : decode cX5_makes 118 = .ok (.imul, 1) := dk_104 (dk_at dksX5_makes_5 3 rfl rfl)
theorem dX5_makes_119 : decode cX5_makes 119 = .ok (.aload 5, 2) := dk_25 5 (dk_at dksX5_makes_5 4 rfl rfl)
theorem dX5_makes_121 : decode cX5_makes 121 = .ok (.getfield 126, 3) := dk_180 0 126 (dk_at dksX5_makes_5 6 rfl rfl)
theorem dX5_makes_124 : decode cX5_makes 124 = .ok (.iadd, 1) := dk_96 (dk_at dksX5_makes_5 9 rfl rfl)
theorem dX5_makes_125 : decode cX5_makes 125 = .ok (.iastore, 1) := dk_79 (dk_at dksX5_makes_5 10 rfl rfl)
theorem dX5_makes_126 : decode cX5_makes 126 = .ok (.iinc 4 1, 3) := dk_132 4 1 (dk_at dksX5_makes_5 11 rfl rfl)
theorem dX5_makes_129 : decode cX5_makes 129 = .ok (.goto (-58), 3) := dk_167 255 198 (dk_at dksX5_makes_5 14 rfl rfl)
theorem dX5_makes_132 : decode cX5_makes 132 = .ok (.iload_n 3, 1) := dk_29 (dk_at dksX5_makes_5 17 rfl rfl)
theorem dX5_makes_133 : decode cX5_makes 133 = .ok (.ireturn, 1) := dk_172 (dk_at dksX5_makes_5 18 rfl rfl)
theorem okX5_makes_0 : XOkL xms rX5_makes bX5_makes_0 := xcP (xok_aload_n dX5_makes_0 rfl) rfl (xcP (xok_getfield (ref := "WaysAtlas$Run") (Or.inl ⟨rfl, by decide⟩) dX5_makes_1 (Or.inl ⟨q529, (Or.inl rfl)⟩) xh22) rfl (xcP (xok_istore_n dX5_makes_4 rfl) rfl (xcP (xok_aload_n dX5_makes_5 rfl) rfl (xcP (xok_dup dX5_makes_6) rfl (xcP (xok_getfield (ref := "WaysAtlas$Run") (Or.inl ⟨rfl, by decide⟩) dX5_makes_7 (Or.inl ⟨q529, (Or.inl rfl)⟩) xh22) rfl (xcP (xok_iconst dX5_makes_10 rfl) rfl (xcP (xok_iadd dX5_makes_11) rfl (xcP (xok_putfield (ref := "WaysAtlas$Run") (Or.inl ⟨rfl, by decide, rfl⟩) dX5_makes_12 (Or.inl ⟨q529, (Or.inl rfl)⟩) (Or.inl rfl) xh22) rfl (xcP (xok_aload_n dX5_makes_15 rfl) rfl (xcP (xok_getfield (ref := "WaysAtlas$Run") (Or.inr ⟨rfl, by decide⟩) dX5_makes_16 (Or.inl ⟨q513, (Or.inl rfl)⟩) xh1033) rfl (xcP (xok_iload_n dX5_makes_19 rfl) rfl (xcP (xok_iload_n dX5_makes_20 rfl) rfl (xcP (xok_iastore dX5_makes_21) rfl (xcP (xok_aload_n dX5_makes_22 rfl) rfl (xcP (xok_getfield (ref := "WaysAtlas$Run") (Or.inr ⟨rfl, by decide⟩) dX5_makes_23 (Or.inl ⟨q517, (Or.inl rfl)⟩) xh1034) rfl (xcP (xok_iload_n dX5_makes_26 rfl) rfl (xcP (xok_iload_n dX5_makes_27 rfl) rfl (xcP (xok_iastore dX5_makes_28) rfl (xcP (xok_aload_n dX5_makes_29 rfl) rfl (xcP (xok_getfield (ref := "WaysAtlas$Run") (Or.inr ⟨rfl, by decide⟩) dX5_makes_30 (Or.inl ⟨q519, (Or.inl rfl)⟩) xh1035) rfl (xcP (xok_iload_n dX5_makes_33 rfl) rfl (xcP (xok_bipush dX5_makes_34 rfl) rfl (xcP (xok_iastore dX5_makes_36) rfl (xcP (xok_aload_n dX5_makes_37 rfl) rfl (xcP (xok_getfield (ref := "WaysAtlas$Run") (Or.inr ⟨rfl, by decide⟩) dX5_makes_38 (Or.inl ⟨q521, (Or.inl rfl)⟩) xh1036) rfl (xcP (xok_iload_n dX5_makes_41 rfl) rfl (xcP (xok_bipush dX5_makes_42 rfl) rfl (xcP (xok_iastore dX5_makes_44) rfl (xcP (xok_aload_n dX5_makes_45 rfl) rfl (xcP (xok_getfield (ref := "WaysAtlas$Run") (Or.inr ⟨rfl, by decide⟩) dX5_makes_46 (Or.inl ⟨q523, (Or.inl rfl)⟩) xh1037) rfl (xcP (xok_iload_n dX5_makes_49 rfl) rfl (xcP (xok_aload_n dX5_makes_50 rfl) rfl (xcC0 (xokc_list (List.forall_mem_cons.mpr ⟨xokc_V (r := (RX5, TX5, 34)) xm84 (List.mem_of_getElem? (i := 5) rfl) (by decide) rfl dX5_makes_51 q1571 q1572 q1573 q143 q1574 (by decide +kernel), fun _ h => nomatch h⟩)) rfl (xcP (xok_getfield (ref := "WaysAtlas$Frame") (Or.inl ⟨rfl, by decide⟩) dX5_makes_54 (Or.inr ⟨⟨"WaysAtlas", (List.mem_of_getElem? (i := 84) rfl)⟩, (Or.inl rfl)⟩) xh35) rfl (xcP (xok_iastore dX5_makes_57) rfl (xcP (xok_aload_n dX5_makes_58 rfl) rfl (xcP (xok_getfield (ref := "WaysAtlas$Run") (Or.inr ⟨rfl, by decide⟩) dX5_makes_59 (Or.inl ⟨q525, (Or.inl rfl)⟩) xh1038) rfl (xcP (xok_iload_n dX5_makes_62 rfl) rfl (xcP (xok_aload_n dX5_makes_63 rfl) rfl (xcP (xok_getfield (ref := "WaysAtlas$Run") (Or.inl ⟨rfl, by decide⟩) dX5_makes_64 (Or.inl ⟨q502, (Or.inl rfl)⟩) xh17) rfl (xcP (xok_iastore dX5_makes_67) rfl (xcP (xok_iconst dX5_makes_68 rfl) rfl (xcP (xok_istore dX5_makes_69) rfl (xcP xok_fal rfl trivial))))))))))))))))))))))))))))))))))))))))))))
theorem okX5_makes_71 : XOkL xms rX5_makes bX5_makes_71 := xcP (xok_iload dX5_makes_71) rfl (xcP (xok_aload_n dX5_makes_73 rfl) rfl (xcP (xok_getfield (ref := "WaysAtlas$Run") (Or.inl ⟨rfl, by decide⟩) dX5_makes_74 (Or.inl ⟨q502, (Or.inl rfl)⟩) xh17) rfl (xcP (xok_icmpge dX5_makes_77 (by decide)) rfl (xcP (xok_aload_n dX5_makes_80 rfl) rfl (xcP (xok_getfield (ref := "WaysAtlas$Run") (Or.inr ⟨rfl, by decide⟩) dX5_makes_81 (Or.inl ⟨q501, (Or.inl rfl)⟩) xh1031) rfl (xcP (xok_aload_n dX5_makes_84 rfl) rfl (xcP (xok_getfield (ref := "WaysAtlas$Run") (Or.inl ⟨rfl, by decide⟩) dX5_makes_85 (Or.inl ⟨q502, (Or.inl rfl)⟩) xh17) rfl (xcP (xok_iconst dX5_makes_88 rfl) rfl (xcP (xok_isub dX5_makes_89) rfl (xcP (xok_iload dX5_makes_90) rfl (xcP (xok_isub dX5_makes_92) rfl (xcP (xok_aaload (by decide) rfl dX5_makes_93) rfl (xcP (xok_astore dX5_makes_94) rfl (xcP (xok_aload_n dX5_makes_96 rfl) rfl (xcP (xok_getfield (ref := "WaysAtlas$Run") (Or.inr ⟨rfl, by decide⟩) dX5_makes_97 (Or.inl ⟨q527, (Or.inl rfl)⟩) xh1039) rfl (xcP (xok_iload_n dX5_makes_100 rfl) rfl (xcP (xok_bipush dX5_makes_101 rfl) rfl (xcP (xok_imul dX5_makes_103) rfl (xcP (xok_iload dX5_makes_104) rfl (xcP (xok_iadd dX5_makes_106) rfl (xcP (xok_sipush dX5_makes_107 rfl) rfl (xcP (xok_aload dX5_makes_110) rfl (xcP (xok_getfield (ref := "WaysAtlas$Frame") (Or.inr ⟨rfl, by decide⟩) dX5_makes_112 (Or.inr ⟨⟨"WaysAtlas", (List.mem_of_getElem? (i := 85) rfl)⟩, (Or.inl rfl)⟩) xh1056) rfl (xcP (xok_getfield (ref := "WaysAtlas$Method") (Or.inl ⟨rfl, by decide⟩) dX5_makes_115 (Or.inr ⟨⟨"WaysAtlas", (List.mem_of_getElem? (i := 86) rfl)⟩, (Or.inl rfl)⟩) xh76) rfl (xcP (xok_imul dX5_makes_118) rfl (xcP (xok_aload dX5_makes_119) rfl (xcP (xok_getfield (ref := "WaysAtlas$Frame") (Or.inl ⟨rfl, by decide⟩) dX5_makes_121 (Or.inr ⟨⟨"WaysAtlas", (List.mem_of_getElem? (i := 84) rfl)⟩, (Or.inl rfl)⟩) xh35) rfl (xcP (xok_iadd dX5_makes_124) rfl (xcP (xok_iastore dX5_makes_125) rfl (xcP (xok_iinc dX5_makes_126 rfl) rfl (xcP (xok_goto dX5_makes_129 (by decide)) rfl trivial)))))))))))))))))))))))))))))))
theorem okX5_makes_132 : XOkL xms rX5_makes bX5_makes_132 := xcP (xok_iload_n dX5_makes_132 rfl) rfl (xcR ⟨dX5_makes_133, rfl⟩)
theorem okM_X5_makes : XOkM xms rX5_makes := xokM0 (List.forall_mem_cons.mpr ⟨⟨rfl, okX5_makes_0⟩, List.forall_mem_cons.mpr ⟨⟨rfl, okX5_makes_71⟩, List.forall_mem_cons.mpr ⟨⟨rfl, okX5_makes_132⟩, fun _ h => nomatch h⟩⟩⟩) (xokH0 rfl (fun _ _ => rfl)) (by decide +kernel) (by decide)
abbrev cX5_top : ByteArray := prog_23_method_3_code
def dkwX5_top_0 : List UInt8 := [42, 180, 0, 11, 42, 180, 0, 86, 4, 100, 50, 176]
abbrev dktX5_top_0 : List UInt8 := dkwX5_top_0 ++ []
theorem dksX5_top_0 : cX5_top.data.toList.drop 0 = dktX5_top_0 := by decide +kernel
theorem dX5_top_0 : decode cX5_top 0 = .ok (.aload_n 0, 1) := dk_42 (dk_at dksX5_top_0 0 rfl rfl)
theorem dX5_top_1 : decode cX5_top 1 = .ok (.getfield 11, 3) := dk_180 0 11 (dk_at dksX5_top_0 1 rfl rfl)
theorem dX5_top_4 : decode cX5_top 4 = .ok (.aload_n 0, 1) := dk_42 (dk_at dksX5_top_0 4 rfl rfl)
theorem dX5_top_5 : decode cX5_top 5 = .ok (.getfield 86, 3) := dk_180 0 86 (dk_at dksX5_top_0 5 rfl rfl)
theorem dX5_top_8 : decode cX5_top 8 = .ok (.iconst 1, 1) := dk_4 (dk_at dksX5_top_0 8 rfl rfl)
theorem dX5_top_9 : decode cX5_top 9 = .ok (.isub, 1) := dk_100 (dk_at dksX5_top_0 9 rfl rfl)
theorem dX5_top_10 : decode cX5_top 10 = .ok (.aaload, 1) := dk_50 (dk_at dksX5_top_0 10 rfl rfl)
theorem dX5_top_11 : decode cX5_top 11 = .ok (.areturn, 1) := dk_176 (dk_at dksX5_top_0 11 rfl rfl)
theorem okX5_top_0 : XOkL xms rX5_top bX5_top_0 := xcP (xok_aload_n dX5_top_0 rfl) rfl (xcP (xok_getfield (ref := "WaysAtlas$Run") (Or.inr ⟨rfl, by decide⟩) dX5_top_1 (Or.inl ⟨q501, (Or.inl rfl)⟩) xh1031) rfl (xcP (xok_aload_n dX5_top_4 rfl) rfl (xcP (xok_getfield (ref := "WaysAtlas$Run") (Or.inl ⟨rfl, by decide⟩) dX5_top_5 (Or.inl ⟨q502, (Or.inl rfl)⟩) xh17) rfl (xcP (xok_iconst dX5_top_8 rfl) rfl (xcP (xok_isub dX5_top_9) rfl (xcP (xok_aaload (by decide) rfl dX5_top_10) rfl (xcR ⟨dX5_top_11, _, rfl, Or.inl ⟨_, rfl⟩⟩)))))))
theorem okM_X5_top : XOkM xms rX5_top := xokM0 (List.forall_mem_cons.mpr ⟨⟨rfl, okX5_top_0⟩, fun _ h => nomatch h⟩) (xokH0 rfl (fun _ _ => rfl)) (by decide +kernel) (by decide)
abbrev cX5_step : ByteArray := prog_23_method_4_code
def dkwX5_step_1 : List UInt8 := [181, 0, 92, 177]
abbrev dktX5_step_1 : List UInt8 := dkwX5_step_1 ++ []
def dkwX5_step_0 : List UInt8 := [42, 180, 0, 92, 42, 180, 0, 83, 160, 0, 8, 42, 180, 0, 74, 191, 42, 89, 180, 0, 92, 4, 96]
abbrev dktX5_step_0 : List UInt8 := dkwX5_step_0 ++ dktX5_step_1
theorem dksX5_step_0 : cX5_step.data.toList.drop 0 = dktX5_step_0 := by decide +kernel
theorem dksX5_step_1 : cX5_step.data.toList.drop 23 = dktX5_step_1 := dk_seg dksX5_step_0 23 rfl rfl
theorem dX5_step_0 : decode cX5_step 0 = .ok (.aload_n 0, 1) := dk_42 (dk_at dksX5_step_0 0 rfl rfl)
theorem dX5_step_1 : decode cX5_step 1 = .ok (.getfield 92, 3) := dk_180 0 92 (dk_at dksX5_step_0 1 rfl rfl)
theorem dX5_step_4 : decode cX5_step 4 = .ok (.aload_n 0, 1) := dk_42 (dk_at dksX5_step_0 4 rfl rfl)
theorem dX5_step_5 : decode cX5_step 5 = .ok (.getfield 83, 3) := dk_180 0 83 (dk_at dksX5_step_0 5 rfl rfl)
theorem dX5_step_8 : decode cX5_step 8 = .ok (.if_icmp .ne 8, 3) := dk_160 0 8 (dk_at dksX5_step_0 8 rfl rfl)
theorem dX5_step_11 : decode cX5_step 11 = .ok (.aload_n 0, 1) := dk_42 (dk_at dksX5_step_0 11 rfl rfl)
theorem dX5_step_12 : decode cX5_step 12 = .ok (.getfield 74, 3) := dk_180 0 74 (dk_at dksX5_step_0 12 rfl rfl)
theorem dX5_step_15 : decode cX5_step 15 = .ok (.athrow, 1) := dk_191 (dk_at dksX5_step_0 15 rfl rfl)
theorem dX5_step_16 : decode cX5_step 16 = .ok (.aload_n 0, 1) := dk_42 (dk_at dksX5_step_0 16 rfl rfl)
theorem dX5_step_17 : decode cX5_step 17 = .ok (.dup, 1) := dk_89 (dk_at dksX5_step_0 17 rfl rfl)
theorem dX5_step_18 : decode cX5_step 18 = .ok (.getfield 92, 3) := dk_180 0 92 (dk_at dksX5_step_0 18 rfl rfl)
theorem dX5_step_21 : decode cX5_step 21 = .ok (.iconst 1, 1) := dk_4 (dk_at dksX5_step_0 21 rfl rfl)
theorem dX5_step_22 : decode cX5_step 22 = .ok (.iadd, 1) := dk_96 (dk_at dksX5_step_0 22 rfl rfl)
theorem dX5_step_23 : decode cX5_step 23 = .ok (.putfield 92, 3) := dk_181 0 92 (dk_at dksX5_step_1 0 rfl rfl)
theorem dX5_step_26 : decode cX5_step 26 = .ok (.return_, 1) := dk_177 (dk_at dksX5_step_1 3 rfl rfl)
theorem okX5_step_0 : XOkL xms rX5_step bX5_step_0 := xcP (xok_aload_n dX5_step_0 rfl) rfl (xcP (xok_getfield (ref := "WaysAtlas$Run") (Or.inl ⟨rfl, by decide⟩) dX5_step_1 (Or.inl ⟨q506, (Or.inl rfl)⟩) xh19) rfl (xcP (xok_aload_n dX5_step_4 rfl) rfl (xcP (xok_getfield (ref := "WaysAtlas$Run") (Or.inl ⟨rfl, by decide⟩) dX5_step_5 (Or.inl ⟨q508, (Or.inl rfl)⟩) xh20) rfl (xcP (xok_icmpne dX5_step_8 (by decide)) rfl (xcP (xok_aload_n dX5_step_11 rfl) rfl (xcP (xok_getfield (ref := "WaysAtlas$Run") (Or.inr ⟨rfl, by decide⟩) dX5_step_12 (Or.inl ⟨q575, (Or.inl rfl)⟩) xh1047) rfl (xcT dX5_step_15)))))))
theorem okX5_step_16 : XOkL xms rX5_step bX5_step_16 := xcP (xok_aload_n dX5_step_16 rfl) rfl (xcP (xok_dup dX5_step_17) rfl (xcP (xok_getfield (ref := "WaysAtlas$Run") (Or.inl ⟨rfl, by decide⟩) dX5_step_18 (Or.inl ⟨q506, (Or.inl rfl)⟩) xh19) rfl (xcP (xok_iconst dX5_step_21 rfl) rfl (xcP (xok_iadd dX5_step_22) rfl (xcP (xok_putfield (ref := "WaysAtlas$Run") (Or.inl ⟨rfl, by decide, rfl⟩) dX5_step_23 (Or.inl ⟨q506, (Or.inl rfl)⟩) (Or.inl rfl) xh19) rfl (xcR ⟨dX5_step_26, rfl⟩))))))
theorem okM_X5_step : XOkM xms rX5_step := xokM0 (List.forall_mem_cons.mpr ⟨⟨rfl, okX5_step_0⟩, List.forall_mem_cons.mpr ⟨⟨rfl, okX5_step_16⟩, fun _ h => nomatch h⟩⟩) (xokH0 rfl (fun _ _ => rfl)) (by decide +kernel) (by decide)
abbrev cX5_opens : ByteArray := prog_23_method_10_code
def dkwX5_opens_3 : List UInt8 := [167, 255, 189, 42, 16, 247, 181, 0, 160, 28, 172]
abbrev dktX5_opens_3 : List UInt8 := dkwX5_opens_3 ++ []
def dkwX5_opens_2 : List UInt8 := [21, 4, 21, 5, 96, 42, 180, 0, 101, 79, 42, 89, 180, 0, 101, 4, 96, 181, 0, 101, 132, 5, 1]
abbrev dktX5_opens_2 : List UInt8 := dkwX5_opens_2 ++ dktX5_opens_3
def dkwX5_opens_1 : List UInt8 := [21, 6, 16, 247, 159, 0, 18, 42, 42, 21, 6, 16, 247, 182, 0, 138, 181, 0, 160, 21, 5, 172, 45]
abbrev dktX5_opens_1 : List UInt8 := dkwX5_opens_1 ++ dktX5_opens_2
def dkwX5_opens_0 : List UInt8 := [3, 54, 5, 21, 5, 28, 162, 0, 67, 42, 182, 0, 157, 42, 27, 4, 21, 5, 96, 182, 0, 151, 54, 6]
abbrev dktX5_opens_0 : List UInt8 := dkwX5_opens_0 ++ dktX5_opens_1
theorem dksX5_opens_0 : cX5_opens.data.toList.drop 0 = dktX5_opens_0 := by decide +kernel
theorem dksX5_opens_1 : cX5_opens.data.toList.drop 24 = dktX5_opens_1 := dk_seg dksX5_opens_0 24 rfl rfl
theorem dksX5_opens_2 : cX5_opens.data.toList.drop 47 = dktX5_opens_2 := dk_seg dksX5_opens_1 23 rfl rfl
theorem dksX5_opens_3 : cX5_opens.data.toList.drop 70 = dktX5_opens_3 := dk_seg dksX5_opens_2 23 rfl rfl
theorem dX5_opens_0 : decode cX5_opens 0 = .ok (.iconst 0, 1) := dk_3 (dk_at dksX5_opens_0 0 rfl rfl)
theorem dX5_opens_1 : decode cX5_opens 1 = .ok (.istore 5, 2) := dk_54 5 (dk_at dksX5_opens_0 1 rfl rfl)
theorem dX5_opens_3 : decode cX5_opens 3 = .ok (.iload 5, 2) := dk_21 5 (dk_at dksX5_opens_0 3 rfl rfl)
theorem dX5_opens_5 : decode cX5_opens 5 = .ok (.iload_n 2, 1) := dk_28 (dk_at dksX5_opens_0 5 rfl rfl)
theorem dX5_opens_6 : decode cX5_opens 6 = .ok (.if_icmp .ge 67, 3) := dk_162 0 67 (dk_at dksX5_opens_0 6 rfl rfl)
theorem dX5_opens_9 : decode cX5_opens 9 = .ok (.aload_n 0, 1) := dk_42 (dk_at dksX5_opens_0 9 rfl rfl)
theorem dX5_opens_10 : decode cX5_opens 10 = .ok (.invokevirtual 157, 3) := dk_182 0 157 (dk_at dksX5_opens_0 10 rfl rfl)
theorem dX5_opens_13 : decode cX5_opens 13 = .ok (.aload_n 0, 1) := dk_42 (dk_at dksX5_opens_0 13 rfl rfl)
theorem dX5_opens_14 : decode cX5_opens 14 = .ok (.iload_n 1, 1) := dk_27 (dk_at dksX5_opens_0 14 rfl rfl)
theorem dX5_opens_15 : decode cX5_opens 15 = .ok (.iconst 1, 1) := dk_4 (dk_at dksX5_opens_0 15 rfl rfl)
theorem dX5_opens_16 : decode cX5_opens 16 = .ok (.iload 5, 2) := dk_21 5 (dk_at dksX5_opens_0 16 rfl rfl)
theorem dX5_opens_18 : decode cX5_opens 18 = .ok (.iadd, 1) := dk_96 (dk_at dksX5_opens_0 18 rfl rfl)
theorem dX5_opens_19 : decode cX5_opens 19 = .ok (.invokevirtual 151, 3) := dk_182 0 151 (dk_at dksX5_opens_0 19 rfl rfl)
theorem dX5_opens_22 : decode cX5_opens 22 = .ok (.istore 6, 2) := dk_54 6 (dk_at dksX5_opens_0 22 rfl rfl)
theorem dX5_opens_24 : decode cX5_opens 24 = .ok (.iload 6, 2) := dk_21 6 (dk_at dksX5_opens_1 0 rfl rfl)
theorem dX5_opens_26 : decode cX5_opens 26 = .ok (.bipush (-9), 2) := dk_16 247 (dk_at dksX5_opens_1 2 rfl rfl)
theorem dX5_opens_28 : decode cX5_opens 28 = .ok (.if_icmp .eq 18, 3) := dk_159 0 18 (dk_at dksX5_opens_1 4 rfl rfl)
theorem dX5_opens_31 : decode cX5_opens 31 = .ok (.aload_n 0, 1) := dk_42 (dk_at dksX5_opens_1 7 rfl rfl)
theorem dX5_opens_32 : decode cX5_opens 32 = .ok (.aload_n 0, 1) := dk_42 (dk_at dksX5_opens_1 8 rfl rfl)
theorem dX5_opens_33 : decode cX5_opens 33 = .ok (.iload 6, 2) := dk_21 6 (dk_at dksX5_opens_1 9 rfl rfl)
theorem dX5_opens_35 : decode cX5_opens 35 = .ok (.bipush (-9), 2) := dk_16 247 (dk_at dksX5_opens_1 11 rfl rfl)
theorem dX5_opens_37 : decode cX5_opens 37 = .ok (.invokevirtual 138, 3) := dk_182 0 138 (dk_at dksX5_opens_1 13 rfl rfl)
theorem dX5_opens_40 : decode cX5_opens 40 = .ok (.putfield 160, 3) := dk_181 0 160 (dk_at dksX5_opens_1 16 rfl rfl)
theorem dX5_opens_43 : decode cX5_opens 43 = .ok (.iload 5, 2) := dk_21 5 (dk_at dksX5_opens_1 19 rfl rfl)
theorem dX5_opens_45 : decode cX5_opens 45 = .ok (.ireturn, 1) := dk_172 (dk_at dksX5_opens_1 21 rfl rfl)
theorem dX5_opens_46 : decode cX5_opens 46 = .ok (.aload_n 3, 1) := dk_45 (dk_at dksX5_opens_1 22 rfl rfl)
theorem dX5_opens_47 : decode cX5_opens 47 = .ok (.iload 4, 2) := dk_21 4 (dk_at dksX5_opens_2 0 rfl rfl)
theorem dX5_opens_49 : decode cX5_opens 49 = .ok (.iload 5, 2) := dk_21 5 (dk_at dksX5_opens_2 2 rfl rfl)
theorem dX5_opens_51 : decode cX5_opens 51 = .ok (.iadd, 1) := dk_96 (dk_at dksX5_opens_2 4 rfl rfl)
theorem dX5_opens_52 : decode cX5_opens 52 = .ok (.aload_n 0, 1) := dk_42 (dk_at dksX5_opens_2 5 rfl rfl)
theorem dX5_opens_53 : decode cX5_opens 53 = .ok (.getfield 101, 3) := dk_180 0 101 (dk_at dksX5_opens_2 6 rfl rfl)
theorem dX5_opens_56 : decode cX5_opens 56 = .ok (.iastore, 1) := dk_79 (dk_at dksX5_opens_2 9 rfl rfl)
theorem dX5_opens_57 : decode cX5_opens 57 = .ok (.aload_n 0, 1) := dk_42 (dk_at dksX5_opens_2 10 rfl rfl)
theorem dX5_opens_58 : decode cX5_opens 58 = .ok (.dup, 1) := dk_89 (dk_at dksX5_opens_2 11 rfl rfl)
theorem dX5_opens_59 : decode cX5_opens 59 = .ok (.getfield 101, 3) := dk_180 0 101 (dk_at dksX5_opens_2 12 rfl rfl)
theorem dX5_opens_62 : decode cX5_opens 62 = .ok (.iconst 1, 1) := dk_4 (dk_at dksX5_opens_2 15 rfl rfl)
theorem dX5_opens_63 : decode cX5_opens 63 = .ok (.iadd, 1) := dk_96 (dk_at dksX5_opens_2 16 rfl rfl)
theorem dX5_opens_64 : decode cX5_opens 64 = .ok (.putfield 101, 3) := dk_181 0 101 (dk_at dksX5_opens_2 17 rfl rfl)
theorem dX5_opens_67 : decode cX5_opens 67 = .ok (.iinc 5 1, 3) := dk_132 5 1 (dk_at dksX5_opens_2 20 rfl rfl)
theorem dX5_opens_70 : decode cX5_opens 70 = .ok (.goto (-67), 3) := dk_167 255 189 (dk_at dksX5_opens_3 0 rfl rfl)
theorem dX5_opens_73 : decode cX5_opens 73 = .ok (.aload_n 0, 1) := dk_42 (dk_at dksX5_opens_3 3 rfl rfl)
theorem dX5_opens_74 : decode cX5_opens 74 = .ok (.bipush (-9), 2) := dk_16 247 (dk_at dksX5_opens_3 4 rfl rfl)
theorem dX5_opens_76 : decode cX5_opens 76 = .ok (.putfield 160, 3) := dk_181 0 160 (dk_at dksX5_opens_3 6 rfl rfl)
theorem dX5_opens_79 : decode cX5_opens 79 = .ok (.iload_n 2, 1) := dk_28 (dk_at dksX5_opens_3 9 rfl rfl)
theorem dX5_opens_80 : decode cX5_opens 80 = .ok (.ireturn, 1) := dk_172 (dk_at dksX5_opens_3 10 rfl rfl)
theorem okX5_opens_0 : XOkL xms rX5_opens bX5_opens_0 := xcP (xok_iconst dX5_opens_0 rfl) rfl (xcP (xok_istore dX5_opens_1) rfl (xcP xok_fal rfl trivial))
theorem okX5_opens_3 : XOkL xms rX5_opens bX5_opens_3 := xcP (xok_iload dX5_opens_3) rfl (xcP (xok_iload_n dX5_opens_5 rfl) rfl (xcP (xok_icmpge dX5_opens_6 (by decide)) rfl (xcP (xok_aload_n dX5_opens_9 rfl) rfl (xcC0 (xokc_list (List.forall_mem_cons.mpr ⟨xokc_V (r := (RX5, TX5, 34)) xm85 (List.mem_of_getElem? (i := 5) rfl) (by decide) rfl dX5_opens_10 q1667 q1594 q1595 q143 q1596 (by decide +kernel), fun _ h => nomatch h⟩)) rfl (xcP (xok_aload_n dX5_opens_13 rfl) rfl (xcP (xok_iload_n dX5_opens_14 rfl) rfl (xcP (xok_iconst dX5_opens_15 rfl) rfl (xcP (xok_iload dX5_opens_16) rfl (xcP (xok_iadd dX5_opens_18) rfl (xcC0 (xokc_list (List.forall_mem_cons.mpr ⟨xokc_V (r := (RX5, TX5, 34)) xm87 (List.mem_of_getElem? (i := 5) rfl) (by decide) rfl dX5_opens_19 q1668 q1669 q1670 q143 q1671 (by decide +kernel), fun _ h => nomatch h⟩)) rfl (xcP (xok_istore dX5_opens_22) rfl (xcP (xok_iload dX5_opens_24) rfl (xcP (xok_bipush dX5_opens_26 rfl) rfl (xcP (xok_icmpeq dX5_opens_28 (by decide)) rfl (xcP (xok_aload_n dX5_opens_31 rfl) rfl (xcP (xok_aload_n dX5_opens_32 rfl) rfl (xcP (xok_iload dX5_opens_33) rfl (xcP (xok_bipush dX5_opens_35 rfl) rfl (xcC0 (xokc_list (List.forall_mem_cons.mpr ⟨xokc_V (r := (RX5, TX5, 34)) xm83 (List.mem_of_getElem? (i := 5) rfl) (by decide) rfl dX5_opens_37 q1567 q1568 q1569 q143 q1570 (by decide +kernel), fun _ h => nomatch h⟩)) rfl (xcP (xok_putfield (ref := "WaysAtlas$Run") (Or.inl ⟨rfl, by decide, rfl⟩) dX5_opens_40 (Or.inl ⟨q569, (Or.inl rfl)⟩) (Or.inl rfl) xh31) rfl (xcP (xok_iload dX5_opens_43) rfl (xcR ⟨dX5_opens_45, rfl⟩))))))))))))))))))))))
theorem okX5_opens_46 : XOkL xms rX5_opens bX5_opens_46 := xcP (xok_aload_n dX5_opens_46 rfl) rfl (xcP (xok_iload dX5_opens_47) rfl (xcP (xok_iload dX5_opens_49) rfl (xcP (xok_iadd dX5_opens_51) rfl (xcP (xok_aload_n dX5_opens_52 rfl) rfl (xcP (xok_getfield (ref := "WaysAtlas$Run") (Or.inl ⟨rfl, by decide⟩) dX5_opens_53 (Or.inl ⟨q531, (Or.inl rfl)⟩) xh23) rfl (xcP (xok_iastore dX5_opens_56) rfl (xcP (xok_aload_n dX5_opens_57 rfl) rfl (xcP (xok_dup dX5_opens_58) rfl (xcP (xok_getfield (ref := "WaysAtlas$Run") (Or.inl ⟨rfl, by decide⟩) dX5_opens_59 (Or.inl ⟨q531, (Or.inl rfl)⟩) xh23) rfl (xcP (xok_iconst dX5_opens_62 rfl) rfl (xcP (xok_iadd dX5_opens_63) rfl (xcP (xok_putfield (ref := "WaysAtlas$Run") (Or.inl ⟨rfl, by decide, rfl⟩) dX5_opens_64 (Or.inl ⟨q531, (Or.inl rfl)⟩) (Or.inl rfl) xh23) rfl (xcP (xok_iinc dX5_opens_67 rfl) rfl (xcP (xok_goto dX5_opens_70 (by decide)) rfl trivial))))))))))))))
theorem okX5_opens_73 : XOkL xms rX5_opens bX5_opens_73 := xcP (xok_aload_n dX5_opens_73 rfl) rfl (xcP (xok_bipush dX5_opens_74 rfl) rfl (xcP (xok_putfield (ref := "WaysAtlas$Run") (Or.inl ⟨rfl, by decide, rfl⟩) dX5_opens_76 (Or.inl ⟨q569, (Or.inl rfl)⟩) (Or.inl rfl) xh31) rfl (xcP (xok_iload_n dX5_opens_79 rfl) rfl (xcR ⟨dX5_opens_80, rfl⟩))))
theorem okM_X5_opens : XOkM xms rX5_opens := xokM0 (List.forall_mem_cons.mpr ⟨⟨rfl, okX5_opens_0⟩, List.forall_mem_cons.mpr ⟨⟨rfl, okX5_opens_3⟩, List.forall_mem_cons.mpr ⟨⟨rfl, okX5_opens_46⟩, List.forall_mem_cons.mpr ⟨⟨rfl, okX5_opens_73⟩, fun _ h => nomatch h⟩⟩⟩⟩) (xokH0 rfl (fun _ _ => rfl)) (by decide +kernel) (by decide)
abbrev cX5_passes : ByteArray := prog_23_method_8_code
def dkwX5_passes_3 : List UInt8 := [29, 42, 180, 0, 48, 29, 46, 182, 0, 146, 172]
abbrev dktX5_passes_3 : List UInt8 := dkwX5_passes_3 ++ []
def dkwX5_passes_2 : List UInt8 := [104, 4, 96, 42, 180, 0, 48, 29, 46, 79, 42, 89, 180, 0, 113, 4, 96, 181, 0, 113, 42, 180, 0, 78]
abbrev dktX5_passes_2 : List UInt8 := dkwX5_passes_2 ++ dktX5_passes_3
def dkwX5_passes_1 : List UInt8 := [162, 0, 44, 42, 180, 0, 51, 5, 42, 180, 0, 113, 104, 29, 79, 42, 180, 0, 51, 5, 42, 180, 0, 113]
abbrev dktX5_passes_1 : List UInt8 := dkwX5_passes_1 ++ dktX5_passes_2
def dkwX5_passes_0 : List UInt8 := [16, 7, 27, 104, 28, 96, 62, 42, 180, 0, 48, 29, 92, 46, 4, 96, 79, 42, 180, 0, 113, 16, 60]
abbrev dktX5_passes_0 : List UInt8 := dkwX5_passes_0 ++ dktX5_passes_1
theorem dksX5_passes_0 : cX5_passes.data.toList.drop 0 = dktX5_passes_0 := by decide +kernel
theorem dksX5_passes_1 : cX5_passes.data.toList.drop 23 = dktX5_passes_1 := dk_seg dksX5_passes_0 23 rfl rfl
theorem dksX5_passes_2 : cX5_passes.data.toList.drop 47 = dktX5_passes_2 := dk_seg dksX5_passes_1 24 rfl rfl
theorem dksX5_passes_3 : cX5_passes.data.toList.drop 71 = dktX5_passes_3 := dk_seg dksX5_passes_2 24 rfl rfl
theorem dX5_passes_0 : decode cX5_passes 0 = .ok (.bipush 7, 2) := dk_16 7 (dk_at dksX5_passes_0 0 rfl rfl)
theorem dX5_passes_2 : decode cX5_passes 2 = .ok (.iload_n 1, 1) := dk_27 (dk_at dksX5_passes_0 2 rfl rfl)
theorem dX5_passes_3 : decode cX5_passes 3 = .ok (.imul, 1) := dk_104 (dk_at dksX5_passes_0 3 rfl rfl)
theorem dX5_passes_4 : decode cX5_passes 4 = .ok (.iload_n 2, 1) := dk_28 (dk_at dksX5_passes_0 4 rfl rfl)
theorem dX5_passes_5 : decode cX5_passes 5 = .ok (.iadd, 1) := dk_96 (dk_at dksX5_passes_0 5 rfl rfl)
theorem dX5_passes_6 : decode cX5_passes 6 = .ok (.istore_n 3, 1) := dk_62 (dk_at dksX5_passes_0 6 rfl rfl)
theorem dX5_passes_7 : decode cX5_passes 7 = .ok (.aload_n 0, 1) := dk_42 (dk_at dksX5_passes_0 7 rfl rfl)
theorem dX5_passes_8 : decode cX5_passes 8 = .ok (.getfield 48, 3) := dk_180 0 48 (dk_at dksX5_passes_0 8 rfl rfl)
theorem dX5_passes_11 : decode cX5_passes 11 = .ok (.iload_n 3, 1) := dk_29 (dk_at dksX5_passes_0 11 rfl rfl)
theorem dX5_passes_12 : decode cX5_passes 12 = .ok (.dup2, 1) := dk_92 (dk_at dksX5_passes_0 12 rfl rfl)
theorem dX5_passes_13 : decode cX5_passes 13 = .ok (.iaload, 1) := dk_46 (dk_at dksX5_passes_0 13 rfl rfl)
theorem dX5_passes_14 : decode cX5_passes 14 = .ok (.iconst 1, 1) := dk_4 (dk_at dksX5_passes_0 14 rfl rfl)
theorem dX5_passes_15 : decode cX5_passes 15 = .ok (.iadd, 1) := dk_96 (dk_at dksX5_passes_0 15 rfl rfl)
theorem dX5_passes_16 : decode cX5_passes 16 = .ok (.iastore, 1) := dk_79 (dk_at dksX5_passes_0 16 rfl rfl)
theorem dX5_passes_17 : decode cX5_passes 17 = .ok (.aload_n 0, 1) := dk_42 (dk_at dksX5_passes_0 17 rfl rfl)
theorem dX5_passes_18 : decode cX5_passes 18 = .ok (.getfield 113, 3) := dk_180 0 113 (dk_at dksX5_passes_0 18 rfl rfl)
theorem dX5_passes_21 : decode cX5_passes 21 = .ok (.bipush 60, 2) := dk_16 60 (dk_at dksX5_passes_0 21 rfl rfl)
theorem dX5_passes_23 : decode cX5_passes 23 = .ok (.if_icmp .ge 44, 3) := dk_162 0 44 (dk_at dksX5_passes_1 0 rfl rfl)
theorem dX5_passes_26 : decode cX5_passes 26 = .ok (.aload_n 0, 1) := dk_42 (dk_at dksX5_passes_1 3 rfl rfl)
theorem dX5_passes_27 : decode cX5_passes 27 = .ok (.getfield 51, 3) := dk_180 0 51 (dk_at dksX5_passes_1 4 rfl rfl)
theorem dX5_passes_30 : decode cX5_passes 30 = .ok (.iconst 2, 1) := dk_5 (dk_at dksX5_passes_1 7 rfl rfl)
theorem dX5_passes_31 : decode cX5_passes 31 = .ok (.aload_n 0, 1) := dk_42 (dk_at dksX5_passes_1 8 rfl rfl)
theorem dX5_passes_32 : decode cX5_passes 32 = .ok (.getfield 113, 3) := dk_180 0 113 (dk_at dksX5_passes_1 9 rfl rfl)
theorem dX5_passes_35 : decode cX5_passes 35 = .ok (.imul, 1) := dk_104 (dk_at dksX5_passes_1 12 rfl rfl)
theorem dX5_passes_36 : decode cX5_passes 36 = .ok (.iload_n 3, 1) := dk_29 (dk_at dksX5_passes_1 13 rfl rfl)
theorem dX5_passes_37 : decode cX5_passes 37 = .ok (.iastore, 1) := dk_79 (dk_at dksX5_passes_1 14 rfl rfl)
theorem dX5_passes_38 : decode cX5_passes 38 = .ok (.aload_n 0, 1) := dk_42 (dk_at dksX5_passes_1 15 rfl rfl)
theorem dX5_passes_39 : decode cX5_passes 39 = .ok (.getfield 51, 3) := dk_180 0 51 (dk_at dksX5_passes_1 16 rfl rfl)
theorem dX5_passes_42 : decode cX5_passes 42 = .ok (.iconst 2, 1) := dk_5 (dk_at dksX5_passes_1 19 rfl rfl)
theorem dX5_passes_43 : decode cX5_passes 43 = .ok (.aload_n 0, 1) := dk_42 (dk_at dksX5_passes_1 20 rfl rfl)
theorem dX5_passes_44 : decode cX5_passes 44 = .ok (.getfield 113, 3) := dk_180 0 113 (dk_at dksX5_passes_1 21 rfl rfl)
theorem dX5_passes_47 : decode cX5_passes 47 = .ok (.imul, 1) := dk_104 (dk_at dksX5_passes_2 0 rfl rfl)
theorem dX5_passes_48 : decode cX5_passes 48 = .ok (.iconst 1, 1) := dk_4 (dk_at dksX5_passes_2 1 rfl rfl)
theorem dX5_passes_49 : decode cX5_passes 49 = .ok (.iadd, 1) := dk_96 (dk_at dksX5_passes_2 2 rfl rfl)
theorem dX5_passes_50 : decode cX5_passes 50 = .ok (.aload_n 0, 1) := dk_42 (dk_at dksX5_passes_2 3 rfl rfl)
theorem dX5_passes_51 : decode cX5_passes 51 = .ok (.getfield 48, 3) := dk_180 0 48 (dk_at dksX5_passes_2 4 rfl rfl)
theorem dX5_passes_54 : decode cX5_passes 54 = .ok (.iload_n 3, 1) := dk_29 (dk_at dksX5_passes_2 7 rfl rfl)
theorem dX5_passes_55 : decode cX5_passes 55 = .ok (.iaload, 1) := dk_46 (dk_at dksX5_passes_2 8 rfl rfl)
theorem dX5_passes_56 : decode cX5_passes 56 = .ok (.iastore, 1) := dk_79 (dk_at dksX5_passes_2 9 rfl rfl)
theorem dX5_passes_57 : decode cX5_passes 57 = .ok (.aload_n 0, 1) := dk_42 (dk_at dksX5_passes_2 10 rfl rfl)
theorem dX5_passes_58 : decode cX5_passes 58 = .ok (.dup, 1) := dk_89 (dk_at dksX5_passes_2 11 rfl rfl)
theorem dX5_passes_59 : decode cX5_passes 59 = .ok (.getfield 113, 3) := dk_180 0 113 (dk_at dksX5_passes_2 12 rfl rfl)
theorem dX5_passes_62 : decode cX5_passes 62 = .ok (.iconst 1, 1) := dk_4 (dk_at dksX5_passes_2 15 rfl rfl)
theorem dX5_passes_63 : decode cX5_passes 63 = .ok (.iadd, 1) := dk_96 (dk_at dksX5_passes_2 16 rfl rfl)
theorem dX5_passes_64 : decode cX5_passes 64 = .ok (.putfield 113, 3) := dk_181 0 113 (dk_at dksX5_passes_2 17 rfl rfl)
theorem dX5_passes_67 : decode cX5_passes 67 = .ok (.aload_n 0, 1) := dk_42 (dk_at dksX5_passes_2 20 rfl rfl)
theorem dX5_passes_68 : decode cX5_passes 68 = .ok (.getfield 78, 3) := dk_180 0 78 (dk_at dksX5_passes_2 21 rfl rfl)
theorem dX5_passes_71 : decode cX5_passes 71 = .ok (.iload_n 3, 1) := dk_29 (dk_at dksX5_passes_3 0 rfl rfl)
theorem dX5_passes_72 : decode cX5_passes 72 = .ok (.aload_n 0, 1) := dk_42 (dk_at dksX5_passes_3 1 rfl rfl)
theorem dX5_passes_73 : decode cX5_passes 73 = .ok (.getfield 48, 3) := dk_180 0 48 (dk_at dksX5_passes_3 2 rfl rfl)
theorem dX5_passes_76 : decode cX5_passes 76 = .ok (.iload_n 3, 1) := dk_29 (dk_at dksX5_passes_3 5 rfl rfl)
theorem dX5_passes_77 : decode cX5_passes 77 = .ok (.iaload, 1) := dk_46 (dk_at dksX5_passes_3 6 rfl rfl)
theorem dX5_passes_78 : decode cX5_passes 78 = .ok (.invokevirtual 146, 3) := dk_182 0 146 (dk_at dksX5_passes_3 7 rfl rfl)
theorem dX5_passes_81 : decode cX5_passes 81 = .ok (.ireturn, 1) := dk_172 (dk_at dksX5_passes_3 10 rfl rfl)
theorem okX5_passes_0 : XOkL xms rX5_passes bX5_passes_0 := xcP (xok_bipush dX5_passes_0 rfl) rfl (xcP (xok_iload_n dX5_passes_2 rfl) rfl (xcP (xok_imul dX5_passes_3) rfl (xcP (xok_iload_n dX5_passes_4 rfl) rfl (xcP (xok_iadd dX5_passes_5) rfl (xcP (xok_istore_n dX5_passes_6 rfl) rfl (xcP (xok_aload_n dX5_passes_7 rfl) rfl (xcP (xok_getfield (ref := "WaysAtlas$Run") (Or.inr ⟨rfl, by decide⟩) dX5_passes_8 (Or.inl ⟨q545, (Or.inl rfl)⟩) xh1042) rfl (xcP (xok_iload_n dX5_passes_11 rfl) rfl (xcP (xok_dup2 dX5_passes_12) rfl (xcP (xok_iaload dX5_passes_13) rfl (xcP (xok_iconst dX5_passes_14 rfl) rfl (xcP (xok_iadd dX5_passes_15) rfl (xcP (xok_iastore dX5_passes_16) rfl (xcP (xok_aload_n dX5_passes_17 rfl) rfl (xcP (xok_getfield (ref := "WaysAtlas$Run") (Or.inl ⟨rfl, by decide⟩) dX5_passes_18 (Or.inl ⟨q548, (Or.inl rfl)⟩) xh26) rfl (xcP (xok_bipush dX5_passes_21 rfl) rfl (xcP (xok_icmpge dX5_passes_23 (by decide)) rfl (xcP (xok_aload_n dX5_passes_26 rfl) rfl (xcP (xok_getfield (ref := "WaysAtlas$Run") (Or.inr ⟨rfl, by decide⟩) dX5_passes_27 (Or.inl ⟨q546, (Or.inl rfl)⟩) xh1043) rfl (xcP (xok_iconst dX5_passes_30 rfl) rfl (xcP (xok_aload_n dX5_passes_31 rfl) rfl (xcP (xok_getfield (ref := "WaysAtlas$Run") (Or.inl ⟨rfl, by decide⟩) dX5_passes_32 (Or.inl ⟨q548, (Or.inl rfl)⟩) xh26) rfl (xcP (xok_imul dX5_passes_35) rfl (xcP (xok_iload_n dX5_passes_36 rfl) rfl (xcP (xok_iastore dX5_passes_37) rfl (xcP (xok_aload_n dX5_passes_38 rfl) rfl (xcP (xok_getfield (ref := "WaysAtlas$Run") (Or.inr ⟨rfl, by decide⟩) dX5_passes_39 (Or.inl ⟨q546, (Or.inl rfl)⟩) xh1043) rfl (xcP (xok_iconst dX5_passes_42 rfl) rfl (xcP (xok_aload_n dX5_passes_43 rfl) rfl (xcP (xok_getfield (ref := "WaysAtlas$Run") (Or.inl ⟨rfl, by decide⟩) dX5_passes_44 (Or.inl ⟨q548, (Or.inl rfl)⟩) xh26) rfl (xcP (xok_imul dX5_passes_47) rfl (xcP (xok_iconst dX5_passes_48 rfl) rfl (xcP (xok_iadd dX5_passes_49) rfl (xcP (xok_aload_n dX5_passes_50 rfl) rfl (xcP (xok_getfield (ref := "WaysAtlas$Run") (Or.inr ⟨rfl, by decide⟩) dX5_passes_51 (Or.inl ⟨q545, (Or.inl rfl)⟩) xh1042) rfl (xcP (xok_iload_n dX5_passes_54 rfl) rfl (xcP (xok_iaload dX5_passes_55) rfl (xcP (xok_iastore dX5_passes_56) rfl (xcP (xok_aload_n dX5_passes_57 rfl) rfl (xcP (xok_dup dX5_passes_58) rfl (xcP (xok_getfield (ref := "WaysAtlas$Run") (Or.inl ⟨rfl, by decide⟩) dX5_passes_59 (Or.inl ⟨q548, (Or.inl rfl)⟩) xh26) rfl (xcP (xok_iconst dX5_passes_62 rfl) rfl (xcP (xok_iadd dX5_passes_63) rfl (xcP (xok_putfield (ref := "WaysAtlas$Run") (Or.inl ⟨rfl, by decide, rfl⟩) dX5_passes_64 (Or.inl ⟨q548, (Or.inl rfl)⟩) (Or.inl rfl) xh26) rfl (xcP xok_fal rfl trivial)))))))))))))))))))))))))))))))))))))))))))))
theorem okX5_passes_67 : XOkL xms rX5_passes bX5_passes_67 := xcP (xok_aload_n dX5_passes_67 rfl) rfl (xcP (xok_getfield (ref := "WaysAtlas$Run") (Or.inr ⟨rfl, by decide⟩) dX5_passes_68 (Or.inl ⟨q499, (Or.inl rfl)⟩) xh1030) rfl (xcP (xok_iload_n dX5_passes_71 rfl) rfl (xcP (xok_aload_n dX5_passes_72 rfl) rfl (xcP (xok_getfield (ref := "WaysAtlas$Run") (Or.inr ⟨rfl, by decide⟩) dX5_passes_73 (Or.inl ⟨q545, (Or.inl rfl)⟩) xh1042) rfl (xcP (xok_iload_n dX5_passes_76 rfl) rfl (xcP (xok_iaload dX5_passes_77) rfl (xcC0 (xokc_list (List.forall_mem_cons.mpr ⟨xokc_V (r := (RX4, TX4, 4)) xm78 (List.mem_of_getElem? (i := 4) rfl) (by decide) rfl dX5_passes_78 q1672 q1673 q1674 q142 q1675 (by decide +kernel), fun _ h => nomatch h⟩)) rfl (xcR ⟨dX5_passes_81, rfl⟩))))))))
theorem okM_X5_passes : XOkM xms rX5_passes := xokM0 (List.forall_mem_cons.mpr ⟨⟨rfl, okX5_passes_0⟩, List.forall_mem_cons.mpr ⟨⟨rfl, okX5_passes_67⟩, fun _ h => nomatch h⟩⟩) (xokH0 rfl (fun _ _ => rfl)) (by decide +kernel) (by decide)
abbrev cX5_closes : ByteArray := prog_23_method_11_code
def dkwX5_closes_4 : List UInt8 := [132, 7, 255, 167, 255, 168, 21, 6, 172]
abbrev dktX5_closes_4 : List UInt8 := dkwX5_closes_4 ++ []
def dkwX5_closes_3 : List UInt8 := [54, 9, 21, 6, 16, 247, 160, 0, 10, 21, 9, 54, 6, 167, 0, 11, 42, 21, 6, 21, 9, 182, 0, 163]
abbrev dktX5_closes_3 : List UInt8 := dkwX5_closes_3 ++ dktX5_closes_4
def dkwX5_closes_2 : List UInt8 := [21, 7, 96, 182, 0, 151, 54, 8, 21, 8, 16, 247, 159, 0, 35, 42, 21, 8, 16, 247, 182, 0, 138]
abbrev dktX5_closes_2 : List UInt8 := dkwX5_closes_2 ++ dktX5_closes_3
def dkwX5_closes_1 : List UInt8 := [180, 0, 104, 45, 21, 4, 21, 7, 96, 46, 79, 42, 89, 180, 0, 104, 4, 96, 181, 0, 104, 42, 27, 7]
abbrev dktX5_closes_1 : List UInt8 := dkwX5_closes_1 ++ dktX5_closes_2
def dkwX5_closes_0 : List UInt8 := [21, 5, 54, 6, 28, 4, 100, 54, 7, 21, 7, 155, 0, 89, 42, 182, 0, 157, 42, 180, 0, 42, 42]
abbrev dktX5_closes_0 : List UInt8 := dkwX5_closes_0 ++ dktX5_closes_1
theorem dksX5_closes_0 : cX5_closes.data.toList.drop 0 = dktX5_closes_0 := by decide +kernel
theorem dksX5_closes_1 : cX5_closes.data.toList.drop 23 = dktX5_closes_1 := dk_seg dksX5_closes_0 23 rfl rfl
theorem dksX5_closes_2 : cX5_closes.data.toList.drop 47 = dktX5_closes_2 := dk_seg dksX5_closes_1 24 rfl rfl
theorem dksX5_closes_3 : cX5_closes.data.toList.drop 70 = dktX5_closes_3 := dk_seg dksX5_closes_2 23 rfl rfl
theorem dksX5_closes_4 : cX5_closes.data.toList.drop 94 = dktX5_closes_4 := dk_seg dksX5_closes_3 24 rfl rfl
theorem dX5_closes_0 : decode cX5_closes 0 = .ok (.iload 5, 2) := dk_21 5 (dk_at dksX5_closes_0 0 rfl rfl)
theorem dX5_closes_2 : decode cX5_closes 2 = .ok (.istore 6, 2) := dk_54 6 (dk_at dksX5_closes_0 2 rfl rfl)
theorem dX5_closes_4 : decode cX5_closes 4 = .ok (.iload_n 2, 1) := dk_28 (dk_at dksX5_closes_0 4 rfl rfl)
theorem dX5_closes_5 : decode cX5_closes 5 = .ok (.iconst 1, 1) := dk_4 (dk_at dksX5_closes_0 5 rfl rfl)
theorem dX5_closes_6 : decode cX5_closes 6 = .ok (.isub, 1) := dk_100 (dk_at dksX5_closes_0 6 rfl rfl)
theorem dX5_closes_7 : decode cX5_closes 7 = .ok (.istore 7, 2) := dk_54 7 (dk_at dksX5_closes_0 7 rfl rfl)
theorem dX5_closes_9 : decode cX5_closes 9 = .ok (.iload 7, 2) := dk_21 7 (dk_at dksX5_closes_0 9 rfl rfl)
theorem dX5_closes_11 : decode cX5_closes 11 = .ok (.ifCond .lt 89, 3) := dk_155 0 89 (dk_at dksX5_closes_0 11 rfl rfl)
theorem dX5_closes_14 : decode cX5_closes 14 = .ok (.aload_n 0, 1) := dk_42 (dk_at dksX5_closes_0 14 rfl rfl)
theorem dX5_closes_15 : decode cX5_closes 15 = .ok (.invokevirtual 157, 3) := dk_182 0 157 (dk_at dksX5_closes_0 15 rfl rfl)
theorem dX5_closes_18 : decode cX5_closes 18 = .ok (.aload_n 0, 1) := dk_42 (dk_at dksX5_closes_0 18 rfl rfl)
theorem dX5_closes_19 : decode cX5_closes 19 = .ok (.getfield 42, 3) := dk_180 0 42 (dk_at dksX5_closes_0 19 rfl rfl)
theorem dX5_closes_22 : decode cX5_closes 22 = .ok (.aload_n 0, 1) := dk_42 (dk_at dksX5_closes_0 22 rfl rfl)
theorem dX5_closes_23 : decode cX5_closes 23 = .ok (.getfield 104, 3) := dk_180 0 104 (dk_at dksX5_closes_1 0 rfl rfl)
theorem dX5_closes_26 : decode cX5_closes 26 = .ok (.aload_n 3, 1) := dk_45 (dk_at dksX5_closes_1 3 rfl rfl)
theorem dX5_closes_27 : decode cX5_closes 27 = .ok (.iload 4, 2) := dk_21 4 (dk_at dksX5_closes_1 4 rfl rfl)
theorem dX5_closes_29 : decode cX5_closes 29 = .ok (.iload 7, 2) := dk_21 7 (dk_at dksX5_closes_1 6 rfl rfl)
theorem dX5_closes_31 : decode cX5_closes 31 = .ok (.iadd, 1) := dk_96 (dk_at dksX5_closes_1 8 rfl rfl)
theorem dX5_closes_32 : decode cX5_closes 32 = .ok (.iaload, 1) := dk_46 (dk_at dksX5_closes_1 9 rfl rfl)
theorem dX5_closes_33 : decode cX5_closes 33 = .ok (.iastore, 1) := dk_79 (dk_at dksX5_closes_1 10 rfl rfl)
theorem dX5_closes_34 : decode cX5_closes 34 = .ok (.aload_n 0, 1) := dk_42 (dk_at dksX5_closes_1 11 rfl rfl)
theorem dX5_closes_35 : decode cX5_closes 35 = .ok (.dup, 1) := dk_89 (dk_at dksX5_closes_1 12 rfl rfl)
theorem dX5_closes_36 : decode cX5_closes 36 = .ok (.getfield 104, 3) := dk_180 0 104 (dk_at dksX5_closes_1 13 rfl rfl)
theorem dX5_closes_39 : decode cX5_closes 39 = .ok (.iconst 1, 1) := dk_4 (dk_at dksX5_closes_1 16 rfl rfl)
theorem dX5_closes_40 : decode cX5_closes 40 = .ok (.iadd, 1) := dk_96 (dk_at dksX5_closes_1 17 rfl rfl)
theorem dX5_closes_41 : decode cX5_closes 41 = .ok (.putfield 104, 3) := dk_181 0 104 (dk_at dksX5_closes_1 18 rfl rfl)
theorem dX5_closes_44 : decode cX5_closes 44 = .ok (.aload_n 0, 1) := dk_42 (dk_at dksX5_closes_1 21 rfl rfl)
theorem dX5_closes_45 : decode cX5_closes 45 = .ok (.iload_n 1, 1) := dk_27 (dk_at dksX5_closes_1 22 rfl rfl)
theorem dX5_closes_46 : decode cX5_closes 46 = .ok (.iconst 4, 1) := dk_7 (dk_at dksX5_closes_1 23 rfl rfl)
theorem dX5_closes_47 : decode cX5_closes 47 = .ok (.iload 7, 2) := dk_21 7 (dk_at dksX5_closes_2 0 rfl rfl)
theorem dX5_closes_49 : decode cX5_closes 49 = .ok (.iadd, 1) := dk_96 (dk_at dksX5_closes_2 2 rfl rfl)
theorem dX5_closes_50 : decode cX5_closes 50 = .ok (.invokevirtual 151, 3) := dk_182 0 151 (dk_at dksX5_closes_2 3 rfl rfl)
theorem dX5_closes_53 : decode cX5_closes 53 = .ok (.istore 8, 2) := dk_54 8 (dk_at dksX5_closes_2 6 rfl rfl)
theorem dX5_closes_55 : decode cX5_closes 55 = .ok (.iload 8, 2) := dk_21 8 (dk_at dksX5_closes_2 8 rfl rfl)
theorem dX5_closes_57 : decode cX5_closes 57 = .ok (.bipush (-9), 2) := dk_16 247 (dk_at dksX5_closes_2 10 rfl rfl)
theorem dX5_closes_59 : decode cX5_closes 59 = .ok (.if_icmp .eq 35, 3) := dk_159 0 35 (dk_at dksX5_closes_2 12 rfl rfl)
theorem dX5_closes_62 : decode cX5_closes 62 = .ok (.aload_n 0, 1) := dk_42 (dk_at dksX5_closes_2 15 rfl rfl)
theorem dX5_closes_63 : decode cX5_closes 63 = .ok (.iload 8, 2) := dk_21 8 (dk_at dksX5_closes_2 16 rfl rfl)
theorem dX5_closes_65 : decode cX5_closes 65 = .ok (.bipush (-9), 2) := dk_16 247 (dk_at dksX5_closes_2 18 rfl rfl)
theorem dX5_closes_67 : decode cX5_closes 67 = .ok (.invokevirtual 138, 3) := dk_182 0 138 (dk_at dksX5_closes_2 20 rfl rfl)
theorem dX5_closes_70 : decode cX5_closes 70 = .ok (.istore 9, 2) := dk_54 9 (dk_at dksX5_closes_3 0 rfl rfl)
theorem dX5_closes_72 : decode cX5_closes 72 = .ok (.iload 6, 2) := dk_21 6 (dk_at dksX5_closes_3 2 rfl rfl)
theorem dX5_closes_74 : decode cX5_closes 74 = .ok (.bipush (-9), 2) := dk_16 247 (dk_at dksX5_closes_3 4 rfl rfl)
theorem dX5_closes_76 : decode cX5_closes 76 = .ok (.if_icmp .ne 10, 3) := dk_160 0 10 (dk_at dksX5_closes_3 6 rfl rfl)
theorem dX5_closes_79 : decode cX5_closes 79 = .ok (.iload 9, 2) := dk_21 9 (dk_at dksX5_closes_3 9 rfl rfl)
theorem dX5_closes_81 : decode cX5_closes 81 = .ok (.istore 6, 2) := dk_54 6 (dk_at dksX5_closes_3 11 rfl rfl)
theorem dX5_closes_83 : decode cX5_closes 83 = .ok (.goto 11, 3) := dk_167 0 11 (dk_at dksX5_closes_3 13 rfl rfl)
theorem dX5_closes_86 : decode cX5_closes 86 = .ok (.aload_n 0, 1) := dk_42 (dk_at dksX5_closes_3 16 rfl rfl)
theorem dX5_closes_87 : decode cX5_closes 87 = .ok (.iload 6, 2) := dk_21 6 (dk_at dksX5_closes_3 17 rfl rfl)
theorem dX5_closes_89 : decode cX5_closes 89 = .ok (.iload 9, 2) := dk_21 9 (dk_at dksX5_closes_3 19 rfl rfl)
theorem dX5_closes_91 : decode cX5_closes 91 = .ok (.invokevirtual 163, 3) := dk_182 0 163 (dk_at dksX5_closes_3 21 rfl rfl)
theorem dX5_closes_94 : decode cX5_closes 94 = .ok (.iinc 7 (-1), 3) := dk_132 7 255 (dk_at dksX5_closes_4 0 rfl rfl)
theorem dX5_closes_97 : decode cX5_closes 97 = .ok (.goto (-88), 3) := dk_167 255 168 (dk_at dksX5_closes_4 3 rfl rfl)
theorem dX5_closes_100 : decode cX5_closes 100 = .ok (.iload 6, 2) := dk_21 6 (dk_at dksX5_closes_4 6 rfl rfl)
theorem dX5_closes_102 : decode cX5_closes 102 = .ok (.ireturn, 1) := dk_172 (dk_at dksX5_closes_4 8 rfl rfl)
theorem okX5_closes_0 : XOkL xms rX5_closes bX5_closes_0 := xcP (xok_iload dX5_closes_0) rfl (xcP (xok_istore dX5_closes_2) rfl (xcP (xok_iload_n dX5_closes_4 rfl) rfl (xcP (xok_iconst dX5_closes_5 rfl) rfl (xcP (xok_isub dX5_closes_6) rfl (xcP (xok_istore dX5_closes_7) rfl (xcP xok_fal rfl trivial))))))
theorem okX5_closes_9 : XOkL xms rX5_closes bX5_closes_9 := xcP (xok_iload dX5_closes_9) rfl (xcP (xok_iflt dX5_closes_11 (by decide)) rfl (xcP (xok_aload_n dX5_closes_14 rfl) rfl (xcC0 (xokc_list (List.forall_mem_cons.mpr ⟨xokc_V (r := (RX5, TX5, 34)) xm85 (List.mem_of_getElem? (i := 5) rfl) (by decide) rfl dX5_closes_15 q1667 q1594 q1595 q143 q1596 (by decide +kernel), fun _ h => nomatch h⟩)) rfl (xcP (xok_aload_n dX5_closes_18 rfl) rfl (xcP (xok_getfield (ref := "WaysAtlas$Run") (Or.inr ⟨rfl, by decide⟩) dX5_closes_19 (Or.inl ⟨q533, (Or.inl rfl)⟩) xh1040) rfl (xcP (xok_aload_n dX5_closes_22 rfl) rfl (xcP (xok_getfield (ref := "WaysAtlas$Run") (Or.inl ⟨rfl, by decide⟩) dX5_closes_23 (Or.inl ⟨q535, (Or.inl rfl)⟩) xh24) rfl (xcP (xok_aload_n dX5_closes_26 rfl) rfl (xcP (xok_iload dX5_closes_27) rfl (xcP (xok_iload dX5_closes_29) rfl (xcP (xok_iadd dX5_closes_31) rfl (xcP (xok_iaload dX5_closes_32) rfl (xcP (xok_iastore dX5_closes_33) rfl (xcP (xok_aload_n dX5_closes_34 rfl) rfl (xcP (xok_dup dX5_closes_35) rfl (xcP (xok_getfield (ref := "WaysAtlas$Run") (Or.inl ⟨rfl, by decide⟩) dX5_closes_36 (Or.inl ⟨q535, (Or.inl rfl)⟩) xh24) rfl (xcP (xok_iconst dX5_closes_39 rfl) rfl (xcP (xok_iadd dX5_closes_40) rfl (xcP (xok_putfield (ref := "WaysAtlas$Run") (Or.inl ⟨rfl, by decide, rfl⟩) dX5_closes_41 (Or.inl ⟨q535, (Or.inl rfl)⟩) (Or.inl rfl) xh24) rfl (xcP (xok_aload_n dX5_closes_44 rfl) rfl (xcP (xok_iload_n dX5_closes_45 rfl) rfl (xcP (xok_iconst dX5_closes_46 rfl) rfl (xcP (xok_iload dX5_closes_47) rfl (xcP (xok_iadd dX5_closes_49) rfl (xcC0 (xokc_list (List.forall_mem_cons.mpr ⟨xokc_V (r := (RX5, TX5, 34)) xm87 (List.mem_of_getElem? (i := 5) rfl) (by decide) rfl dX5_closes_50 q1668 q1669 q1670 q143 q1671 (by decide +kernel), fun _ h => nomatch h⟩)) rfl (xcP (xok_istore dX5_closes_53) rfl (xcP (xok_iload dX5_closes_55) rfl (xcP (xok_bipush dX5_closes_57 rfl) rfl (xcP (xok_icmpeq dX5_closes_59 (by decide)) rfl (xcP (xok_aload_n dX5_closes_62 rfl) rfl (xcP (xok_iload dX5_closes_63) rfl (xcP (xok_bipush dX5_closes_65 rfl) rfl (xcC0 (xokc_list (List.forall_mem_cons.mpr ⟨xokc_V (r := (RX5, TX5, 34)) xm83 (List.mem_of_getElem? (i := 5) rfl) (by decide) rfl dX5_closes_67 q1567 q1568 q1569 q143 q1570 (by decide +kernel), fun _ h => nomatch h⟩)) rfl (xcP (xok_istore dX5_closes_70) rfl (xcP (xok_iload dX5_closes_72) rfl (xcP (xok_bipush dX5_closes_74 rfl) rfl (xcP (xok_icmpne dX5_closes_76 (by decide)) rfl (xcP (xok_iload dX5_closes_79) rfl (xcP (xok_istore dX5_closes_81) rfl (xcP (xok_goto dX5_closes_83 (by decide)) rfl trivial))))))))))))))))))))))))))))))))))))))))
theorem okX5_closes_86 : XOkL xms rX5_closes bX5_closes_86 := xcP (xok_aload_n dX5_closes_86 rfl) rfl (xcP (xok_iload dX5_closes_87) rfl (xcP (xok_iload dX5_closes_89) rfl (xcC0 (xokc_list (List.forall_mem_cons.mpr ⟨xokc_V (r := (RX5, TX5, 34)) xm89 (List.mem_of_getElem? (i := 5) rfl) (by decide) rfl dX5_closes_91 q1681 q1682 q1683 q143 q1684 (by decide +kernel), fun _ h => nomatch h⟩)) rfl (xcP xok_fal rfl trivial))))
theorem okX5_closes_94 : XOkL xms rX5_closes bX5_closes_94 := xcP (xok_iinc dX5_closes_94 rfl) rfl (xcP (xok_goto dX5_closes_97 (by decide)) rfl trivial)
theorem okX5_closes_100 : XOkL xms rX5_closes bX5_closes_100 := xcP (xok_iload dX5_closes_100) rfl (xcR ⟨dX5_closes_102, rfl⟩)
theorem okM_X5_closes : XOkM xms rX5_closes := xokM0 (List.forall_mem_cons.mpr ⟨⟨rfl, okX5_closes_0⟩, List.forall_mem_cons.mpr ⟨⟨rfl, okX5_closes_9⟩, List.forall_mem_cons.mpr ⟨⟨rfl, okX5_closes_86⟩, List.forall_mem_cons.mpr ⟨⟨rfl, okX5_closes_94⟩, List.forall_mem_cons.mpr ⟨⟨rfl, okX5_closes_100⟩, fun _ h => nomatch h⟩⟩⟩⟩⟩) (xokH0 rfl (fun _ _ => rfl)) (by decide +kernel) (by decide)
abbrev cX5_suppresses : ByteArray := prog_23_method_7_code
def dkwX5_suppresses_2 : List UInt8 := [180, 0, 30, 29, 28, 79, 177]
abbrev dktX5_suppresses_2 : List UInt8 := dkwX5_suppresses_2 ++ []
def dkwX5_suppresses_1 : List UInt8 := [46, 62, 42, 180, 0, 30, 29, 46, 16, 247, 159, 0, 13, 42, 180, 0, 30, 29, 46, 62, 167, 255, 238, 42]
abbrev dktX5_suppresses_1 : List UInt8 := dkwX5_suppresses_1 ++ dktX5_suppresses_2
def dkwX5_suppresses_0 : List UInt8 := [42, 180, 0, 27, 27, 46, 16, 247, 160, 0, 11, 42, 180, 0, 27, 27, 28, 79, 177, 42, 180, 0, 27, 27]
abbrev dktX5_suppresses_0 : List UInt8 := dkwX5_suppresses_0 ++ dktX5_suppresses_1
theorem dksX5_suppresses_0 : cX5_suppresses.data.toList.drop 0 = dktX5_suppresses_0 := by decide +kernel
theorem dksX5_suppresses_1 : cX5_suppresses.data.toList.drop 24 = dktX5_suppresses_1 := dk_seg dksX5_suppresses_0 24 rfl rfl
theorem dksX5_suppresses_2 : cX5_suppresses.data.toList.drop 48 = dktX5_suppresses_2 := dk_seg dksX5_suppresses_1 24 rfl rfl
theorem dX5_suppresses_0 : decode cX5_suppresses 0 = .ok (.aload_n 0, 1) := dk_42 (dk_at dksX5_suppresses_0 0 rfl rfl)
theorem dX5_suppresses_1 : decode cX5_suppresses 1 = .ok (.getfield 27, 3) := dk_180 0 27 (dk_at dksX5_suppresses_0 1 rfl rfl)
theorem dX5_suppresses_4 : decode cX5_suppresses 4 = .ok (.iload_n 1, 1) := dk_27 (dk_at dksX5_suppresses_0 4 rfl rfl)
theorem dX5_suppresses_5 : decode cX5_suppresses 5 = .ok (.iaload, 1) := dk_46 (dk_at dksX5_suppresses_0 5 rfl rfl)
theorem dX5_suppresses_6 : decode cX5_suppresses 6 = .ok (.bipush (-9), 2) := dk_16 247 (dk_at dksX5_suppresses_0 6 rfl rfl)
theorem dX5_suppresses_8 : decode cX5_suppresses 8 = .ok (.if_icmp .ne 11, 3) := dk_160 0 11 (dk_at dksX5_suppresses_0 8 rfl rfl)
theorem dX5_suppresses_11 : decode cX5_suppresses 11 = .ok (.aload_n 0, 1) := dk_42 (dk_at dksX5_suppresses_0 11 rfl rfl)
theorem dX5_suppresses_12 : decode cX5_suppresses 12 = .ok (.getfield 27, 3) := dk_180 0 27 (dk_at dksX5_suppresses_0 12 rfl rfl)
theorem dX5_suppresses_15 : decode cX5_suppresses 15 = .ok (.iload_n 1, 1) := dk_27 (dk_at dksX5_suppresses_0 15 rfl rfl)
theorem dX5_suppresses_16 : decode cX5_suppresses 16 = .ok (.iload_n 2, 1) := dk_28 (dk_at dksX5_suppresses_0 16 rfl rfl)
theorem dX5_suppresses_17 : decode cX5_suppresses 17 = .ok (.iastore, 1) := dk_79 (dk_at dksX5_suppresses_0 17 rfl rfl)
theorem dX5_suppresses_18 : decode cX5_suppresses 18 = .ok (.return_, 1) := dk_177 (dk_at dksX5_suppresses_0 18 rfl rfl)
theorem dX5_suppresses_19 : decode cX5_suppresses 19 = .ok (.aload_n 0, 1) := dk_42 (dk_at dksX5_suppresses_0 19 rfl rfl)
theorem dX5_suppresses_20 : decode cX5_suppresses 20 = .ok (.getfield 27, 3) := dk_180 0 27 (dk_at dksX5_suppresses_0 20 rfl rfl)
theorem dX5_suppresses_23 : decode cX5_suppresses 23 = .ok (.iload_n 1, 1) := dk_27 (dk_at dksX5_suppresses_0 23 rfl rfl)
theorem dX5_suppresses_24 : decode cX5_suppresses 24 = .ok (.iaload, 1) := dk_46 (dk_at dksX5_suppresses_1 0 rfl rfl)
theorem dX5_suppresses_25 : decode cX5_suppresses 25 = .ok (.istore_n 3, 1) := dk_62 (dk_at dksX5_suppresses_1 1 rfl rfl)
theorem dX5_suppresses_26 : decode cX5_suppresses 26 = .ok (.aload_n 0, 1) := dk_42 (dk_at dksX5_suppresses_1 2 rfl rfl)
theorem dX5_suppresses_27 : decode cX5_suppresses 27 = .ok (.getfield 30, 3) := dk_180 0 30 (dk_at dksX5_suppresses_1 3 rfl rfl)
theorem dX5_suppresses_30 : decode cX5_suppresses 30 = .ok (.iload_n 3, 1) := dk_29 (dk_at dksX5_suppresses_1 6 rfl rfl)
theorem dX5_suppresses_31 : decode cX5_suppresses 31 = .ok (.iaload, 1) := dk_46 (dk_at dksX5_suppresses_1 7 rfl rfl)
theorem dX5_suppresses_32 : decode cX5_suppresses 32 = .ok (.bipush (-9), 2) := dk_16 247 (dk_at dksX5_suppresses_1 8 rfl rfl)
theorem dX5_suppresses_34 : decode cX5_suppresses 34 = .ok (.if_icmp .eq 13, 3) := dk_159 0 13 (dk_at dksX5_suppresses_1 10 rfl rfl)
theorem dX5_suppresses_37 : decode cX5_suppresses 37 = .ok (.aload_n 0, 1) := dk_42 (dk_at dksX5_suppresses_1 13 rfl rfl)
theorem dX5_suppresses_38 : decode cX5_suppresses 38 = .ok (.getfield 30, 3) := dk_180 0 30 (dk_at dksX5_suppresses_1 14 rfl rfl)
theorem dX5_suppresses_41 : decode cX5_suppresses 41 = .ok (.iload_n 3, 1) := dk_29 (dk_at dksX5_suppresses_1 17 rfl rfl)
theorem dX5_suppresses_42 : decode cX5_suppresses 42 = .ok (.iaload, 1) := dk_46 (dk_at dksX5_suppresses_1 18 rfl rfl)
theorem dX5_suppresses_43 : decode cX5_suppresses 43 = .ok (.istore_n 3, 1) := dk_62 (dk_at dksX5_suppresses_1 19 rfl rfl)
theorem dX5_suppresses_44 : decode cX5_suppresses 44 = .ok (.goto (-18), 3) := dk_167 255 238 (dk_at dksX5_suppresses_1 20 rfl rfl)
theorem dX5_suppresses_47 : decode cX5_suppresses 47 = .ok (.aload_n 0, 1) := dk_42 (dk_at dksX5_suppresses_1 23 rfl rfl)
theorem dX5_suppresses_48 : decode cX5_suppresses 48 = .ok (.getfield 30, 3) := dk_180 0 30 (dk_at dksX5_suppresses_2 0 rfl rfl)
theorem dX5_suppresses_51 : decode cX5_suppresses 51 = .ok (.iload_n 3, 1) := dk_29 (dk_at dksX5_suppresses_2 3 rfl rfl)
theorem dX5_suppresses_52 : decode cX5_suppresses 52 = .ok (.iload_n 2, 1) := dk_28 (dk_at dksX5_suppresses_2 4 rfl rfl)
theorem dX5_suppresses_53 : decode cX5_suppresses 53 = .ok (.iastore, 1) := dk_79 (dk_at dksX5_suppresses_2 5 rfl rfl)
theorem dX5_suppresses_54 : decode cX5_suppresses 54 = .ok (.return_, 1) := dk_177 (dk_at dksX5_suppresses_2 6 rfl rfl)
theorem okX5_suppresses_0 : XOkL xms rX5_suppresses bX5_suppresses_0 := xcP (xok_aload_n dX5_suppresses_0 rfl) rfl (xcP (xok_getfield (ref := "WaysAtlas$Run") (Or.inr ⟨rfl, by decide⟩) dX5_suppresses_1 (Or.inl ⟨q519, (Or.inl rfl)⟩) xh1035) rfl (xcP (xok_iload_n dX5_suppresses_4 rfl) rfl (xcP (xok_iaload dX5_suppresses_5) rfl (xcP (xok_bipush dX5_suppresses_6 rfl) rfl (xcP (xok_icmpne dX5_suppresses_8 (by decide)) rfl (xcP (xok_aload_n dX5_suppresses_11 rfl) rfl (xcP (xok_getfield (ref := "WaysAtlas$Run") (Or.inr ⟨rfl, by decide⟩) dX5_suppresses_12 (Or.inl ⟨q519, (Or.inl rfl)⟩) xh1035) rfl (xcP (xok_iload_n dX5_suppresses_15 rfl) rfl (xcP (xok_iload_n dX5_suppresses_16 rfl) rfl (xcP (xok_iastore dX5_suppresses_17) rfl (xcR ⟨dX5_suppresses_18, rfl⟩)))))))))))
theorem okX5_suppresses_19 : XOkL xms rX5_suppresses bX5_suppresses_19 := xcP (xok_aload_n dX5_suppresses_19 rfl) rfl (xcP (xok_getfield (ref := "WaysAtlas$Run") (Or.inr ⟨rfl, by decide⟩) dX5_suppresses_20 (Or.inl ⟨q519, (Or.inl rfl)⟩) xh1035) rfl (xcP (xok_iload_n dX5_suppresses_23 rfl) rfl (xcP (xok_iaload dX5_suppresses_24) rfl (xcP (xok_istore_n dX5_suppresses_25 rfl) rfl (xcP xok_fal rfl trivial)))))
theorem okX5_suppresses_26 : XOkL xms rX5_suppresses bX5_suppresses_26 := xcP (xok_aload_n dX5_suppresses_26 rfl) rfl (xcP (xok_getfield (ref := "WaysAtlas$Run") (Or.inr ⟨rfl, by decide⟩) dX5_suppresses_27 (Or.inl ⟨q521, (Or.inl rfl)⟩) xh1036) rfl (xcP (xok_iload_n dX5_suppresses_30 rfl) rfl (xcP (xok_iaload dX5_suppresses_31) rfl (xcP (xok_bipush dX5_suppresses_32 rfl) rfl (xcP (xok_icmpeq dX5_suppresses_34 (by decide)) rfl (xcP (xok_aload_n dX5_suppresses_37 rfl) rfl (xcP (xok_getfield (ref := "WaysAtlas$Run") (Or.inr ⟨rfl, by decide⟩) dX5_suppresses_38 (Or.inl ⟨q521, (Or.inl rfl)⟩) xh1036) rfl (xcP (xok_iload_n dX5_suppresses_41 rfl) rfl (xcP (xok_iaload dX5_suppresses_42) rfl (xcP (xok_istore_n dX5_suppresses_43 rfl) rfl (xcP (xok_goto dX5_suppresses_44 (by decide)) rfl trivial)))))))))))
theorem okX5_suppresses_47 : XOkL xms rX5_suppresses bX5_suppresses_47 := xcP (xok_aload_n dX5_suppresses_47 rfl) rfl (xcP (xok_getfield (ref := "WaysAtlas$Run") (Or.inr ⟨rfl, by decide⟩) dX5_suppresses_48 (Or.inl ⟨q521, (Or.inl rfl)⟩) xh1036) rfl (xcP (xok_iload_n dX5_suppresses_51 rfl) rfl (xcP (xok_iload_n dX5_suppresses_52 rfl) rfl (xcP (xok_iastore dX5_suppresses_53) rfl (xcR ⟨dX5_suppresses_54, rfl⟩)))))
theorem okM_X5_suppresses : XOkM xms rX5_suppresses := xokM0 (List.forall_mem_cons.mpr ⟨⟨rfl, okX5_suppresses_0⟩, List.forall_mem_cons.mpr ⟨⟨rfl, okX5_suppresses_19⟩, List.forall_mem_cons.mpr ⟨⟨rfl, okX5_suppresses_26⟩, List.forall_mem_cons.mpr ⟨⟨rfl, okX5_suppresses_47⟩, fun _ h => nomatch h⟩⟩⟩⟩) (xokH0 rfl (fun _ _ => rfl)) (by decide +kernel) (by decide)
abbrev cX5_marks : ByteArray := prog_23_method_9_code
def dkwX5_marks_1 : List UInt8 := [180, 0, 95, 28, 79, 42, 89, 180, 0, 95, 4, 96, 181, 0, 95, 177]
abbrev dktX5_marks_1 : List UInt8 := dkwX5_marks_1 ++ []
def dkwX5_marks_0 : List UInt8 := [42, 27, 3, 182, 0, 151, 62, 29, 16, 247, 159, 0, 9, 42, 29, 182, 0, 154, 191, 42, 180, 0, 17, 42]
abbrev dktX5_marks_0 : List UInt8 := dkwX5_marks_0 ++ dktX5_marks_1
theorem dksX5_marks_0 : cX5_marks.data.toList.drop 0 = dktX5_marks_0 := by decide +kernel
theorem dksX5_marks_1 : cX5_marks.data.toList.drop 24 = dktX5_marks_1 := dk_seg dksX5_marks_0 24 rfl rfl
theorem dX5_marks_0 : decode cX5_marks 0 = .ok (.aload_n 0, 1) := dk_42 (dk_at dksX5_marks_0 0 rfl rfl)
theorem dX5_marks_1 : decode cX5_marks 1 = .ok (.iload_n 1, 1) := dk_27 (dk_at dksX5_marks_0 1 rfl rfl)
theorem dX5_marks_2 : decode cX5_marks 2 = .ok (.iconst 0, 1) := dk_3 (dk_at dksX5_marks_0 2 rfl rfl)
theorem dX5_marks_3 : decode cX5_marks 3 = .ok (.invokevirtual 151, 3) := dk_182 0 151 (dk_at dksX5_marks_0 3 rfl rfl)
theorem dX5_marks_6 : decode cX5_marks 6 = .ok (.istore_n 3, 1) := dk_62 (dk_at dksX5_marks_0 6 rfl rfl)
theorem dX5_marks_7 : decode cX5_marks 7 = .ok (.iload_n 3, 1) := dk_29 (dk_at dksX5_marks_0 7 rfl rfl)
theorem dX5_marks_8 : decode cX5_marks 8 = .ok (.bipush (-9), 2) := dk_16 247 (dk_at dksX5_marks_0 8 rfl rfl)
theorem dX5_marks_10 : decode cX5_marks 10 = .ok (.if_icmp .eq 9, 3) := dk_159 0 9 (dk_at dksX5_marks_0 10 rfl rfl)
theorem dX5_marks_13 : decode cX5_marks 13 = .ok (.aload_n 0, 1) := dk_42 (dk_at dksX5_marks_0 13 rfl rfl)
theorem dX5_marks_14 : decode cX5_marks 14 = .ok (.iload_n 3, 1) := dk_29 (dk_at dksX5_marks_0 14 rfl rfl)
theorem dX5_marks_15 : decode cX5_marks 15 = .ok (.invokevirtual 154, 3) := dk_182 0 154 (dk_at dksX5_marks_0 15 rfl rfl)
theorem dX5_marks_18 : decode cX5_marks 18 = .ok (.athrow, 1) := dk_191 (dk_at dksX5_marks_0 18 rfl rfl)
theorem dX5_marks_19 : decode cX5_marks 19 = .ok (.aload_n 0, 1) := dk_42 (dk_at dksX5_marks_0 19 rfl rfl)
theorem dX5_marks_20 : decode cX5_marks 20 = .ok (.getfield 17, 3) := dk_180 0 17 (dk_at dksX5_marks_0 20 rfl rfl)
theorem dX5_marks_23 : decode cX5_marks 23 = .ok (.aload_n 0, 1) := dk_42 (dk_at dksX5_marks_0 23 rfl rfl)
theorem dX5_marks_24 : decode cX5_marks 24 = .ok (.getfield 95, 3) := dk_180 0 95 (dk_at dksX5_marks_1 0 rfl rfl)
theorem dX5_marks_27 : decode cX5_marks 27 = .ok (.iload_n 2, 1) := dk_28 (dk_at dksX5_marks_1 3 rfl rfl)
theorem dX5_marks_28 : decode cX5_marks 28 = .ok (.iastore, 1) := dk_79 (dk_at dksX5_marks_1 4 rfl rfl)
theorem dX5_marks_29 : decode cX5_marks 29 = .ok (.aload_n 0, 1) := dk_42 (dk_at dksX5_marks_1 5 rfl rfl)
theorem dX5_marks_30 : decode cX5_marks 30 = .ok (.dup, 1) := dk_89 (dk_at dksX5_marks_1 6 rfl rfl)
theorem dX5_marks_31 : decode cX5_marks 31 = .ok (.getfield 95, 3) := dk_180 0 95 (dk_at dksX5_marks_1 7 rfl rfl)
theorem dX5_marks_34 : decode cX5_marks 34 = .ok (.iconst 1, 1) := dk_4 (dk_at dksX5_marks_1 10 rfl rfl)
theorem dX5_marks_35 : decode cX5_marks 35 = .ok (.iadd, 1) := dk_96 (dk_at dksX5_marks_1 11 rfl rfl)
theorem dX5_marks_36 : decode cX5_marks 36 = .ok (.putfield 95, 3) := dk_181 0 95 (dk_at dksX5_marks_1 12 rfl rfl)
theorem dX5_marks_39 : decode cX5_marks 39 = .ok (.return_, 1) := dk_177 (dk_at dksX5_marks_1 15 rfl rfl)
theorem okX5_marks_0 : XOkL xms rX5_marks bX5_marks_0 := xcP (xok_aload_n dX5_marks_0 rfl) rfl (xcP (xok_iload_n dX5_marks_1 rfl) rfl (xcP (xok_iconst dX5_marks_2 rfl) rfl (xcC0 (xokc_list (List.forall_mem_cons.mpr ⟨xokc_V (r := (RX5, TX5, 34)) xm87 (List.mem_of_getElem? (i := 5) rfl) (by decide) rfl dX5_marks_3 q1668 q1669 q1670 q143 q1671 (by decide +kernel), fun _ h => nomatch h⟩)) rfl (xcP (xok_istore_n dX5_marks_6 rfl) rfl (xcP (xok_iload_n dX5_marks_7 rfl) rfl (xcP (xok_bipush dX5_marks_8 rfl) rfl (xcP (xok_icmpeq dX5_marks_10 (by decide)) rfl (xcP (xok_aload_n dX5_marks_13 rfl) rfl (xcP (xok_iload_n dX5_marks_14 rfl) rfl (xcC0 (xokc_list (List.forall_mem_cons.mpr ⟨xokc_V (r := (RX5, TX5, 34)) xm82 (List.mem_of_getElem? (i := 5) rfl) (by decide) rfl dX5_marks_15 q1563 q1564 q1565 q143 q1566 (by decide +kernel), fun _ h => nomatch h⟩)) rfl (xcT dX5_marks_18)))))))))))
theorem okX5_marks_19 : XOkL xms rX5_marks bX5_marks_19 := xcP (xok_aload_n dX5_marks_19 rfl) rfl (xcP (xok_getfield (ref := "WaysAtlas$Run") (Or.inr ⟨rfl, by decide⟩) dX5_marks_20 (Or.inl ⟨q509, (Or.inl rfl)⟩) xh1032) rfl (xcP (xok_aload_n dX5_marks_23 rfl) rfl (xcP (xok_getfield (ref := "WaysAtlas$Run") (Or.inl ⟨rfl, by decide⟩) dX5_marks_24 (Or.inl ⟨q511, (Or.inl rfl)⟩) xh21) rfl (xcP (xok_iload_n dX5_marks_27 rfl) rfl (xcP (xok_iastore dX5_marks_28) rfl (xcP (xok_aload_n dX5_marks_29 rfl) rfl (xcP (xok_dup dX5_marks_30) rfl (xcP (xok_getfield (ref := "WaysAtlas$Run") (Or.inl ⟨rfl, by decide⟩) dX5_marks_31 (Or.inl ⟨q511, (Or.inl rfl)⟩) xh21) rfl (xcP (xok_iconst dX5_marks_34 rfl) rfl (xcP (xok_iadd dX5_marks_35) rfl (xcP (xok_putfield (ref := "WaysAtlas$Run") (Or.inl ⟨rfl, by decide, rfl⟩) dX5_marks_36 (Or.inl ⟨q511, (Or.inl rfl)⟩) (Or.inl rfl) xh21) rfl (xcR ⟨dX5_marks_39, rfl⟩))))))))))))
theorem okM_X5_marks : XOkM xms rX5_marks := xokM0 (List.forall_mem_cons.mpr ⟨⟨rfl, okX5_marks_0⟩, List.forall_mem_cons.mpr ⟨⟨rfl, okX5_marks_19⟩, fun _ h => nomatch h⟩⟩) (xokH0 rfl (fun _ _ => rfl)) (by decide +kernel) (by decide)
abbrev cX5_lastMark : ByteArray := prog_23_method_13_code
def dkwX5_lastMark_0 : List UInt8 := [42, 180, 0, 95, 154, 0, 8, 16, 247, 167, 0, 14, 42, 180, 0, 17, 42, 180, 0, 95, 4, 100, 46, 172]
abbrev dktX5_lastMark_0 : List UInt8 := dkwX5_lastMark_0 ++ []
theorem dksX5_lastMark_0 : cX5_lastMark.data.toList.drop 0 = dktX5_lastMark_0 := by decide +kernel
theorem dX5_lastMark_0 : decode cX5_lastMark 0 = .ok (.aload_n 0, 1) := dk_42 (dk_at dksX5_lastMark_0 0 rfl rfl)
theorem dX5_lastMark_1 : decode cX5_lastMark 1 = .ok (.getfield 95, 3) := dk_180 0 95 (dk_at dksX5_lastMark_0 1 rfl rfl)
theorem dX5_lastMark_4 : decode cX5_lastMark 4 = .ok (.ifCond .ne 8, 3) := dk_154 0 8 (dk_at dksX5_lastMark_0 4 rfl rfl)
theorem dX5_lastMark_7 : decode cX5_lastMark 7 = .ok (.bipush (-9), 2) := dk_16 247 (dk_at dksX5_lastMark_0 7 rfl rfl)
theorem dX5_lastMark_9 : decode cX5_lastMark 9 = .ok (.goto 14, 3) := dk_167 0 14 (dk_at dksX5_lastMark_0 9 rfl rfl)
theorem dX5_lastMark_12 : decode cX5_lastMark 12 = .ok (.aload_n 0, 1) := dk_42 (dk_at dksX5_lastMark_0 12 rfl rfl)
theorem dX5_lastMark_13 : decode cX5_lastMark 13 = .ok (.getfield 17, 3) := dk_180 0 17 (dk_at dksX5_lastMark_0 13 rfl rfl)
theorem dX5_lastMark_16 : decode cX5_lastMark 16 = .ok (.aload_n 0, 1) := dk_42 (dk_at dksX5_lastMark_0 16 rfl rfl)
theorem dX5_lastMark_17 : decode cX5_lastMark 17 = .ok (.getfield 95, 3) := dk_180 0 95 (dk_at dksX5_lastMark_0 17 rfl rfl)
theorem dX5_lastMark_20 : decode cX5_lastMark 20 = .ok (.iconst 1, 1) := dk_4 (dk_at dksX5_lastMark_0 20 rfl rfl)
theorem dX5_lastMark_21 : decode cX5_lastMark 21 = .ok (.isub, 1) := dk_100 (dk_at dksX5_lastMark_0 21 rfl rfl)
theorem dX5_lastMark_22 : decode cX5_lastMark 22 = .ok (.iaload, 1) := dk_46 (dk_at dksX5_lastMark_0 22 rfl rfl)
theorem dX5_lastMark_23 : decode cX5_lastMark 23 = .ok (.ireturn, 1) := dk_172 (dk_at dksX5_lastMark_0 23 rfl rfl)
theorem okX5_lastMark_0 : XOkL xms rX5_lastMark bX5_lastMark_0 := xcP (xok_aload_n dX5_lastMark_0 rfl) rfl (xcP (xok_getfield (ref := "WaysAtlas$Run") (Or.inl ⟨rfl, by decide⟩) dX5_lastMark_1 (Or.inl ⟨q511, (Or.inl rfl)⟩) xh21) rfl (xcP (xok_ifne dX5_lastMark_4 (by decide)) rfl (xcP (xok_bipush dX5_lastMark_7 rfl) rfl (xcP (xok_goto dX5_lastMark_9 (by decide)) rfl trivial))))
theorem okX5_lastMark_12 : XOkL xms rX5_lastMark bX5_lastMark_12 := xcP (xok_aload_n dX5_lastMark_12 rfl) rfl (xcP (xok_getfield (ref := "WaysAtlas$Run") (Or.inr ⟨rfl, by decide⟩) dX5_lastMark_13 (Or.inl ⟨q509, (Or.inl rfl)⟩) xh1032) rfl (xcP (xok_aload_n dX5_lastMark_16 rfl) rfl (xcP (xok_getfield (ref := "WaysAtlas$Run") (Or.inl ⟨rfl, by decide⟩) dX5_lastMark_17 (Or.inl ⟨q511, (Or.inl rfl)⟩) xh21) rfl (xcP (xok_iconst dX5_lastMark_20 rfl) rfl (xcP (xok_isub dX5_lastMark_21) rfl (xcP (xok_iaload dX5_lastMark_22) rfl (xcP xok_fal rfl trivial)))))))
theorem okX5_lastMark_23 : XOkL xms rX5_lastMark bX5_lastMark_23 := xcR ⟨dX5_lastMark_23, rfl⟩
theorem okM_X5_lastMark : XOkM xms rX5_lastMark := xokM0 (List.forall_mem_cons.mpr ⟨⟨rfl, okX5_lastMark_0⟩, List.forall_mem_cons.mpr ⟨⟨rfl, okX5_lastMark_12⟩, List.forall_mem_cons.mpr ⟨⟨rfl, okX5_lastMark_23⟩, fun _ h => nomatch h⟩⟩⟩) (xokH0 rfl (fun _ _ => rfl)) (by decide +kernel) (by decide)
abbrev cX6_init : ByteArray := prog_32_method_1_code
def dkwX6_init_0 : List UInt8 := [42, 18, 1, 1, 3, 3, 183, 0, 3, 177]
abbrev dktX6_init_0 : List UInt8 := dkwX6_init_0 ++ []
theorem dksX6_init_0 : cX6_init.data.toList.drop 0 = dktX6_init_0 := by decide +kernel
theorem dX6_init_0 : decode cX6_init 0 = .ok (.aload_n 0, 1) := dk_42 (dk_at dksX6_init_0 0 rfl rfl)
theorem dX6_init_1 : decode cX6_init 1 = .ok (.ldc 1, 2) := dk_18 1 (dk_at dksX6_init_0 1 rfl rfl)
theorem dX6_init_3 : decode cX6_init 3 = .ok (.aconst_null, 1) := dk_1 (dk_at dksX6_init_0 3 rfl rfl)
theorem dX6_init_4 : decode cX6_init 4 = .ok (.iconst 0, 1) := dk_3 (dk_at dksX6_init_0 4 rfl rfl)
theorem dX6_init_5 : decode cX6_init 5 = .ok (.iconst 0, 1) := dk_3 (dk_at dksX6_init_0 5 rfl rfl)
theorem dX6_init_6 : decode cX6_init 6 = .ok (.invokespecial 3, 3) := dk_183 0 3 (dk_at dksX6_init_0 6 rfl rfl)
theorem dX6_init_9 : decode cX6_init 9 = .ok (.return_, 1) := dk_177 (dk_at dksX6_init_0 9 rfl rfl)
theorem okX6_init_0 : XOkL xms rX6_init bX6_init_0 := xcP (xok_aload_n dX6_init_0 rfl) rfl (xcP (xok_ldcS (tx := "a failure is on its way") dX6_init_1 (List.mem_of_getElem? (i := 2) rfl)) rfl (xcP (xok_null dX6_init_3) rfl (xcP (xok_iconst dX6_init_4 rfl) rfl (xcP (xok_iconst dX6_init_5 rfl) rfl (xcC0 (xokc_I xm292 rfl rfl dX6_init_6 q407 q408 q145 q409 rfl (by decide +kernel)) rfl (xcR ⟨dX6_init_9, rfl⟩))))))
theorem okM_X6_init : XOkM xms rX6_init := xokM0 (List.forall_mem_cons.mpr ⟨⟨rfl, okX6_init_0⟩, fun _ h => nomatch h⟩) (xokH0 rfl (fun _ _ => rfl)) (by decide +kernel) (by decide)
abbrev cX6_with : ByteArray := prog_32_method_2_code
def dkwX6_with_0 : List UInt8 := [42, 27, 181, 0, 9, 42, 176]
abbrev dktX6_with_0 : List UInt8 := dkwX6_with_0 ++ []
theorem dksX6_with_0 : cX6_with.data.toList.drop 0 = dktX6_with_0 := by decide +kernel
theorem dX6_with_0 : decode cX6_with 0 = .ok (.aload_n 0, 1) := dk_42 (dk_at dksX6_with_0 0 rfl rfl)
theorem dX6_with_1 : decode cX6_with 1 = .ok (.iload_n 1, 1) := dk_27 (dk_at dksX6_with_0 1 rfl rfl)
theorem dX6_with_2 : decode cX6_with 2 = .ok (.putfield 9, 3) := dk_181 0 9 (dk_at dksX6_with_0 2 rfl rfl)
theorem dX6_with_5 : decode cX6_with 5 = .ok (.aload_n 0, 1) := dk_42 (dk_at dksX6_with_0 5 rfl rfl)
theorem dX6_with_6 : decode cX6_with 6 = .ok (.areturn, 1) := dk_176 (dk_at dksX6_with_0 6 rfl rfl)
theorem okX6_with_0 : XOkL xms rX6_with bX6_with_0 := xcP (xok_aload_n dX6_with_0 rfl) rfl (xcP (xok_iload_n dX6_with_1 rfl) rfl (xcP (xok_putfield (ref := "WaysAtlas$Thrown") (Or.inl ⟨rfl, by decide, rfl⟩) dX6_with_2 (Or.inl ⟨q413, (Or.inl rfl)⟩) (Or.inl rfl) xh33) rfl (xcP (xok_aload_n dX6_with_5 rfl) rfl (xcR ⟨dX6_with_6, _, rfl, Or.inl ⟨_, rfl⟩⟩))))
theorem okM_X6_with : XOkM xms rX6_with := xokM0 (List.forall_mem_cons.mpr ⟨⟨rfl, okX6_with_0⟩, fun _ h => nomatch h⟩) (xokH0 rfl (fun _ _ => rfl)) (by decide +kernel) (by decide)
abbrev cX7_init : ByteArray := prog_29_method_1_code
def dkwX7_init_0 : List UInt8 := [42, 18, 1, 1, 3, 3, 183, 0, 3, 177]
abbrev dktX7_init_0 : List UInt8 := dkwX7_init_0 ++ []
theorem dksX7_init_0 : cX7_init.data.toList.drop 0 = dktX7_init_0 := by decide +kernel
theorem dX7_init_0 : decode cX7_init 0 = .ok (.aload_n 0, 1) := dk_42 (dk_at dksX7_init_0 0 rfl rfl)
theorem dX7_init_1 : decode cX7_init 1 = .ok (.ldc 1, 2) := dk_18 1 (dk_at dksX7_init_0 1 rfl rfl)
theorem dX7_init_3 : decode cX7_init 3 = .ok (.aconst_null, 1) := dk_1 (dk_at dksX7_init_0 3 rfl rfl)
theorem dX7_init_4 : decode cX7_init 4 = .ok (.iconst 0, 1) := dk_3 (dk_at dksX7_init_0 4 rfl rfl)
theorem dX7_init_5 : decode cX7_init 5 = .ok (.iconst 0, 1) := dk_3 (dk_at dksX7_init_0 5 rfl rfl)
theorem dX7_init_6 : decode cX7_init 6 = .ok (.invokespecial 3, 3) := dk_183 0 3 (dk_at dksX7_init_0 6 rfl rfl)
theorem dX7_init_9 : decode cX7_init 9 = .ok (.return_, 1) := dk_177 (dk_at dksX7_init_0 9 rfl rfl)
theorem okX7_init_0 : XOkL xms rX7_init bX7_init_0 := xcP (xok_aload_n dX7_init_0 rfl) rfl (xcP (xok_ldcS (tx := "no step is left") dX7_init_1 (List.mem_of_getElem? (i := 1) rfl)) rfl (xcP (xok_null dX7_init_3) rfl (xcP (xok_iconst dX7_init_4 rfl) rfl (xcP (xok_iconst dX7_init_5 rfl) rfl (xcC0 (xokc_I xm292 rfl rfl dX7_init_6 q444 q408 q145 q409 rfl (by decide +kernel)) rfl (xcR ⟨dX7_init_9, rfl⟩))))))
theorem okM_X7_init : XOkM xms rX7_init := xokM0 (List.forall_mem_cons.mpr ⟨⟨rfl, okX7_init_0⟩, fun _ h => nomatch h⟩) (xokH0 rfl (fun _ _ => rfl)) (by decide +kernel) (by decide)
abbrev cX8_init : ByteArray := prog_5_method_1_code
def dkwX8_init_1 : List UInt8 := [188, 10, 181, 0, 18, 177]
abbrev dktX8_init_1 : List UInt8 := dkwX8_init_1 ++ []
def dkwX8_init_0 : List UInt8 := [42, 183, 0, 3, 42, 16, 6, 188, 10, 181, 0, 9, 42, 6, 188, 10, 181, 0, 15, 42, 17, 2, 128]
abbrev dktX8_init_0 : List UInt8 := dkwX8_init_0 ++ dktX8_init_1
theorem dksX8_init_0 : cX8_init.data.toList.drop 0 = dktX8_init_0 := by decide +kernel
theorem dksX8_init_1 : cX8_init.data.toList.drop 23 = dktX8_init_1 := dk_seg dksX8_init_0 23 rfl rfl
theorem dX8_init_0 : decode cX8_init 0 = .ok (.aload_n 0, 1) := dk_42 (dk_at dksX8_init_0 0 rfl rfl)
theorem dX8_init_1 : decode cX8_init 1 = .ok (.invokespecial 3, 3) := dk_183 0 3 (dk_at dksX8_init_0 1 rfl rfl)
theorem dX8_init_4 : decode cX8_init 4 = .ok (.aload_n 0, 1) := dk_42 (dk_at dksX8_init_0 4 rfl rfl)
theorem dX8_init_5 : decode cX8_init 5 = .ok (.bipush 6, 2) := dk_16 6 (dk_at dksX8_init_0 5 rfl rfl)
theorem dX8_init_7 : decode cX8_init 7 = .ok (.newarray .int, 2) := dk_188_10 (dk_at dksX8_init_0 7 rfl rfl)
theorem dX8_init_9 : decode cX8_init 9 = .ok (.putfield 9, 3) := dk_181 0 9 (dk_at dksX8_init_0 9 rfl rfl)
theorem dX8_init_12 : decode cX8_init 12 = .ok (.aload_n 0, 1) := dk_42 (dk_at dksX8_init_0 12 rfl rfl)
theorem dX8_init_13 : decode cX8_init 13 = .ok (.iconst 3, 1) := dk_6 (dk_at dksX8_init_0 13 rfl rfl)
theorem dX8_init_14 : decode cX8_init 14 = .ok (.newarray .int, 2) := dk_188_10 (dk_at dksX8_init_0 14 rfl rfl)
theorem dX8_init_16 : decode cX8_init 16 = .ok (.putfield 15, 3) := dk_181 0 15 (dk_at dksX8_init_0 16 rfl rfl)
theorem dX8_init_19 : decode cX8_init 19 = .ok (.aload_n 0, 1) := dk_42 (dk_at dksX8_init_0 19 rfl rfl)
theorem dX8_init_20 : decode cX8_init 20 = .ok (.sipush 640, 3) := dk_17 2 128 (dk_at dksX8_init_0 20 rfl rfl)
theorem dX8_init_23 : decode cX8_init 23 = .ok (.newarray .int, 2) := dk_188_10 (dk_at dksX8_init_1 0 rfl rfl)
theorem dX8_init_25 : decode cX8_init 25 = .ok (.putfield 18, 3) := dk_181 0 18 (dk_at dksX8_init_1 2 rfl rfl)
theorem dX8_init_28 : decode cX8_init 28 = .ok (.return_, 1) := dk_177 (dk_at dksX8_init_1 5 rfl rfl)
theorem okX8_init_0 : XOkL xms rX8_init bX8_init_0 := xcP (xok_aload_n dX8_init_0 rfl) rfl (xcP (xok_objInit dX8_init_1 q451 q186 q187) rfl (xcP (xok_aload_n dX8_init_4 rfl) rfl (xcP (xok_bipush dX8_init_5 rfl) rfl (xcP (xok_newarray (atype := .int) (by decide) rfl dX8_init_7 q222) rfl (xcP (xok_putfield (ref := "WaysAtlas$Frame") (Or.inr (Or.inr ⟨rfl, by decide, rfl⟩)) dX8_init_9 (Or.inl ⟨q452, (Or.inl rfl)⟩) (Or.inr ⟨rfl, rfl, ⟨q452, (Or.inl rfl)⟩⟩) xh1053) rfl (xcP (xok_aload_n dX8_init_12 rfl) rfl (xcP (xok_iconst dX8_init_13 rfl) rfl (xcP (xok_newarray (atype := .int) (by decide) rfl dX8_init_14 q222) rfl (xcP (xok_putfield (ref := "WaysAtlas$Frame") (Or.inr (Or.inr ⟨rfl, by decide, rfl⟩)) dX8_init_16 (Or.inl ⟨q457, (Or.inl rfl)⟩) (Or.inr ⟨rfl, rfl, ⟨q457, (Or.inl rfl)⟩⟩) xh1054) rfl (xcP (xok_aload_n dX8_init_19 rfl) rfl (xcP (xok_sipush dX8_init_20 rfl) rfl (xcP (xok_newarray (atype := .int) (by decide) rfl dX8_init_23 q222) rfl (xcP (xok_putfield (ref := "WaysAtlas$Frame") (Or.inr (Or.inr ⟨rfl, by decide, rfl⟩)) dX8_init_25 (Or.inl ⟨q461, (Or.inl rfl)⟩) (Or.inr ⟨rfl, rfl, ⟨q461, (Or.inl rfl)⟩⟩) xh1055) rfl (xcR ⟨dX8_init_28, rfl⟩))))))))))))))
theorem okM_X8_init : XOkM xms rX8_init := xokM0 (List.forall_mem_cons.mpr ⟨⟨rfl, okX8_init_0⟩, fun _ h => nomatch h⟩) (xokH0 rfl (fun _ _ => rfl)) (by decide +kernel) (by decide)
abbrev cX8_begin : ByteArray := prog_5_method_2_code
def dkwX8_begin_3 : List UInt8 := [181, 0, 25, 42, 16, 247, 181, 0, 29, 42, 43, 180, 0, 32, 181, 0, 37, 177]
abbrev dktX8_begin_3 : List UInt8 := dkwX8_begin_3 ++ []
def dkwX8_begin_2 : List UInt8 := [132, 4, 1, 167, 255, 238, 42, 180, 0, 9, 3, 28, 79, 42, 180, 0, 9, 4, 29, 79, 42, 3]
abbrev dktX8_begin_2 : List UInt8 := dkwX8_begin_2 ++ dktX8_begin_3
def dkwX8_begin_1 : List UInt8 := [132, 4, 1, 167, 255, 238, 3, 54, 4, 21, 4, 6, 162, 0, 18, 42, 180, 0, 15, 21, 4, 16, 247, 79]
abbrev dktX8_begin_1 : List UInt8 := dkwX8_begin_1 ++ dktX8_begin_2
def dkwX8_begin_0 : List UInt8 := [42, 43, 181, 0, 21, 3, 54, 4, 21, 4, 16, 6, 162, 0, 17, 42, 180, 0, 9, 21, 4, 3, 79]
abbrev dktX8_begin_0 : List UInt8 := dkwX8_begin_0 ++ dktX8_begin_1
theorem dksX8_begin_0 : cX8_begin.data.toList.drop 0 = dktX8_begin_0 := by decide +kernel
theorem dksX8_begin_1 : cX8_begin.data.toList.drop 23 = dktX8_begin_1 := dk_seg dksX8_begin_0 23 rfl rfl
theorem dksX8_begin_2 : cX8_begin.data.toList.drop 47 = dktX8_begin_2 := dk_seg dksX8_begin_1 24 rfl rfl
theorem dksX8_begin_3 : cX8_begin.data.toList.drop 69 = dktX8_begin_3 := dk_seg dksX8_begin_2 22 rfl rfl
theorem dX8_begin_0 : decode cX8_begin 0 = .ok (.aload_n 0, 1) := dk_42 (dk_at dksX8_begin_0 0 rfl rfl)
theorem dX8_begin_1 : decode cX8_begin 1 = .ok (.aload_n 1, 1) := dk_43 (dk_at dksX8_begin_0 1 rfl rfl)
theorem dX8_begin_2 : decode cX8_begin 2 = .ok (.putfield 21, 3) := dk_181 0 21 (dk_at dksX8_begin_0 2 rfl rfl)
theorem dX8_begin_5 : decode cX8_begin 5 = .ok (.iconst 0, 1) := dk_3 (dk_at dksX8_begin_0 5 rfl rfl)
theorem dX8_begin_6 : decode cX8_begin 6 = .ok (.istore 4, 2) := dk_54 4 (dk_at dksX8_begin_0 6 rfl rfl)
theorem dX8_begin_8 : decode cX8_begin 8 = .ok (.iload 4, 2) := dk_21 4 (dk_at dksX8_begin_0 8 rfl rfl)
theorem dX8_begin_10 : decode cX8_begin 10 = .ok (.bipush 6, 2) := dk_16 6 (dk_at dksX8_begin_0 10 rfl rfl)
theorem dX8_begin_12 : decode cX8_begin 12 = .ok (.if_icmp .ge 17, 3) := dk_162 0 17 (dk_at dksX8_begin_0 12 rfl rfl)
theorem dX8_begin_15 : decode cX8_begin 15 = .ok (.aload_n 0, 1) := dk_42 (dk_at dksX8_begin_0 15 rfl rfl)
theorem dX8_begin_16 : decode cX8_begin 16 = .ok (.getfield 9, 3) := dk_180 0 9 (dk_at dksX8_begin_0 16 rfl rfl)
theorem dX8_begin_19 : decode cX8_begin 19 = .ok (.iload 4, 2) := dk_21 4 (dk_at dksX8_begin_0 19 rfl rfl)
theorem dX8_begin_21 : decode cX8_begin 21 = .ok (.iconst 0, 1) := dk_3 (dk_at dksX8_begin_0 21 rfl rfl)
theorem dX8_begin_22 : decode cX8_begin 22 = .ok (.iastore, 1) := dk_79 (dk_at dksX8_begin_0 22 rfl rfl)
theorem dX8_begin_23 : decode cX8_begin 23 = .ok (.iinc 4 1, 3) := dk_132 4 1 (dk_at dksX8_begin_1 0 rfl rfl)
theorem dX8_begin_26 : decode cX8_begin 26 = .ok (.goto (-18), 3) := dk_167 255 238 (dk_at dksX8_begin_1 3 rfl rfl)
theorem dX8_begin_29 : decode cX8_begin 29 = .ok (.iconst 0, 1) := dk_3 (dk_at dksX8_begin_1 6 rfl rfl)
theorem dX8_begin_30 : decode cX8_begin 30 = .ok (.istore 4, 2) := dk_54 4 (dk_at dksX8_begin_1 7 rfl rfl)
theorem dX8_begin_32 : decode cX8_begin 32 = .ok (.iload 4, 2) := dk_21 4 (dk_at dksX8_begin_1 9 rfl rfl)
theorem dX8_begin_34 : decode cX8_begin 34 = .ok (.iconst 3, 1) := dk_6 (dk_at dksX8_begin_1 11 rfl rfl)
theorem dX8_begin_35 : decode cX8_begin 35 = .ok (.if_icmp .ge 18, 3) := dk_162 0 18 (dk_at dksX8_begin_1 12 rfl rfl)
theorem dX8_begin_38 : decode cX8_begin 38 = .ok (.aload_n 0, 1) := dk_42 (dk_at dksX8_begin_1 15 rfl rfl)
theorem dX8_begin_39 : decode cX8_begin 39 = .ok (.getfield 15, 3) := dk_180 0 15 (dk_at dksX8_begin_1 16 rfl rfl)
theorem dX8_begin_42 : decode cX8_begin 42 = .ok (.iload 4, 2) := dk_21 4 (dk_at dksX8_begin_1 19 rfl rfl)
theorem dX8_begin_44 : decode cX8_begin 44 = .ok (.bipush (-9), 2) := dk_16 247 (dk_at dksX8_begin_1 21 rfl rfl)
theorem dX8_begin_46 : decode cX8_begin 46 = .ok (.iastore, 1) := dk_79 (dk_at dksX8_begin_1 23 rfl rfl)
theorem dX8_begin_47 : decode cX8_begin 47 = .ok (.iinc 4 1, 3) := dk_132 4 1 (dk_at dksX8_begin_2 0 rfl rfl)
theorem dX8_begin_50 : decode cX8_begin 50 = .ok (.goto (-18), 3) := dk_167 255 238 (dk_at dksX8_begin_2 3 rfl rfl)
theorem dX8_begin_53 : decode cX8_begin 53 = .ok (.aload_n 0, 1) := dk_42 (dk_at dksX8_begin_2 6 rfl rfl)
theorem dX8_begin_54 : decode cX8_begin 54 = .ok (.getfield 9, 3) := dk_180 0 9 (dk_at dksX8_begin_2 7 rfl rfl)
theorem dX8_begin_57 : decode cX8_begin 57 = .ok (.iconst 0, 1) := dk_3 (dk_at dksX8_begin_2 10 rfl rfl)
theorem dX8_begin_58 : decode cX8_begin 58 = .ok (.iload_n 2, 1) := dk_28 (dk_at dksX8_begin_2 11 rfl rfl)
theorem dX8_begin_59 : decode cX8_begin 59 = .ok (.iastore, 1) := dk_79 (dk_at dksX8_begin_2 12 rfl rfl)
theorem dX8_begin_60 : decode cX8_begin 60 = .ok (.aload_n 0, 1) := dk_42 (dk_at dksX8_begin_2 13 rfl rfl)
theorem dX8_begin_61 : decode cX8_begin 61 = .ok (.getfield 9, 3) := dk_180 0 9 (dk_at dksX8_begin_2 14 rfl rfl)
theorem dX8_begin_64 : decode cX8_begin 64 = .ok (.iconst 1, 1) := dk_4 (dk_at dksX8_begin_2 17 rfl rfl)
theorem dX8_begin_65 : decode cX8_begin 65 = .ok (.iload_n 3, 1) := dk_29 (dk_at dksX8_begin_2 18 rfl rfl)
theorem dX8_begin_66 : decode cX8_begin 66 = .ok (.iastore, 1) := dk_79 (dk_at dksX8_begin_2 19 rfl rfl)
theorem dX8_begin_67 : decode cX8_begin 67 = .ok (.aload_n 0, 1) := dk_42 (dk_at dksX8_begin_2 20 rfl rfl)
theorem dX8_begin_68 : decode cX8_begin 68 = .ok (.iconst 0, 1) := dk_3 (dk_at dksX8_begin_2 21 rfl rfl)
theorem dX8_begin_69 : decode cX8_begin 69 = .ok (.putfield 25, 3) := dk_181 0 25 (dk_at dksX8_begin_3 0 rfl rfl)
theorem dX8_begin_72 : decode cX8_begin 72 = .ok (.aload_n 0, 1) := dk_42 (dk_at dksX8_begin_3 3 rfl rfl)
theorem dX8_begin_73 : decode cX8_begin 73 = .ok (.bipush (-9), 2) := dk_16 247 (dk_at dksX8_begin_3 4 rfl rfl)
theorem dX8_begin_75 : decode cX8_begin 75 = .ok (.putfield 29, 3) := dk_181 0 29 (dk_at dksX8_begin_3 6 rfl rfl)
theorem dX8_begin_78 : decode cX8_begin 78 = .ok (.aload_n 0, 1) := dk_42 (dk_at dksX8_begin_3 9 rfl rfl)
theorem dX8_begin_79 : decode cX8_begin 79 = .ok (.aload_n 1, 1) := dk_43 (dk_at dksX8_begin_3 10 rfl rfl)
theorem dX8_begin_80 : decode cX8_begin 80 = .ok (.getfield 32, 3) := dk_180 0 32 (dk_at dksX8_begin_3 11 rfl rfl)
theorem dX8_begin_83 : decode cX8_begin 83 = .ok (.putfield 37, 3) := dk_181 0 37 (dk_at dksX8_begin_3 14 rfl rfl)
theorem dX8_begin_86 : decode cX8_begin 86 = .ok (.return_, 1) := dk_177 (dk_at dksX8_begin_3 17 rfl rfl)
theorem okX8_begin_0 : XOkL xms rX8_begin bX8_begin_0 := xcP (xok_aload_n dX8_begin_0 rfl) rfl (xcP (xok_aload_n dX8_begin_1 rfl) rfl (xcP (xok_putfield (ref := "WaysAtlas$Frame") (Or.inr (Or.inr ⟨rfl, by decide, rfl⟩)) dX8_begin_2 (Or.inl ⟨q469, (Or.inl rfl)⟩) (Or.inl rfl) xh1056) rfl (xcP (xok_iconst dX8_begin_5 rfl) rfl (xcP (xok_istore dX8_begin_6) rfl (xcP xok_fal rfl trivial)))))
theorem okX8_begin_8 : XOkL xms rX8_begin bX8_begin_8 := xcP (xok_iload dX8_begin_8) rfl (xcP (xok_bipush dX8_begin_10 rfl) rfl (xcP (xok_icmpge dX8_begin_12 (by decide)) rfl (xcP (xok_aload_n dX8_begin_15 rfl) rfl (xcP (xok_getfield (ref := "WaysAtlas$Frame") (Or.inr ⟨rfl, by decide⟩) dX8_begin_16 (Or.inl ⟨q452, (Or.inl rfl)⟩) xh1053) rfl (xcP (xok_iload dX8_begin_19) rfl (xcP (xok_iconst dX8_begin_21 rfl) rfl (xcP (xok_iastore dX8_begin_22) rfl (xcP (xok_iinc dX8_begin_23 rfl) rfl (xcP (xok_goto dX8_begin_26 (by decide)) rfl trivial)))))))))
theorem okX8_begin_29 : XOkL xms rX8_begin bX8_begin_29 := xcP (xok_iconst dX8_begin_29 rfl) rfl (xcP (xok_istore dX8_begin_30) rfl (xcP xok_fal rfl trivial))
theorem okX8_begin_32 : XOkL xms rX8_begin bX8_begin_32 := xcP (xok_iload dX8_begin_32) rfl (xcP (xok_iconst dX8_begin_34 rfl) rfl (xcP (xok_icmpge dX8_begin_35 (by decide)) rfl (xcP (xok_aload_n dX8_begin_38 rfl) rfl (xcP (xok_getfield (ref := "WaysAtlas$Frame") (Or.inr ⟨rfl, by decide⟩) dX8_begin_39 (Or.inl ⟨q457, (Or.inl rfl)⟩) xh1054) rfl (xcP (xok_iload dX8_begin_42) rfl (xcP (xok_bipush dX8_begin_44 rfl) rfl (xcP (xok_iastore dX8_begin_46) rfl (xcP (xok_iinc dX8_begin_47 rfl) rfl (xcP (xok_goto dX8_begin_50 (by decide)) rfl trivial)))))))))
theorem okX8_begin_53 : XOkL xms rX8_begin bX8_begin_53 := xcP (xok_aload_n dX8_begin_53 rfl) rfl (xcP (xok_getfield (ref := "WaysAtlas$Frame") (Or.inr ⟨rfl, by decide⟩) dX8_begin_54 (Or.inl ⟨q452, (Or.inl rfl)⟩) xh1053) rfl (xcP (xok_iconst dX8_begin_57 rfl) rfl (xcP (xok_iload_n dX8_begin_58 rfl) rfl (xcP (xok_iastore dX8_begin_59) rfl (xcP (xok_aload_n dX8_begin_60 rfl) rfl (xcP (xok_getfield (ref := "WaysAtlas$Frame") (Or.inr ⟨rfl, by decide⟩) dX8_begin_61 (Or.inl ⟨q452, (Or.inl rfl)⟩) xh1053) rfl (xcP (xok_iconst dX8_begin_64 rfl) rfl (xcP (xok_iload_n dX8_begin_65 rfl) rfl (xcP (xok_iastore dX8_begin_66) rfl (xcP (xok_aload_n dX8_begin_67 rfl) rfl (xcP (xok_iconst dX8_begin_68 rfl) rfl (xcP (xok_putfield (ref := "WaysAtlas$Frame") (Or.inl ⟨rfl, by decide, rfl⟩) dX8_begin_69 (Or.inl ⟨q466, (Or.inl rfl)⟩) (Or.inl rfl) xh34) rfl (xcP (xok_aload_n dX8_begin_72 rfl) rfl (xcP (xok_bipush dX8_begin_73 rfl) rfl (xcP (xok_putfield (ref := "WaysAtlas$Frame") (Or.inl ⟨rfl, by decide, rfl⟩) dX8_begin_75 (Or.inl ⟨q473, (Or.inl rfl)⟩) (Or.inl rfl) xh35) rfl (xcP (xok_aload_n dX8_begin_78 rfl) rfl (xcP (xok_aload_n dX8_begin_79 rfl) rfl (xcP (xok_getfield (ref := "WaysAtlas$Method") (Or.inl ⟨rfl, by decide⟩) dX8_begin_80 (Or.inr ⟨⟨"WaysAtlas", (List.mem_of_getElem? (i := 5) rfl)⟩, (Or.inl rfl)⟩) xh77) rfl (xcP (xok_putfield (ref := "WaysAtlas$Frame") (Or.inl ⟨rfl, by decide, rfl⟩) dX8_begin_83 (Or.inl ⟨q477, (Or.inl rfl)⟩) (Or.inl rfl) xh36) rfl (xcR ⟨dX8_begin_86, rfl⟩))))))))))))))))))))
theorem okM_X8_begin : XOkM xms rX8_begin := xokM0 (List.forall_mem_cons.mpr ⟨⟨rfl, okX8_begin_0⟩, List.forall_mem_cons.mpr ⟨⟨rfl, okX8_begin_8⟩, List.forall_mem_cons.mpr ⟨⟨rfl, okX8_begin_29⟩, List.forall_mem_cons.mpr ⟨⟨rfl, okX8_begin_32⟩, List.forall_mem_cons.mpr ⟨⟨rfl, okX8_begin_53⟩, fun _ h => nomatch h⟩⟩⟩⟩⟩) (xokH0 rfl (fun _ _ => rfl)) (by decide +kernel) (by decide)
