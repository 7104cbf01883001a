set_option maxRecDepth 100000
abbrev cX9_plan : ByteArray := prog_36_method_58_code
def dkwX9_plan_5 : List UInt8 := [180, 1, 197, 172]
abbrev dktX9_plan_5 : List UInt8 := dkwX9_plan_5 ++ []
def dkwX9_plan_4 : List UInt8 := [79, 42, 180, 0, 135, 42, 180, 1, 197, 21, 4, 79, 42, 89, 180, 1, 197, 4, 96, 181, 1, 197, 42]
abbrev dktX9_plan_4 : List UInt8 := dkwX9_plan_4 ++ dktX9_plan_5
def dkwX9_plan_3 : List UInt8 := [180, 1, 197, 27, 79, 42, 180, 0, 129, 42, 180, 1, 197, 28, 79, 42, 180, 0, 132, 42, 180, 1, 197, 29]
abbrev dktX9_plan_3 : List UInt8 := dkwX9_plan_3 ++ dktX9_plan_4
def dkwX9_plan_2 : List UInt8 := [154, 0, 5, 2, 172, 42, 180, 1, 197, 16, 30, 160, 0, 6, 16, 254, 172, 42, 180, 0, 126, 42]
abbrev dktX9_plan_2 : List UInt8 := dkwX9_plan_2 ++ dktX9_plan_3
def dkwX9_plan_1 : List UInt8 := [184, 0, 239, 153, 0, 23, 21, 4, 3, 42, 180, 0, 96, 42, 180, 0, 235, 46, 4, 100, 184, 0, 239]
abbrev dktX9_plan_1 : List UInt8 := dkwX9_plan_1 ++ dktX9_plan_2
def dkwX9_plan_0 : List UInt8 := [42, 27, 182, 1, 203, 153, 0, 43, 42, 27, 28, 182, 1, 206, 153, 0, 34, 29, 4, 17, 1, 144]
abbrev dktX9_plan_0 : List UInt8 := dkwX9_plan_0 ++ dktX9_plan_1
theorem dksX9_plan_0 : cX9_plan.data.toList.drop 0 = dktX9_plan_0 := by decide +kernel
theorem dksX9_plan_1 : cX9_plan.data.toList.drop 22 = dktX9_plan_1 := dk_seg dksX9_plan_0 22 rfl rfl
theorem dksX9_plan_2 : cX9_plan.data.toList.drop 45 = dktX9_plan_2 := dk_seg dksX9_plan_1 23 rfl rfl
theorem dksX9_plan_3 : cX9_plan.data.toList.drop 67 = dktX9_plan_3 := dk_seg dksX9_plan_2 22 rfl rfl
theorem dksX9_plan_4 : cX9_plan.data.toList.drop 91 = dktX9_plan_4 := dk_seg dksX9_plan_3 24 rfl rfl
theorem dksX9_plan_5 : cX9_plan.data.toList.drop 114 = dktX9_plan_5 := dk_seg dksX9_plan_4 23 rfl rfl
theorem dX9_plan_0 : decode cX9_plan 0 = .ok (.aload_n 0, 1) := dk_42 (dk_at dksX9_plan_0 0 rfl rfl)
theorem dX9_plan_1 : decode cX9_plan 1 = .ok (.iload_n 1, 1) := dk_27 (dk_at dksX9_plan_0 1 rfl rfl)
theorem dX9_plan_2 : decode cX9_plan 2 = .ok (.invokevirtual 459, 3) := dk_182 1 203 (dk_at dksX9_plan_0 2 rfl rfl)
theorem dX9_plan_5 : decode cX9_plan 5 = .ok (.ifCond .eq 43, 3) := dk_153 0 43 (dk_at dksX9_plan_0 5 rfl rfl)
theorem dX9_plan_8 : decode cX9_plan 8 = .ok (.aload_n 0, 1) := dk_42 (dk_at dksX9_plan_0 8 rfl rfl)
theorem dX9_plan_9 : decode cX9_plan 9 = .ok (.iload_n 1, 1) := dk_27 (dk_at dksX9_plan_0 9 rfl rfl)
theorem dX9_plan_10 : decode cX9_plan 10 = .ok (.iload_n 2, 1) := dk_28 (dk_at dksX9_plan_0 10 rfl rfl)
theorem dX9_plan_11 : decode cX9_plan 11 = .ok (.invokevirtual 462, 3) := dk_182 1 206 (dk_at dksX9_plan_0 11 rfl rfl)
theorem dX9_plan_14 : decode cX9_plan 14 = .ok (.ifCond .eq 34, 3) := dk_153 0 34 (dk_at dksX9_plan_0 14 rfl rfl)
theorem dX9_plan_17 : decode cX9_plan 17 = .ok (.iload_n 3, 1) := dk_29 (dk_at dksX9_plan_0 17 rfl rfl)
theorem dX9_plan_18 : decode cX9_plan 18 = .ok (.iconst 1, 1) := dk_4 (dk_at dksX9_plan_0 18 rfl rfl)
theorem dX9_plan_19 : decode cX9_plan 19 = .ok (.sipush 400, 3) := dk_17 1 144 (dk_at dksX9_plan_0 19 rfl rfl)
theorem dX9_plan_22 : decode cX9_plan 22 = .ok (.invokestatic 239, 3) := dk_184 0 239 (dk_at dksX9_plan_1 0 rfl rfl)
theorem dX9_plan_25 : decode cX9_plan 25 = .ok (.ifCond .eq 23, 3) := dk_153 0 23 (dk_at dksX9_plan_1 3 rfl rfl)
theorem dX9_plan_28 : decode cX9_plan 28 = .ok (.iload 4, 2) := dk_21 4 (dk_at dksX9_plan_1 6 rfl rfl)
theorem dX9_plan_30 : decode cX9_plan 30 = .ok (.iconst 0, 1) := dk_3 (dk_at dksX9_plan_1 8 rfl rfl)
theorem dX9_plan_31 : decode cX9_plan 31 = .ok (.aload_n 0, 1) := dk_42 (dk_at dksX9_plan_1 9 rfl rfl)
theorem dX9_plan_32 : decode cX9_plan 32 = .ok (.getfield 96, 3) := dk_180 0 96 (dk_at dksX9_plan_1 10 rfl rfl)
theorem dX9_plan_35 : decode cX9_plan 35 = .ok (.aload_n 0, 1) := dk_42 (dk_at dksX9_plan_1 13 rfl rfl)
theorem dX9_plan_36 : decode cX9_plan 36 = .ok (.getfield 235, 3) := dk_180 0 235 (dk_at dksX9_plan_1 14 rfl rfl)
theorem dX9_plan_39 : decode cX9_plan 39 = .ok (.iaload, 1) := dk_46 (dk_at dksX9_plan_1 17 rfl rfl)
theorem dX9_plan_40 : decode cX9_plan 40 = .ok (.iconst 1, 1) := dk_4 (dk_at dksX9_plan_1 18 rfl rfl)
theorem dX9_plan_41 : decode cX9_plan 41 = .ok (.isub, 1) := dk_100 (dk_at dksX9_plan_1 19 rfl rfl)
theorem dX9_plan_42 : decode cX9_plan 42 = .ok (.invokestatic 239, 3) := dk_184 0 239 (dk_at dksX9_plan_1 20 rfl rfl)
theorem dX9_plan_45 : decode cX9_plan 45 = .ok (.ifCond .ne 5, 3) := dk_154 0 5 (dk_at dksX9_plan_2 0 rfl rfl)
theorem dX9_plan_48 : decode cX9_plan 48 = .ok (.iconst (-1), 1) := dk_2 (dk_at dksX9_plan_2 3 rfl rfl)
theorem dX9_plan_49 : decode cX9_plan 49 = .ok (.ireturn, 1) := dk_172 (dk_at dksX9_plan_2 4 rfl rfl)
theorem dX9_plan_50 : decode cX9_plan 50 = .ok (.aload_n 0, 1) := dk_42 (dk_at dksX9_plan_2 5 rfl rfl)
theorem dX9_plan_51 : decode cX9_plan 51 = .ok (.getfield 453, 3) := dk_180 1 197 (dk_at dksX9_plan_2 6 rfl rfl)
theorem dX9_plan_54 : decode cX9_plan 54 = .ok (.bipush 30, 2) := dk_16 30 (dk_at dksX9_plan_2 9 rfl rfl)
theorem dX9_plan_56 : decode cX9_plan 56 = .ok (.if_icmp .ne 6, 3) := dk_160 0 6 (dk_at dksX9_plan_2 11 rfl rfl)
theorem dX9_plan_59 : decode cX9_plan 59 = .ok (.bipush (-2), 2) := dk_16 254 (dk_at dksX9_plan_2 14 rfl rfl)
theorem dX9_plan_61 : decode cX9_plan 61 = .ok (.ireturn, 1) := dk_172 (dk_at dksX9_plan_2 16 rfl rfl)
theorem dX9_plan_62 : decode cX9_plan 62 = .ok (.aload_n 0, 1) := dk_42 (dk_at dksX9_plan_2 17 rfl rfl)
theorem dX9_plan_63 : decode cX9_plan 63 = .ok (.getfield 126, 3) := dk_180 0 126 (dk_at dksX9_plan_2 18 rfl rfl)
theorem dX9_plan_66 : decode cX9_plan 66 = .ok (.aload_n 0, 1) := dk_42 (dk_at dksX9_plan_2 21 rfl rfl)
theorem dX9_plan_67 : decode cX9_plan 67 = .ok (.getfield 453, 3) := dk_180 1 197 (dk_at dksX9_plan_3 0 rfl rfl)
theorem dX9_plan_70 : decode cX9_plan 70 = .ok (.iload_n 1, 1) := dk_27 (dk_at dksX9_plan_3 3 rfl rfl)
theorem dX9_plan_71 : decode cX9_plan 71 = .ok (.iastore, 1) := dk_79 (dk_at dksX9_plan_3 4 rfl rfl)
theorem dX9_plan_72 : decode cX9_plan 72 = .ok (.aload_n 0, 1) := dk_42 (dk_at dksX9_plan_3 5 rfl rfl)
theorem dX9_plan_73 : decode cX9_plan 73 = .ok (.getfield 129, 3) := dk_180 0 129 (dk_at dksX9_plan_3 6 rfl rfl)
theorem dX9_plan_76 : decode cX9_plan 76 = .ok (.aload_n 0, 1) := dk_42 (dk_at dksX9_plan_3 9 rfl rfl)
theorem dX9_plan_77 : decode cX9_plan 77 = .ok (.getfield 453, 3) := dk_180 1 197 (dk_at dksX9_plan_3 10 rfl rfl)
theorem dX9_plan_80 : decode cX9_plan 80 = .ok (.iload_n 2, 1) := dk_28 (dk_at dksX9_plan_3 13 rfl rfl)
theorem dX9_plan_81 : decode cX9_plan 81 = .ok (.iastore, 1) := dk_79 (dk_at dksX9_plan_3 14 rfl rfl)
theorem dX9_plan_82 : decode cX9_plan 82 = .ok (.aload_n 0, 1) := dk_42 (dk_at dksX9_plan_3 15 rfl rfl)
theorem dX9_plan_83 : decode cX9_plan 83 = .ok (.getfield 132, 3) := dk_180 0 132 (dk_at dksX9_plan_3 16 rfl rfl)
theorem dX9_plan_86 : decode cX9_plan 86 = .ok (.aload_n 0, 1) := dk_42 (dk_at dksX9_plan_3 19 rfl rfl)
theorem dX9_plan_87 : decode cX9_plan 87 = .ok (.getfield 453, 3) := dk_180 1 197 (dk_at dksX9_plan_3 20 rfl rfl)
theorem dX9_plan_90 : decode cX9_plan 90 = .ok (.iload_n 3, 1) := dk_29 (dk_at dksX9_plan_3 23 rfl rfl)
theorem dX9_plan_91 : decode cX9_plan 91 = .ok (.iastore, 1) := dk_79 (dk_at dksX9_plan_4 0 rfl rfl)
theorem dX9_plan_92 : decode cX9_plan 92 = .ok (.aload_n 0, 1) := dk_42 (dk_at dksX9_plan_4 1 rfl rfl)
theorem dX9_plan_93 : decode cX9_plan 93 = .ok (.getfield 135, 3) := dk_180 0 135 (dk_at dksX9_plan_4 2 rfl rfl)
theorem dX9_plan_96 : decode cX9_plan 96 = .ok (.aload_n 0, 1) := dk_42 (dk_at dksX9_plan_4 5 rfl rfl)
theorem dX9_plan_97 : decode cX9_plan 97 = .ok (.getfield 453, 3) := dk_180 1 197 (dk_at dksX9_plan_4 6 rfl rfl)
theorem dX9_plan_100 : decode cX9_plan 100 = .ok (.iload 4, 2) := dk_21 4 (dk_at dksX9_plan_4 9 rfl rfl)
theorem dX9_plan_102 : decode cX9_plan 102 = .ok (.iastore, 1) := dk_79 (dk_at dksX9_plan_4 11 rfl rfl)
theorem dX9_plan_103 : decode cX9_plan 103 = .ok (.aload_n 0, 1) := dk_42 (dk_at dksX9_plan_4 12 rfl rfl)
theorem dX9_plan_104 : decode cX9_plan 104 = .ok (.dup, 1) := dk_89 (dk_at dksX9_plan_4 13 rfl rfl)
theorem dX9_plan_105 : decode cX9_plan 105 = .ok (.getfield 453, 3) := dk_180 1 197 (dk_at dksX9_plan_4 14 rfl rfl)
theorem dX9_plan_108 : decode cX9_plan 108 = .ok (.iconst 1, 1) := dk_4 (dk_at dksX9_plan_4 17 rfl rfl)
theorem dX9_plan_109 : decode cX9_plan 109 = .ok (.iadd, 1) := dk_96 (dk_at dksX9_plan_4 18 rfl rfl)
theorem dX9_plan_110 : decode cX9_plan 110 = .ok (.putfield 453, 3) := dk_181 1 197 (dk_at dksX9_plan_4 19 rfl rfl)
theorem dX9_plan_113 : decode cX9_plan 113 = .ok (.aload_n 0, 1) := dk_42 (dk_at dksX9_plan_4 22 rfl rfl)
theorem dX9_plan_114 : decode cX9_plan 114 = .ok (.getfield 453, 3) := dk_180 1 197 (dk_at dksX9_plan_5 0 rfl rfl)
theorem dX9_plan_117 : decode cX9_plan 117 = .ok (.ireturn, 1) := dk_172 (dk_at dksX9_plan_5 3 rfl rfl)
theorem okX9_plan_0 : XOkL xms rX9_plan bX9_plan_0 := xcP (xok_aload_n dX9_plan_0 rfl) rfl (xcP (xok_iload_n dX9_plan_1 rfl) rfl (xcC0 (xokc_list (List.forall_mem_cons.mpr ⟨xokc_V (r := (RX9, TX9, 96)) xm151 (List.mem_of_getElem? (i := 9) rfl) (by decide) rfl dX9_plan_2 q2433 q2435 qs98 q149 q2436 (by decide +kernel), fun _ h => nomatch h⟩)) rfl (xcP (xok_ifeq dX9_plan_5 (by decide)) rfl (xcP (xok_aload_n dX9_plan_8 rfl) rfl (xcP (xok_iload_n dX9_plan_9 rfl) rfl (xcP (xok_iload_n dX9_plan_10 rfl) rfl (xcC0 (xokc_list (List.forall_mem_cons.mpr ⟨xokc_V (r := (RX9, TX9, 96)) xm152 (List.mem_of_getElem? (i := 9) rfl) (by decide) rfl dX9_plan_11 q2437 q2439 qs99 q149 q2440 (by decide +kernel), fun _ h => nomatch h⟩)) rfl (xcP (xok_ifeq dX9_plan_14 (by decide)) rfl (xcP (xok_iload_n dX9_plan_17 rfl) rfl (xcP (xok_iconst dX9_plan_18 rfl) rfl (xcP (xok_sipush dX9_plan_19 rfl) rfl (xcC0 (xokc_S xm99 rfl dX9_plan_22 q2224 q2225 q149 q2226 (by decide +kernel)) rfl (xcP (xok_ifeq dX9_plan_25 (by decide)) rfl (xcP (xok_iload dX9_plan_28) rfl (xcP (xok_iconst dX9_plan_30 rfl) rfl (xcP (xok_aload_n dX9_plan_31 rfl) rfl (xcP (xok_getfield (ref := "WaysAtlasModel") (Or.inr ⟨rfl, by decide⟩) dX9_plan_32 (Or.inl ⟨q1952, (Or.inl rfl)⟩) xh1071) rfl (xcP (xok_aload_n dX9_plan_35 rfl) rfl (xcP (xok_getfield (ref := "WaysAtlasModel") (Or.inl ⟨rfl, by decide⟩) dX9_plan_36 (Or.inl ⟨q1937, (Or.inl rfl)⟩) xh44) rfl (xcP (xok_iaload dX9_plan_39) rfl (xcP (xok_iconst dX9_plan_40 rfl) rfl (xcP (xok_isub dX9_plan_41) rfl (xcC0 (xokc_S xm99 rfl dX9_plan_42 q2224 q2225 q149 q2226 (by decide +kernel)) rfl (xcP (xok_ifne dX9_plan_45 (by decide)) rfl (xcP xok_fal rfl trivial)))))))))))))))))))))))))
theorem okX9_plan_48 : XOkL xms rX9_plan bX9_plan_48 := xcP (xok_iconst dX9_plan_48 rfl) rfl (xcR ⟨dX9_plan_49, rfl⟩)
theorem okX9_plan_50 : XOkL xms rX9_plan bX9_plan_50 := xcP (xok_aload_n dX9_plan_50 rfl) rfl (xcP (xok_getfield (ref := "WaysAtlasModel") (Or.inl ⟨rfl, by decide⟩) dX9_plan_51 (Or.inl ⟨q1972, (Or.inl rfl)⟩) xh57) rfl (xcP (xok_bipush dX9_plan_54 rfl) rfl (xcP (xok_icmpne dX9_plan_56 (by decide)) rfl (xcP (xok_bipush dX9_plan_59 rfl) rfl (xcR ⟨dX9_plan_61, rfl⟩)))))
theorem okX9_plan_62 : XOkL xms rX9_plan bX9_plan_62 := xcP (xok_aload_n dX9_plan_62 rfl) rfl (xcP (xok_getfield (ref := "WaysAtlasModel") (Or.inr ⟨rfl, by decide⟩) dX9_plan_63 (Or.inl ⟨q1973, (Or.inl rfl)⟩) xh1081) rfl (xcP (xok_aload_n dX9_plan_66 rfl) rfl (xcP (xok_getfield (ref := "WaysAtlasModel") (Or.inl ⟨rfl, by decide⟩) dX9_plan_67 (Or.inl ⟨q1972, (Or.inl rfl)⟩) xh57) rfl (xcP (xok_iload_n dX9_plan_70 rfl) rfl (xcP (xok_iastore dX9_plan_71) rfl (xcP (xok_aload_n dX9_plan_72 rfl) rfl (xcP (xok_getfield (ref := "WaysAtlasModel") (Or.inr ⟨rfl, by decide⟩) dX9_plan_73 (Or.inl ⟨q1974, (Or.inl rfl)⟩) xh1082) rfl (xcP (xok_aload_n dX9_plan_76 rfl) rfl (xcP (xok_getfield (ref := "WaysAtlasModel") (Or.inl ⟨rfl, by decide⟩) dX9_plan_77 (Or.inl ⟨q1972, (Or.inl rfl)⟩) xh57) rfl (xcP (xok_iload_n dX9_plan_80 rfl) rfl (xcP (xok_iastore dX9_plan_81) rfl (xcP (xok_aload_n dX9_plan_82 rfl) rfl (xcP (xok_getfield (ref := "WaysAtlasModel") (Or.inr ⟨rfl, by decide⟩) dX9_plan_83 (Or.inl ⟨q1975, (Or.inl rfl)⟩) xh1083) rfl (xcP (xok_aload_n dX9_plan_86 rfl) rfl (xcP (xok_getfield (ref := "WaysAtlasModel") (Or.inl ⟨rfl, by decide⟩) dX9_plan_87 (Or.inl ⟨q1972, (Or.inl rfl)⟩) xh57) rfl (xcP (xok_iload_n dX9_plan_90 rfl) rfl (xcP (xok_iastore dX9_plan_91) rfl (xcP (xok_aload_n dX9_plan_92 rfl) rfl (xcP (xok_getfield (ref := "WaysAtlasModel") (Or.inr ⟨rfl, by decide⟩) dX9_plan_93 (Or.inl ⟨q1976, (Or.inl rfl)⟩) xh1084) rfl (xcP (xok_aload_n dX9_plan_96 rfl) rfl (xcP (xok_getfield (ref := "WaysAtlasModel") (Or.inl ⟨rfl, by decide⟩) dX9_plan_97 (Or.inl ⟨q1972, (Or.inl rfl)⟩) xh57) rfl (xcP (xok_iload dX9_plan_100) rfl (xcP (xok_iastore dX9_plan_102) rfl (xcP (xok_aload_n dX9_plan_103 rfl) rfl (xcP (xok_dup dX9_plan_104) rfl (xcP (xok_getfield (ref := "WaysAtlasModel") (Or.inl ⟨rfl, by decide⟩) dX9_plan_105 (Or.inl ⟨q1972, (Or.inl rfl)⟩) xh57) rfl (xcP (xok_iconst dX9_plan_108 rfl) rfl (xcP (xok_iadd dX9_plan_109) rfl (xcP (xok_putfield (ref := "WaysAtlasModel") (Or.inl ⟨rfl, by decide, rfl⟩) dX9_plan_110 (Or.inl ⟨q1972, (Or.inl rfl)⟩) (Or.inl rfl) xh57) rfl (xcP (xok_aload_n dX9_plan_113 rfl) rfl (xcP (xok_getfield (ref := "WaysAtlasModel") (Or.inl ⟨rfl, by decide⟩) dX9_plan_114 (Or.inl ⟨q1972, (Or.inl rfl)⟩) xh57) rfl (xcR ⟨dX9_plan_117, rfl⟩))))))))))))))))))))))))))))))))
theorem okM_X9_plan : XOkM xms rX9_plan := xokM0 (List.forall_mem_cons.mpr ⟨⟨rfl, okX9_plan_0⟩, List.forall_mem_cons.mpr ⟨⟨rfl, okX9_plan_48⟩, List.forall_mem_cons.mpr ⟨⟨rfl, okX9_plan_50⟩, List.forall_mem_cons.mpr ⟨⟨rfl, okX9_plan_62⟩, fun _ h => nomatch h⟩⟩⟩⟩) (xokH0 rfl (fun _ _ => rfl)) (by decide +kernel) (by decide)
abbrev cX9_isStatement : ByteArray := prog_36_method_56_code
def dkwX9_isStatement_1 : List UInt8 := [153, 0, 7, 4, 167, 0, 4, 3, 172]
abbrev dktX9_isStatement_1 : List UInt8 := dkwX9_isStatement_1 ++ []
def dkwX9_isStatement_0 : List UInt8 := [42, 180, 1, 194, 153, 0, 26, 27, 3, 42, 180, 0, 63, 42, 180, 0, 235, 46, 4, 100, 184, 0, 239]
abbrev dktX9_isStatement_0 : List UInt8 := dkwX9_isStatement_0 ++ dktX9_isStatement_1
theorem dksX9_isStatement_0 : cX9_isStatement.data.toList.drop 0 = dktX9_isStatement_0 := by decide +kernel
theorem dksX9_isStatement_1 : cX9_isStatement.data.toList.drop 23 = dktX9_isStatement_1 := dk_seg dksX9_isStatement_0 23 rfl rfl
theorem dX9_isStatement_0 : decode cX9_isStatement 0 = .ok (.aload_n 0, 1) := dk_42 (dk_at dksX9_isStatement_0 0 rfl rfl)
theorem dX9_isStatement_1 : decode cX9_isStatement 1 = .ok (.getfield 450, 3) := dk_180 1 194 (dk_at dksX9_isStatement_0 1 rfl rfl)
theorem dX9_isStatement_4 : decode cX9_isStatement 4 = .ok (.ifCond .eq 26, 3) := dk_153 0 26 (dk_at dksX9_isStatement_0 4 rfl rfl)
theorem dX9_isStatement_7 : decode cX9_isStatement 7 = .ok (.iload_n 1, 1) := dk_27 (dk_at dksX9_isStatement_0 7 rfl rfl)
theorem dX9_isStatement_8 : decode cX9_isStatement 8 = .ok (.iconst 0, 1) := dk_3 (dk_at dksX9_isStatement_0 8 rfl rfl)
theorem dX9_isStatement_9 : decode cX9_isStatement 9 = .ok (.aload_n 0, 1) := dk_42 (dk_at dksX9_isStatement_0 9 rfl rfl)
theorem dX9_isStatement_10 : decode cX9_isStatement 10 = .ok (.getfield 63, 3) := dk_180 0 63 (dk_at dksX9_isStatement_0 10 rfl rfl)
theorem dX9_isStatement_13 : decode cX9_isStatement 13 = .ok (.aload_n 0, 1) := dk_42 (dk_at dksX9_isStatement_0 13 rfl rfl)
theorem dX9_isStatement_14 : decode cX9_isStatement 14 = .ok (.getfield 235, 3) := dk_180 0 235 (dk_at dksX9_isStatement_0 14 rfl rfl)
theorem dX9_isStatement_17 : decode cX9_isStatement 17 = .ok (.iaload, 1) := dk_46 (dk_at dksX9_isStatement_0 17 rfl rfl)
theorem dX9_isStatement_18 : decode cX9_isStatement 18 = .ok (.iconst 1, 1) := dk_4 (dk_at dksX9_isStatement_0 18 rfl rfl)
theorem dX9_isStatement_19 : decode cX9_isStatement 19 = .ok (.isub, 1) := dk_100 (dk_at dksX9_isStatement_0 19 rfl rfl)
theorem dX9_isStatement_20 : decode cX9_isStatement 20 = .ok (.invokestatic 239, 3) := dk_184 0 239 (dk_at dksX9_isStatement_0 20 rfl rfl)
theorem dX9_isStatement_23 : decode cX9_isStatement 23 = .ok (.ifCond .eq 7, 3) := dk_153 0 7 (dk_at dksX9_isStatement_1 0 rfl rfl)
theorem dX9_isStatement_26 : decode cX9_isStatement 26 = .ok (.iconst 1, 1) := dk_4 (dk_at dksX9_isStatement_1 3 rfl rfl)
theorem dX9_isStatement_27 : decode cX9_isStatement 27 = .ok (.goto 4, 3) := dk_167 0 4 (dk_at dksX9_isStatement_1 4 rfl rfl)
theorem dX9_isStatement_30 : decode cX9_isStatement 30 = .ok (.iconst 0, 1) := dk_3 (dk_at dksX9_isStatement_1 7 rfl rfl)
theorem dX9_isStatement_31 : decode cX9_isStatement 31 = .ok (.ireturn, 1) := dk_172 (dk_at dksX9_isStatement_1 8 rfl rfl)
theorem okX9_isStatement_0 : XOkL xms rX9_isStatement bX9_isStatement_0 := xcP (xok_aload_n dX9_isStatement_0 rfl) rfl (xcP (xok_getfield (ref := "WaysAtlasModel") (Or.inl ⟨rfl, by decide⟩) dX9_isStatement_1 (Or.inl ⟨q1939, (Or.inl rfl)⟩) xh46) rfl (xcP (xok_ifeq dX9_isStatement_4 (by decide)) rfl (xcP (xok_iload_n dX9_isStatement_7 rfl) rfl (xcP (xok_iconst dX9_isStatement_8 rfl) rfl (xcP (xok_aload_n dX9_isStatement_9 rfl) rfl (xcP (xok_getfield (ref := "WaysAtlasModel") (Or.inr ⟨rfl, by decide⟩) dX9_isStatement_10 (Or.inl ⟨q1941, (Or.inl rfl)⟩) xh1060) rfl (xcP (xok_aload_n dX9_isStatement_13 rfl) rfl (xcP (xok_getfield (ref := "WaysAtlasModel") (Or.inl ⟨rfl, by decide⟩) dX9_isStatement_14 (Or.inl ⟨q1937, (Or.inl rfl)⟩) xh44) rfl (xcP (xok_iaload dX9_isStatement_17) rfl (xcP (xok_iconst dX9_isStatement_18 rfl) rfl (xcP (xok_isub dX9_isStatement_19) rfl (xcC0 (xokc_S xm99 rfl dX9_isStatement_20 q2224 q2225 q149 q2226 (by decide +kernel)) rfl (xcP (xok_ifeq dX9_isStatement_23 (by decide)) rfl (xcP (xok_iconst dX9_isStatement_26 rfl) rfl (xcP (xok_goto dX9_isStatement_27 (by decide)) rfl trivial)))))))))))))))
theorem okX9_isStatement_30 : XOkL xms rX9_isStatement bX9_isStatement_30 := xcP (xok_iconst dX9_isStatement_30 rfl) rfl (xcP xok_fal rfl trivial)
theorem okX9_isStatement_31 : XOkL xms rX9_isStatement bX9_isStatement_31 := xcR ⟨dX9_isStatement_31, rfl⟩
theorem okM_X9_isStatement : XOkM xms rX9_isStatement := xokM0 (List.forall_mem_cons.mpr ⟨⟨rfl, okX9_isStatement_0⟩, List.forall_mem_cons.mpr ⟨⟨rfl, okX9_isStatement_30⟩, List.forall_mem_cons.mpr ⟨⟨rfl, okX9_isStatement_31⟩, fun _ h => nomatch h⟩⟩⟩) (xokH0 rfl (fun _ _ => rfl)) (by decide +kernel) (by decide)
abbrev cX9_hasPart : ByteArray := prog_36_method_57_code
def dkwX9_hasPart_2 : List UInt8 := [4, 182, 1, 200, 96, 184, 0, 239, 153, 0, 7, 4, 167, 0, 4, 3, 172]
abbrev dktX9_hasPart_2 : List UInt8 := dkwX9_hasPart_2 ++ []
def dkwX9_hasPart_1 : List UInt8 := [16, 17, 160, 0, 37, 28, 4, 42, 27, 4, 182, 1, 200, 184, 0, 239, 154, 0, 19, 28, 7, 6, 42, 27]
abbrev dktX9_hasPart_1 : List UInt8 := dkwX9_hasPart_1 ++ dktX9_hasPart_2
def dkwX9_hasPart_0 : List UInt8 := [42, 27, 3, 182, 1, 200, 62, 28, 154, 0, 15, 29, 154, 0, 7, 4, 167, 0, 48, 3, 167, 0, 44, 29]
abbrev dktX9_hasPart_0 : List UInt8 := dkwX9_hasPart_0 ++ dktX9_hasPart_1
theorem dksX9_hasPart_0 : cX9_hasPart.data.toList.drop 0 = dktX9_hasPart_0 := by decide +kernel
theorem dksX9_hasPart_1 : cX9_hasPart.data.toList.drop 24 = dktX9_hasPart_1 := dk_seg dksX9_hasPart_0 24 rfl rfl
theorem dksX9_hasPart_2 : cX9_hasPart.data.toList.drop 48 = dktX9_hasPart_2 := dk_seg dksX9_hasPart_1 24 rfl rfl
theorem dX9_hasPart_0 : decode cX9_hasPart 0 = .ok (.aload_n 0, 1) := dk_42 (dk_at dksX9_hasPart_0 0 rfl rfl)
theorem dX9_hasPart_1 : decode cX9_hasPart 1 = .ok (.iload_n 1, 1) := dk_27 (dk_at dksX9_hasPart_0 1 rfl rfl)
theorem dX9_hasPart_2 : decode cX9_hasPart 2 = .ok (.iconst 0, 1) := dk_3 (dk_at dksX9_hasPart_0 2 rfl rfl)
theorem dX9_hasPart_3 : decode cX9_hasPart 3 = .ok (.invokevirtual 456, 3) := dk_182 1 200 (dk_at dksX9_hasPart_0 3 rfl rfl)
theorem dX9_hasPart_6 : decode cX9_hasPart 6 = .ok (.istore_n 3, 1) := dk_62 (dk_at dksX9_hasPart_0 6 rfl rfl)
theorem dX9_hasPart_7 : decode cX9_hasPart 7 = .ok (.iload_n 2, 1) := dk_28 (dk_at dksX9_hasPart_0 7 rfl rfl)
theorem dX9_hasPart_8 : decode cX9_hasPart 8 = .ok (.ifCond .ne 15, 3) := dk_154 0 15 (dk_at dksX9_hasPart_0 8 rfl rfl)
theorem dX9_hasPart_11 : decode cX9_hasPart 11 = .ok (.iload_n 3, 1) := dk_29 (dk_at dksX9_hasPart_0 11 rfl rfl)
theorem dX9_hasPart_12 : decode cX9_hasPart 12 = .ok (.ifCond .ne 7, 3) := dk_154 0 7 (dk_at dksX9_hasPart_0 12 rfl rfl)
theorem dX9_hasPart_15 : decode cX9_hasPart 15 = .ok (.iconst 1, 1) := dk_4 (dk_at dksX9_hasPart_0 15 rfl rfl)
theorem dX9_hasPart_16 : decode cX9_hasPart 16 = .ok (.goto 48, 3) := dk_167 0 48 (dk_at dksX9_hasPart_0 16 rfl rfl)
theorem dX9_hasPart_19 : decode cX9_hasPart 19 = .ok (.iconst 0, 1) := dk_3 (dk_at dksX9_hasPart_0 19 rfl rfl)
theorem dX9_hasPart_20 : decode cX9_hasPart 20 = .ok (.goto 44, 3) := dk_167 0 44 (dk_at dksX9_hasPart_0 20 rfl rfl)
theorem dX9_hasPart_23 : decode cX9_hasPart 23 = .ok (.iload_n 3, 1) := dk_29 (dk_at dksX9_hasPart_0 23 rfl rfl)
theorem dX9_hasPart_24 : decode cX9_hasPart 24 = .ok (.bipush 17, 2) := dk_16 17 (dk_at dksX9_hasPart_1 0 rfl rfl)
theorem dX9_hasPart_26 : decode cX9_hasPart 26 = .ok (.if_icmp .ne 37, 3) := dk_160 0 37 (dk_at dksX9_hasPart_1 2 rfl rfl)
theorem dX9_hasPart_29 : decode cX9_hasPart 29 = .ok (.iload_n 2, 1) := dk_28 (dk_at dksX9_hasPart_1 5 rfl rfl)
theorem dX9_hasPart_30 : decode cX9_hasPart 30 = .ok (.iconst 1, 1) := dk_4 (dk_at dksX9_hasPart_1 6 rfl rfl)
theorem dX9_hasPart_31 : decode cX9_hasPart 31 = .ok (.aload_n 0, 1) := dk_42 (dk_at dksX9_hasPart_1 7 rfl rfl)
theorem dX9_hasPart_32 : decode cX9_hasPart 32 = .ok (.iload_n 1, 1) := dk_27 (dk_at dksX9_hasPart_1 8 rfl rfl)
theorem dX9_hasPart_33 : decode cX9_hasPart 33 = .ok (.iconst 1, 1) := dk_4 (dk_at dksX9_hasPart_1 9 rfl rfl)
theorem dX9_hasPart_34 : decode cX9_hasPart 34 = .ok (.invokevirtual 456, 3) := dk_182 1 200 (dk_at dksX9_hasPart_1 10 rfl rfl)
theorem dX9_hasPart_37 : decode cX9_hasPart 37 = .ok (.invokestatic 239, 3) := dk_184 0 239 (dk_at dksX9_hasPart_1 13 rfl rfl)
theorem dX9_hasPart_40 : decode cX9_hasPart 40 = .ok (.ifCond .ne 19, 3) := dk_154 0 19 (dk_at dksX9_hasPart_1 16 rfl rfl)
theorem dX9_hasPart_43 : decode cX9_hasPart 43 = .ok (.iload_n 2, 1) := dk_28 (dk_at dksX9_hasPart_1 19 rfl rfl)
theorem dX9_hasPart_44 : decode cX9_hasPart 44 = .ok (.iconst 4, 1) := dk_7 (dk_at dksX9_hasPart_1 20 rfl rfl)
theorem dX9_hasPart_45 : decode cX9_hasPart 45 = .ok (.iconst 3, 1) := dk_6 (dk_at dksX9_hasPart_1 21 rfl rfl)
theorem dX9_hasPart_46 : decode cX9_hasPart 46 = .ok (.aload_n 0, 1) := dk_42 (dk_at dksX9_hasPart_1 22 rfl rfl)
theorem dX9_hasPart_47 : decode cX9_hasPart 47 = .ok (.iload_n 1, 1) := dk_27 (dk_at dksX9_hasPart_1 23 rfl rfl)
theorem dX9_hasPart_48 : decode cX9_hasPart 48 = .ok (.iconst 1, 1) := dk_4 (dk_at dksX9_hasPart_2 0 rfl rfl)
theorem dX9_hasPart_49 : decode cX9_hasPart 49 = .ok (.invokevirtual 456, 3) := dk_182 1 200 (dk_at dksX9_hasPart_2 1 rfl rfl)
theorem dX9_hasPart_52 : decode cX9_hasPart 52 = .ok (.iadd, 1) := dk_96 (dk_at dksX9_hasPart_2 4 rfl rfl)
theorem dX9_hasPart_53 : decode cX9_hasPart 53 = .ok (.invokestatic 239, 3) := dk_184 0 239 (dk_at dksX9_hasPart_2 5 rfl rfl)
theorem dX9_hasPart_56 : decode cX9_hasPart 56 = .ok (.ifCond .eq 7, 3) := dk_153 0 7 (dk_at dksX9_hasPart_2 8 rfl rfl)
theorem dX9_hasPart_59 : decode cX9_hasPart 59 = .ok (.iconst 1, 1) := dk_4 (dk_at dksX9_hasPart_2 11 rfl rfl)
theorem dX9_hasPart_60 : decode cX9_hasPart 60 = .ok (.goto 4, 3) := dk_167 0 4 (dk_at dksX9_hasPart_2 12 rfl rfl)
theorem dX9_hasPart_63 : decode cX9_hasPart 63 = .ok (.iconst 0, 1) := dk_3 (dk_at dksX9_hasPart_2 15 rfl rfl)
theorem dX9_hasPart_64 : decode cX9_hasPart 64 = .ok (.ireturn, 1) := dk_172 (dk_at dksX9_hasPart_2 16 rfl rfl)
theorem okX9_hasPart_0 : XOkL xms rX9_hasPart bX9_hasPart_0 := xcP (xok_aload_n dX9_hasPart_0 rfl) rfl (xcP (xok_iload_n dX9_hasPart_1 rfl) rfl (xcP (xok_iconst dX9_hasPart_2 rfl) rfl (xcC0 (xokc_list (List.forall_mem_cons.mpr ⟨xokc_V (r := (RX9, TX9, 96)) xm153 (List.mem_of_getElem? (i := 9) rfl) (by decide) rfl dX9_hasPart_3 q2441 q2443 qs100 q149 q2444 (by decide +kernel), fun _ h => nomatch h⟩)) rfl (xcP (xok_istore_n dX9_hasPart_6 rfl) rfl (xcP (xok_iload_n dX9_hasPart_7 rfl) rfl (xcP (xok_ifne dX9_hasPart_8 (by decide)) rfl (xcP (xok_iload_n dX9_hasPart_11 rfl) rfl (xcP (xok_ifne dX9_hasPart_12 (by decide)) rfl (xcP (xok_iconst dX9_hasPart_15 rfl) rfl (xcP (xok_goto dX9_hasPart_16 (by decide)) rfl trivial))))))))))
theorem okX9_hasPart_19 : XOkL xms rX9_hasPart bX9_hasPart_19 := xcP (xok_iconst dX9_hasPart_19 rfl) rfl (xcP (xok_goto dX9_hasPart_20 (by decide)) rfl trivial)
theorem okX9_hasPart_23 : XOkL xms rX9_hasPart bX9_hasPart_23 := xcP (xok_iload_n dX9_hasPart_23 rfl) rfl (xcP (xok_bipush dX9_hasPart_24 rfl) rfl (xcP (xok_icmpne dX9_hasPart_26 (by decide)) rfl (xcP (xok_iload_n dX9_hasPart_29 rfl) rfl (xcP (xok_iconst dX9_hasPart_30 rfl) rfl (xcP (xok_aload_n dX9_hasPart_31 rfl) rfl (xcP (xok_iload_n dX9_hasPart_32 rfl) rfl (xcP (xok_iconst dX9_hasPart_33 rfl) rfl (xcC0 (xokc_list (List.forall_mem_cons.mpr ⟨xokc_V (r := (RX9, TX9, 96)) xm153 (List.mem_of_getElem? (i := 9) rfl) (by decide) rfl dX9_hasPart_34 q2441 q2443 qs100 q149 q2444 (by decide +kernel), fun _ h => nomatch h⟩)) rfl (xcC0 (xokc_S xm99 rfl dX9_hasPart_37 q2224 q2225 q149 q2226 (by decide +kernel)) rfl (xcP (xok_ifne dX9_hasPart_40 (by decide)) rfl (xcP (xok_iload_n dX9_hasPart_43 rfl) rfl (xcP (xok_iconst dX9_hasPart_44 rfl) rfl (xcP (xok_iconst dX9_hasPart_45 rfl) rfl (xcP (xok_aload_n dX9_hasPart_46 rfl) rfl (xcP (xok_iload_n dX9_hasPart_47 rfl) rfl (xcP (xok_iconst dX9_hasPart_48 rfl) rfl (xcC0 (xokc_list (List.forall_mem_cons.mpr ⟨xokc_V (r := (RX9, TX9, 96)) xm153 (List.mem_of_getElem? (i := 9) rfl) (by decide) rfl dX9_hasPart_49 q2441 q2443 qs100 q149 q2444 (by decide +kernel), fun _ h => nomatch h⟩)) rfl (xcP (xok_iadd dX9_hasPart_52) rfl (xcC0 (xokc_S xm99 rfl dX9_hasPart_53 q2224 q2225 q149 q2226 (by decide +kernel)) rfl (xcP (xok_ifeq dX9_hasPart_56 (by decide)) rfl (xcP xok_fal rfl trivial)))))))))))))))))))))
theorem okX9_hasPart_59 : XOkL xms rX9_hasPart bX9_hasPart_59 := xcP (xok_iconst dX9_hasPart_59 rfl) rfl (xcP (xok_goto dX9_hasPart_60 (by decide)) rfl trivial)
theorem okX9_hasPart_63 : XOkL xms rX9_hasPart bX9_hasPart_63 := xcP (xok_iconst dX9_hasPart_63 rfl) rfl (xcP xok_fal rfl trivial)
theorem okX9_hasPart_64 : XOkL xms rX9_hasPart bX9_hasPart_64 := xcR ⟨dX9_hasPart_64, rfl⟩
theorem okM_X9_hasPart : XOkM xms rX9_hasPart := xokM0 (List.forall_mem_cons.mpr ⟨⟨rfl, okX9_hasPart_0⟩, List.forall_mem_cons.mpr ⟨⟨rfl, okX9_hasPart_19⟩, List.forall_mem_cons.mpr ⟨⟨rfl, okX9_hasPart_23⟩, List.forall_mem_cons.mpr ⟨⟨rfl, okX9_hasPart_59⟩, List.forall_mem_cons.mpr ⟨⟨rfl, okX9_hasPart_63⟩, List.forall_mem_cons.mpr ⟨⟨rfl, okX9_hasPart_64⟩, fun _ h => nomatch h⟩⟩⟩⟩⟩⟩) (xokH0 rfl (fun _ _ => rfl)) (by decide +kernel) (by decide)
abbrev cX9_get : ByteArray := prog_36_method_15_code
def dkwX9_get_0 : List UInt8 := [42, 180, 0, 59, 17, 5, 0, 42, 180, 0, 235, 104, 16, 16, 27, 104, 96, 28, 96, 46, 172]
abbrev dktX9_get_0 : List UInt8 := dkwX9_get_0 ++ []
theorem dksX9_get_0 : cX9_get.data.toList.drop 0 = dktX9_get_0 := by decide +kernel
theorem dX9_get_0 : decode cX9_get 0 = .ok (.aload_n 0, 1) := dk_42 (dk_at dksX9_get_0 0 rfl rfl)
theorem dX9_get_1 : decode cX9_get 1 = .ok (.getfield 59, 3) := dk_180 0 59 (dk_at dksX9_get_0 1 rfl rfl)
theorem dX9_get_4 : decode cX9_get 4 = .ok (.sipush 1280, 3) := dk_17 5 0 (dk_at dksX9_get_0 4 rfl rfl)
theorem dX9_get_7 : decode cX9_get 7 = .ok (.aload_n 0, 1) := dk_42 (dk_at dksX9_get_0 7 rfl rfl)
theorem dX9_get_8 : decode cX9_get 8 = .ok (.getfield 235, 3) := dk_180 0 235 (dk_at dksX9_get_0 8 rfl rfl)
theorem dX9_get_11 : decode cX9_get 11 = .ok (.imul, 1) := dk_104 (dk_at dksX9_get_0 11 rfl rfl)
theorem dX9_get_12 : decode cX9_get 12 = .ok (.bipush 16, 2) := dk_16 16 (dk_at dksX9_get_0 12 rfl rfl)
theorem dX9_get_14 : decode cX9_get 14 = .ok (.iload_n 1, 1) := dk_27 (dk_at dksX9_get_0 14 rfl rfl)
theorem dX9_get_15 : decode cX9_get 15 = .ok (.imul, 1) := dk_104 (dk_at dksX9_get_0 15 rfl rfl)
theorem dX9_get_16 : decode cX9_get 16 = .ok (.iadd, 1) := dk_96 (dk_at dksX9_get_0 16 rfl rfl)
theorem dX9_get_17 : decode cX9_get 17 = .ok (.iload_n 2, 1) := dk_28 (dk_at dksX9_get_0 17 rfl rfl)
theorem dX9_get_18 : decode cX9_get 18 = .ok (.iadd, 1) := dk_96 (dk_at dksX9_get_0 18 rfl rfl)
theorem dX9_get_19 : decode cX9_get 19 = .ok (.iaload, 1) := dk_46 (dk_at dksX9_get_0 19 rfl rfl)
theorem dX9_get_20 : decode cX9_get 20 = .ok (.ireturn, 1) := dk_172 (dk_at dksX9_get_0 20 rfl rfl)
theorem okX9_get_0 : XOkL xms rX9_get bX9_get_0 := xcP (xok_aload_n dX9_get_0 rfl) rfl (xcP (xok_getfield (ref := "WaysAtlasModel") (Or.inr ⟨rfl, by decide⟩) dX9_get_1 (Or.inl ⟨q1940, (Or.inl rfl)⟩) xh1059) rfl (xcP (xok_sipush dX9_get_4 rfl) rfl (xcP (xok_aload_n dX9_get_7 rfl) rfl (xcP (xok_getfield (ref := "WaysAtlasModel") (Or.inl ⟨rfl, by decide⟩) dX9_get_8 (Or.inl ⟨q1937, (Or.inl rfl)⟩) xh44) rfl (xcP (xok_imul dX9_get_11) rfl (xcP (xok_bipush dX9_get_12 rfl) rfl (xcP (xok_iload_n dX9_get_14 rfl) rfl (xcP (xok_imul dX9_get_15) rfl (xcP (xok_iadd dX9_get_16) rfl (xcP (xok_iload_n dX9_get_17 rfl) rfl (xcP (xok_iadd dX9_get_18) rfl (xcP (xok_iaload dX9_get_19) rfl (xcR ⟨dX9_get_20, rfl⟩)))))))))))))
theorem okM_X9_get : XOkM xms rX9_get := xokM0 (List.forall_mem_cons.mpr ⟨⟨rfl, okX9_get_0⟩, fun _ h => nomatch h⟩) (xokH0 rfl (fun _ _ => rfl)) (by decide +kernel) (by decide)
abbrev cX9_clear : ByteArray := prog_36_method_59_code
def dkwX9_clear_0 : List UInt8 := [42, 180, 1, 197, 60, 42, 3, 181, 1, 197, 27, 172]
abbrev dktX9_clear_0 : List UInt8 := dkwX9_clear_0 ++ []
theorem dksX9_clear_0 : cX9_clear.data.toList.drop 0 = dktX9_clear_0 := by decide +kernel
theorem dX9_clear_0 : decode cX9_clear 0 = .ok (.aload_n 0, 1) := dk_42 (dk_at dksX9_clear_0 0 rfl rfl)
theorem dX9_clear_1 : decode cX9_clear 1 = .ok (.getfield 453, 3) := dk_180 1 197 (dk_at dksX9_clear_0 1 rfl rfl)
theorem dX9_clear_4 : decode cX9_clear 4 = .ok (.istore_n 1, 1) := dk_60 (dk_at dksX9_clear_0 4 rfl rfl)
theorem dX9_clear_5 : decode cX9_clear 5 = .ok (.aload_n 0, 1) := dk_42 (dk_at dksX9_clear_0 5 rfl rfl)
theorem dX9_clear_6 : decode cX9_clear 6 = .ok (.iconst 0, 1) := dk_3 (dk_at dksX9_clear_0 6 rfl rfl)
theorem dX9_clear_7 : decode cX9_clear 7 = .ok (.putfield 453, 3) := dk_181 1 197 (dk_at dksX9_clear_0 7 rfl rfl)
theorem dX9_clear_10 : decode cX9_clear 10 = .ok (.iload_n 1, 1) := dk_27 (dk_at dksX9_clear_0 10 rfl rfl)
theorem dX9_clear_11 : decode cX9_clear 11 = .ok (.ireturn, 1) := dk_172 (dk_at dksX9_clear_0 11 rfl rfl)
theorem okX9_clear_0 : XOkL xms rX9_clear bX9_clear_0 := xcP (xok_aload_n dX9_clear_0 rfl) rfl (xcP (xok_getfield (ref := "WaysAtlasModel") (Or.inl ⟨rfl, by decide⟩) dX9_clear_1 (Or.inl ⟨q1972, (Or.inl rfl)⟩) xh57) rfl (xcP (xok_istore_n dX9_clear_4 rfl) rfl (xcP (xok_aload_n dX9_clear_5 rfl) rfl (xcP (xok_iconst dX9_clear_6 rfl) rfl (xcP (xok_putfield (ref := "WaysAtlasModel") (Or.inl ⟨rfl, by decide, rfl⟩) dX9_clear_7 (Or.inl ⟨q1972, (Or.inl rfl)⟩) (Or.inl rfl) xh57) rfl (xcP (xok_iload_n dX9_clear_10 rfl) rfl (xcR ⟨dX9_clear_11, rfl⟩)))))))
theorem okM_X9_clear : XOkM xms rX9_clear := xokM0 (List.forall_mem_cons.mpr ⟨⟨rfl, okX9_clear_0⟩, fun _ h => nomatch h⟩) (xokH0 rfl (fun _ _ => rfl)) (by decide +kernel) (by decide)
abbrev cX9_handler : ByteArray := prog_36_method_61_code
def dkwX9_handler_6 : List UInt8 := [54, 4, 132, 5, 1, 167, 255, 191, 21, 4, 153, 0, 7, 4, 167, 0, 4, 3, 172]
abbrev dktX9_handler_6 : List UInt8 := dkwX9_handler_6 ++ []
def dkwX9_handler_5 : List UInt8 := [29, 21, 5, 96, 46, 42, 180, 0, 78, 29, 27, 96, 46, 182, 1, 210, 153, 0, 7, 4, 167, 0, 4, 3]
abbrev dktX9_handler_5 : List UInt8 := dkwX9_handler_5 ++ dktX9_handler_6
def dkwX9_handler_4 : List UInt8 := [180, 0, 75, 29, 21, 5, 96, 46, 42, 180, 0, 75, 29, 27, 96, 46, 160, 0, 31, 42, 42, 180, 0, 78]
abbrev dktX9_handler_4 : List UInt8 := dkwX9_handler_4 ++ dktX9_handler_5
def dkwX9_handler_3 : List UInt8 := [27, 96, 46, 172, 3, 54, 4, 3, 54, 5, 21, 5, 27, 162, 0, 65, 21, 4, 154, 0, 47, 42]
abbrev dktX9_handler_3 : List UInt8 := dkwX9_handler_3 ++ dktX9_handler_4
def dkwX9_handler_2 : List UInt8 := [5, 162, 0, 27, 28, 154, 0, 14, 42, 180, 0, 75, 29, 27, 96, 46, 167, 0, 11, 42, 180, 0, 78, 29]
abbrev dktX9_handler_2 : List UInt8 := dkwX9_handler_2 ++ dktX9_handler_3
def dkwX9_handler_1 : List UInt8 := [153, 0, 12, 28, 3, 5, 184, 0, 239, 154, 0, 5, 2, 172, 17, 0, 160, 42, 180, 0, 235, 104, 62, 28]
abbrev dktX9_handler_1 : List UInt8 := dkwX9_handler_1 ++ dktX9_handler_2
def dkwX9_handler_0 : List UInt8 := [42, 180, 1, 194, 153, 0, 31, 27, 3, 42, 180, 0, 84, 42, 180, 0, 235, 46, 4, 100, 184, 0, 239]
abbrev dktX9_handler_0 : List UInt8 := dkwX9_handler_0 ++ dktX9_handler_1
theorem dksX9_handler_0 : cX9_handler.data.toList.drop 0 = dktX9_handler_0 := by decide +kernel
theorem dksX9_handler_1 : cX9_handler.data.toList.drop 23 = dktX9_handler_1 := dk_seg dksX9_handler_0 23 rfl rfl
theorem dksX9_handler_2 : cX9_handler.data.toList.drop 47 = dktX9_handler_2 := dk_seg dksX9_handler_1 24 rfl rfl
theorem dksX9_handler_3 : cX9_handler.data.toList.drop 71 = dktX9_handler_3 := dk_seg dksX9_handler_2 24 rfl rfl
theorem dksX9_handler_4 : cX9_handler.data.toList.drop 93 = dktX9_handler_4 := dk_seg dksX9_handler_3 22 rfl rfl
theorem dksX9_handler_5 : cX9_handler.data.toList.drop 117 = dktX9_handler_5 := dk_seg dksX9_handler_4 24 rfl rfl
theorem dksX9_handler_6 : cX9_handler.data.toList.drop 141 = dktX9_handler_6 := dk_seg dksX9_handler_5 24 rfl rfl
theorem dX9_handler_0 : decode cX9_handler 0 = .ok (.aload_n 0, 1) := dk_42 (dk_at dksX9_handler_0 0 rfl rfl)
theorem dX9_handler_1 : decode cX9_handler 1 = .ok (.getfield 450, 3) := dk_180 1 194 (dk_at dksX9_handler_0 1 rfl rfl)
theorem dX9_handler_4 : decode cX9_handler 4 = .ok (.ifCond .eq 31, 3) := dk_153 0 31 (dk_at dksX9_handler_0 4 rfl rfl)
theorem dX9_handler_7 : decode cX9_handler 7 = .ok (.iload_n 1, 1) := dk_27 (dk_at dksX9_handler_0 7 rfl rfl)
theorem dX9_handler_8 : decode cX9_handler 8 = .ok (.iconst 0, 1) := dk_3 (dk_at dksX9_handler_0 8 rfl rfl)
theorem dX9_handler_9 : decode cX9_handler 9 = .ok (.aload_n 0, 1) := dk_42 (dk_at dksX9_handler_0 9 rfl rfl)
theorem dX9_handler_10 : decode cX9_handler 10 = .ok (.getfield 84, 3) := dk_180 0 84 (dk_at dksX9_handler_0 10 rfl rfl)
theorem dX9_handler_13 : decode cX9_handler 13 = .ok (.aload_n 0, 1) := dk_42 (dk_at dksX9_handler_0 13 rfl rfl)
theorem dX9_handler_14 : decode cX9_handler 14 = .ok (.getfield 235, 3) := dk_180 0 235 (dk_at dksX9_handler_0 14 rfl rfl)
theorem dX9_handler_17 : decode cX9_handler 17 = .ok (.iaload, 1) := dk_46 (dk_at dksX9_handler_0 17 rfl rfl)
theorem dX9_handler_18 : decode cX9_handler 18 = .ok (.iconst 1, 1) := dk_4 (dk_at dksX9_handler_0 18 rfl rfl)
theorem dX9_handler_19 : decode cX9_handler 19 = .ok (.isub, 1) := dk_100 (dk_at dksX9_handler_0 19 rfl rfl)
theorem dX9_handler_20 : decode cX9_handler 20 = .ok (.invokestatic 239, 3) := dk_184 0 239 (dk_at dksX9_handler_0 20 rfl rfl)
theorem dX9_handler_23 : decode cX9_handler 23 = .ok (.ifCond .eq 12, 3) := dk_153 0 12 (dk_at dksX9_handler_1 0 rfl rfl)
theorem dX9_handler_26 : decode cX9_handler 26 = .ok (.iload_n 2, 1) := dk_28 (dk_at dksX9_handler_1 3 rfl rfl)
theorem dX9_handler_27 : decode cX9_handler 27 = .ok (.iconst 0, 1) := dk_3 (dk_at dksX9_handler_1 4 rfl rfl)
theorem dX9_handler_28 : decode cX9_handler 28 = .ok (.iconst 2, 1) := dk_5 (dk_at dksX9_handler_1 5 rfl rfl)
theorem dX9_handler_29 : decode cX9_handler 29 = .ok (.invokestatic 239, 3) := dk_184 0 239 (dk_at dksX9_handler_1 6 rfl rfl)
theorem dX9_handler_32 : decode cX9_handler 32 = .ok (.ifCond .ne 5, 3) := dk_154 0 5 (dk_at dksX9_handler_1 9 rfl rfl)
theorem dX9_handler_35 : decode cX9_handler 35 = .ok (.iconst (-1), 1) := dk_2 (dk_at dksX9_handler_1 12 rfl rfl)
theorem dX9_handler_36 : decode cX9_handler 36 = .ok (.ireturn, 1) := dk_172 (dk_at dksX9_handler_1 13 rfl rfl)
theorem dX9_handler_37 : decode cX9_handler 37 = .ok (.sipush 160, 3) := dk_17 0 160 (dk_at dksX9_handler_1 14 rfl rfl)
theorem dX9_handler_40 : decode cX9_handler 40 = .ok (.aload_n 0, 1) := dk_42 (dk_at dksX9_handler_1 17 rfl rfl)
theorem dX9_handler_41 : decode cX9_handler 41 = .ok (.getfield 235, 3) := dk_180 0 235 (dk_at dksX9_handler_1 18 rfl rfl)
theorem dX9_handler_44 : decode cX9_handler 44 = .ok (.imul, 1) := dk_104 (dk_at dksX9_handler_1 21 rfl rfl)
theorem dX9_handler_45 : decode cX9_handler 45 = .ok (.istore_n 3, 1) := dk_62 (dk_at dksX9_handler_1 22 rfl rfl)
theorem dX9_handler_46 : decode cX9_handler 46 = .ok (.iload_n 2, 1) := dk_28 (dk_at dksX9_handler_1 23 rfl rfl)
theorem dX9_handler_47 : decode cX9_handler 47 = .ok (.iconst 2, 1) := dk_5 (dk_at dksX9_handler_2 0 rfl rfl)
theorem dX9_handler_48 : decode cX9_handler 48 = .ok (.if_icmp .ge 27, 3) := dk_162 0 27 (dk_at dksX9_handler_2 1 rfl rfl)
theorem dX9_handler_51 : decode cX9_handler 51 = .ok (.iload_n 2, 1) := dk_28 (dk_at dksX9_handler_2 4 rfl rfl)
theorem dX9_handler_52 : decode cX9_handler 52 = .ok (.ifCond .ne 14, 3) := dk_154 0 14 (dk_at dksX9_handler_2 5 rfl rfl)
theorem dX9_handler_55 : decode cX9_handler 55 = .ok (.aload_n 0, 1) := dk_42 (dk_at dksX9_handler_2 8 rfl rfl)
theorem dX9_handler_56 : decode cX9_handler 56 = .ok (.getfield 75, 3) := dk_180 0 75 (dk_at dksX9_handler_2 9 rfl rfl)
theorem dX9_handler_59 : decode cX9_handler 59 = .ok (.iload_n 3, 1) := dk_29 (dk_at dksX9_handler_2 12 rfl rfl)
theorem dX9_handler_60 : decode cX9_handler 60 = .ok (.iload_n 1, 1) := dk_27 (dk_at dksX9_handler_2 13 rfl rfl)
theorem dX9_handler_61 : decode cX9_handler 61 = .ok (.iadd, 1) := dk_96 (dk_at dksX9_handler_2 14 rfl rfl)
theorem dX9_handler_62 : decode cX9_handler 62 = .ok (.iaload, 1) := dk_46 (dk_at dksX9_handler_2 15 rfl rfl)
theorem dX9_handler_63 : decode cX9_handler 63 = .ok (.goto 11, 3) := dk_167 0 11 (dk_at dksX9_handler_2 16 rfl rfl)
theorem dX9_handler_66 : decode cX9_handler 66 = .ok (.aload_n 0, 1) := dk_42 (dk_at dksX9_handler_2 19 rfl rfl)
theorem dX9_handler_67 : decode cX9_handler 67 = .ok (.getfield 78, 3) := dk_180 0 78 (dk_at dksX9_handler_2 20 rfl rfl)
theorem dX9_handler_70 : decode cX9_handler 70 = .ok (.iload_n 3, 1) := dk_29 (dk_at dksX9_handler_2 23 rfl rfl)
theorem dX9_handler_71 : decode cX9_handler 71 = .ok (.iload_n 1, 1) := dk_27 (dk_at dksX9_handler_3 0 rfl rfl)
theorem dX9_handler_72 : decode cX9_handler 72 = .ok (.iadd, 1) := dk_96 (dk_at dksX9_handler_3 1 rfl rfl)
theorem dX9_handler_73 : decode cX9_handler 73 = .ok (.iaload, 1) := dk_46 (dk_at dksX9_handler_3 2 rfl rfl)
theorem dX9_handler_74 : decode cX9_handler 74 = .ok (.ireturn, 1) := dk_172 (dk_at dksX9_handler_3 3 rfl rfl)
theorem dX9_handler_75 : decode cX9_handler 75 = .ok (.iconst 0, 1) := dk_3 (dk_at dksX9_handler_3 4 rfl rfl)
theorem dX9_handler_76 : decode cX9_handler 76 = .ok (.istore 4, 2) := dk_54 4 (dk_at dksX9_handler_3 5 rfl rfl)
theorem dX9_handler_78 : decode cX9_handler 78 = .ok (.iconst 0, 1) := dk_3 (dk_at dksX9_handler_3 7 rfl rfl)
theorem dX9_handler_79 : decode cX9_handler 79 = .ok (.istore 5, 2) := dk_54 5 (dk_at dksX9_handler_3 8 rfl rfl)
theorem dX9_handler_81 : decode cX9_handler 81 = .ok (.iload 5, 2) := dk_21 5 (dk_at dksX9_handler_3 10 rfl rfl)
theorem dX9_handler_83 : decode cX9_handler 83 = .ok (.iload_n 1, 1) := dk_27 (dk_at dksX9_handler_3 12 rfl rfl)
theorem dX9_handler_84 : decode cX9_handler 84 = .ok (.if_icmp .ge 65, 3) := dk_162 0 65 (dk_at dksX9_handler_3 13 rfl rfl)
theorem dX9_handler_87 : decode cX9_handler 87 = .ok (.iload 4, 2) := dk_21 4 (dk_at dksX9_handler_3 16 rfl rfl)
theorem dX9_handler_89 : decode cX9_handler 89 = .ok (.ifCond .ne 47, 3) := dk_154 0 47 (dk_at dksX9_handler_3 18 rfl rfl)
theorem dX9_handler_92 : decode cX9_handler 92 = .ok (.aload_n 0, 1) := dk_42 (dk_at dksX9_handler_3 21 rfl rfl)
theorem dX9_handler_93 : decode cX9_handler 93 = .ok (.getfield 75, 3) := dk_180 0 75 (dk_at dksX9_handler_4 0 rfl rfl)
theorem dX9_handler_96 : decode cX9_handler 96 = .ok (.iload_n 3, 1) := dk_29 (dk_at dksX9_handler_4 3 rfl rfl)
theorem dX9_handler_97 : decode cX9_handler 97 = .ok (.iload 5, 2) := dk_21 5 (dk_at dksX9_handler_4 4 rfl rfl)
theorem dX9_handler_99 : decode cX9_handler 99 = .ok (.iadd, 1) := dk_96 (dk_at dksX9_handler_4 6 rfl rfl)
theorem dX9_handler_100 : decode cX9_handler 100 = .ok (.iaload, 1) := dk_46 (dk_at dksX9_handler_4 7 rfl rfl)
theorem dX9_handler_101 : decode cX9_handler 101 = .ok (.aload_n 0, 1) := dk_42 (dk_at dksX9_handler_4 8 rfl rfl)
theorem dX9_handler_102 : decode cX9_handler 102 = .ok (.getfield 75, 3) := dk_180 0 75 (dk_at dksX9_handler_4 9 rfl rfl)
theorem dX9_handler_105 : decode cX9_handler 105 = .ok (.iload_n 3, 1) := dk_29 (dk_at dksX9_handler_4 12 rfl rfl)
theorem dX9_handler_106 : decode cX9_handler 106 = .ok (.iload_n 1, 1) := dk_27 (dk_at dksX9_handler_4 13 rfl rfl)
theorem dX9_handler_107 : decode cX9_handler 107 = .ok (.iadd, 1) := dk_96 (dk_at dksX9_handler_4 14 rfl rfl)
theorem dX9_handler_108 : decode cX9_handler 108 = .ok (.iaload, 1) := dk_46 (dk_at dksX9_handler_4 15 rfl rfl)
theorem dX9_handler_109 : decode cX9_handler 109 = .ok (.if_icmp .ne 31, 3) := dk_160 0 31 (dk_at dksX9_handler_4 16 rfl rfl)
theorem dX9_handler_112 : decode cX9_handler 112 = .ok (.aload_n 0, 1) := dk_42 (dk_at dksX9_handler_4 19 rfl rfl)
theorem dX9_handler_113 : decode cX9_handler 113 = .ok (.aload_n 0, 1) := dk_42 (dk_at dksX9_handler_4 20 rfl rfl)
theorem dX9_handler_114 : decode cX9_handler 114 = .ok (.getfield 78, 3) := dk_180 0 78 (dk_at dksX9_handler_4 21 rfl rfl)
theorem dX9_handler_117 : decode cX9_handler 117 = .ok (.iload_n 3, 1) := dk_29 (dk_at dksX9_handler_5 0 rfl rfl)
theorem dX9_handler_118 : decode cX9_handler 118 = .ok (.iload 5, 2) := dk_21 5 (dk_at dksX9_handler_5 1 rfl rfl)
theorem dX9_handler_120 : decode cX9_handler 120 = .ok (.iadd, 1) := dk_96 (dk_at dksX9_handler_5 3 rfl rfl)
theorem dX9_handler_121 : decode cX9_handler 121 = .ok (.iaload, 1) := dk_46 (dk_at dksX9_handler_5 4 rfl rfl)
theorem dX9_handler_122 : decode cX9_handler 122 = .ok (.aload_n 0, 1) := dk_42 (dk_at dksX9_handler_5 5 rfl rfl)
theorem dX9_handler_123 : decode cX9_handler 123 = .ok (.getfield 78, 3) := dk_180 0 78 (dk_at dksX9_handler_5 6 rfl rfl)
theorem dX9_handler_126 : decode cX9_handler 126 = .ok (.iload_n 3, 1) := dk_29 (dk_at dksX9_handler_5 9 rfl rfl)
theorem dX9_handler_127 : decode cX9_handler 127 = .ok (.iload_n 1, 1) := dk_27 (dk_at dksX9_handler_5 10 rfl rfl)
theorem dX9_handler_128 : decode cX9_handler 128 = .ok (.iadd, 1) := dk_96 (dk_at dksX9_handler_5 11 rfl rfl)
theorem dX9_handler_129 : decode cX9_handler 129 = .ok (.iaload, 1) := dk_46 (dk_at dksX9_handler_5 12 rfl rfl)
theorem dX9_handler_130 : decode cX9_handler 130 = .ok (.invokevirtual 466, 3) := dk_182 1 210 (dk_at dksX9_handler_5 13 rfl rfl)
theorem dX9_handler_133 : decode cX9_handler 133 = .ok (.ifCond .eq 7, 3) := dk_153 0 7 (dk_at dksX9_handler_5 16 rfl rfl)
theorem dX9_handler_136 : decode cX9_handler 136 = .ok (.iconst 1, 1) := dk_4 (dk_at dksX9_handler_5 19 rfl rfl)
theorem dX9_handler_137 : decode cX9_handler 137 = .ok (.goto 4, 3) := dk_167 0 4 (dk_at dksX9_handler_5 20 rfl rfl)
theorem dX9_handler_140 : decode cX9_handler 140 = .ok (.iconst 0, 1) := dk_3 (dk_at dksX9_handler_5 23 rfl rfl)
theorem dX9_handler_141 : decode cX9_handler 141 = .ok (.istore 4, 2) := dk_54 4 (dk_at dksX9_handler_6 0 rfl rfl)
theorem dX9_handler_143 : decode cX9_handler 143 = .ok (.iinc 5 1, 3) := dk_132 5 1 (dk_at dksX9_handler_6 2 rfl rfl)
theorem dX9_handler_146 : decode cX9_handler 146 = .ok (.goto (-65), 3) := dk_167 255 191 (dk_at dksX9_handler_6 5 rfl rfl)
theorem dX9_handler_149 : decode cX9_handler 149 = .ok (.iload 4, 2) := dk_21 4 (dk_at dksX9_handler_6 8 rfl rfl)
theorem dX9_handler_151 : decode cX9_handler 151 = .ok (.ifCond .eq 7, 3) := dk_153 0 7 (dk_at dksX9_handler_6 10 rfl rfl)
theorem dX9_handler_154 : decode cX9_handler 154 = .ok (.iconst 1, 1) := dk_4 (dk_at dksX9_handler_6 13 rfl rfl)
theorem dX9_handler_155 : decode cX9_handler 155 = .ok (.goto 4, 3) := dk_167 0 4 (dk_at dksX9_handler_6 14 rfl rfl)
theorem dX9_handler_158 : decode cX9_handler 158 = .ok (.iconst 0, 1) := dk_3 (dk_at dksX9_handler_6 17 rfl rfl)
theorem dX9_handler_159 : decode cX9_handler 159 = .ok (.ireturn, 1) := dk_172 (dk_at dksX9_handler_6 18 rfl rfl)
theorem okX9_handler_0 : XOkL xms rX9_handler bX9_handler_0 := xcP (xok_aload_n dX9_handler_0 rfl) rfl (xcP (xok_getfield (ref := "WaysAtlasModel") (Or.inl ⟨rfl, by decide⟩) dX9_handler_1 (Or.inl ⟨q1939, (Or.inl rfl)⟩) xh46) rfl (xcP (xok_ifeq dX9_handler_4 (by decide)) rfl (xcP (xok_iload_n dX9_handler_7 rfl) rfl (xcP (xok_iconst dX9_handler_8 rfl) rfl (xcP (xok_aload_n dX9_handler_9 rfl) rfl (xcP (xok_getfield (ref := "WaysAtlasModel") (Or.inr ⟨rfl, by decide⟩) dX9_handler_10 (Or.inl ⟨q1948, (Or.inl rfl)⟩) xh1067) rfl (xcP (xok_aload_n dX9_handler_13 rfl) rfl (xcP (xok_getfield (ref := "WaysAtlasModel") (Or.inl ⟨rfl, by decide⟩) dX9_handler_14 (Or.inl ⟨q1937, (Or.inl rfl)⟩) xh44) rfl (xcP (xok_iaload dX9_handler_17) rfl (xcP (xok_iconst dX9_handler_18 rfl) rfl (xcP (xok_isub dX9_handler_19) rfl (xcC0 (xokc_S xm99 rfl dX9_handler_20 q2224 q2225 q149 q2226 (by decide +kernel)) rfl (xcP (xok_ifeq dX9_handler_23 (by decide)) rfl (xcP (xok_iload_n dX9_handler_26 rfl) rfl (xcP (xok_iconst dX9_handler_27 rfl) rfl (xcP (xok_iconst dX9_handler_28 rfl) rfl (xcC0 (xokc_S xm99 rfl dX9_handler_29 q2224 q2225 q149 q2226 (by decide +kernel)) rfl (xcP (xok_ifne dX9_handler_32 (by decide)) rfl (xcP xok_fal rfl trivial)))))))))))))))))))
theorem okX9_handler_35 : XOkL xms rX9_handler bX9_handler_35 := xcP (xok_iconst dX9_handler_35 rfl) rfl (xcR ⟨dX9_handler_36, rfl⟩)
theorem okX9_handler_37 : XOkL xms rX9_handler bX9_handler_37 := xcP (xok_sipush dX9_handler_37 rfl) rfl (xcP (xok_aload_n dX9_handler_40 rfl) rfl (xcP (xok_getfield (ref := "WaysAtlasModel") (Or.inl ⟨rfl, by decide⟩) dX9_handler_41 (Or.inl ⟨q1937, (Or.inl rfl)⟩) xh44) rfl (xcP (xok_imul dX9_handler_44) rfl (xcP (xok_istore_n dX9_handler_45 rfl) rfl (xcP (xok_iload_n dX9_handler_46 rfl) rfl (xcP (xok_iconst dX9_handler_47 rfl) rfl (xcP (xok_icmpge dX9_handler_48 (by decide)) rfl (xcP (xok_iload_n dX9_handler_51 rfl) rfl (xcP (xok_ifne dX9_handler_52 (by decide)) rfl (xcP (xok_aload_n dX9_handler_55 rfl) rfl (xcP (xok_getfield (ref := "WaysAtlasModel") (Or.inr ⟨rfl, by decide⟩) dX9_handler_56 (Or.inl ⟨q1945, (Or.inl rfl)⟩) xh1064) rfl (xcP (xok_iload_n dX9_handler_59 rfl) rfl (xcP (xok_iload_n dX9_handler_60 rfl) rfl (xcP (xok_iadd dX9_handler_61) rfl (xcP (xok_iaload dX9_handler_62) rfl (xcP (xok_goto dX9_handler_63 (by decide)) rfl trivial))))))))))))))))
theorem okX9_handler_66 : XOkL xms rX9_handler bX9_handler_66 := xcP (xok_aload_n dX9_handler_66 rfl) rfl (xcP (xok_getfield (ref := "WaysAtlasModel") (Or.inr ⟨rfl, by decide⟩) dX9_handler_67 (Or.inl ⟨q1946, (Or.inl rfl)⟩) xh1065) rfl (xcP (xok_iload_n dX9_handler_70 rfl) rfl (xcP (xok_iload_n dX9_handler_71 rfl) rfl (xcP (xok_iadd dX9_handler_72) rfl (xcP (xok_iaload dX9_handler_73) rfl (xcP xok_fal rfl trivial))))))
theorem okX9_handler_74 : XOkL xms rX9_handler bX9_handler_74 := xcR ⟨dX9_handler_74, rfl⟩
theorem okX9_handler_75 : XOkL xms rX9_handler bX9_handler_75 := xcP (xok_iconst dX9_handler_75 rfl) rfl (xcP (xok_istore dX9_handler_76) rfl (xcP (xok_iconst dX9_handler_78 rfl) rfl (xcP (xok_istore dX9_handler_79) rfl (xcP xok_fal rfl trivial))))
theorem okX9_handler_81 : XOkL xms rX9_handler bX9_handler_81 := xcP (xok_iload dX9_handler_81) rfl (xcP (xok_iload_n dX9_handler_83 rfl) rfl (xcP (xok_icmpge dX9_handler_84 (by decide)) rfl (xcP (xok_iload dX9_handler_87) rfl (xcP (xok_ifne dX9_handler_89 (by decide)) rfl (xcP (xok_aload_n dX9_handler_92 rfl) rfl (xcP (xok_getfield (ref := "WaysAtlasModel") (Or.inr ⟨rfl, by decide⟩) dX9_handler_93 (Or.inl ⟨q1945, (Or.inl rfl)⟩) xh1064) rfl (xcP (xok_iload_n dX9_handler_96 rfl) rfl (xcP (xok_iload dX9_handler_97) rfl (xcP (xok_iadd dX9_handler_99) rfl (xcP (xok_iaload dX9_handler_100) rfl (xcP (xok_aload_n dX9_handler_101 rfl) rfl (xcP (xok_getfield (ref := "WaysAtlasModel") (Or.inr ⟨rfl, by decide⟩) dX9_handler_102 (Or.inl ⟨q1945, (Or.inl rfl)⟩) xh1064) rfl (xcP (xok_iload_n dX9_handler_105 rfl) rfl (xcP (xok_iload_n dX9_handler_106 rfl) rfl (xcP (xok_iadd dX9_handler_107) rfl (xcP (xok_iaload dX9_handler_108) rfl (xcP (xok_icmpne dX9_handler_109 (by decide)) rfl (xcP (xok_aload_n dX9_handler_112 rfl) rfl (xcP (xok_aload_n dX9_handler_113 rfl) rfl (xcP (xok_getfield (ref := "WaysAtlasModel") (Or.inr ⟨rfl, by decide⟩) dX9_handler_114 (Or.inl ⟨q1946, (Or.inl rfl)⟩) xh1065) rfl (xcP (xok_iload_n dX9_handler_117 rfl) rfl (xcP (xok_iload dX9_handler_118) rfl (xcP (xok_iadd dX9_handler_120) rfl (xcP (xok_iaload dX9_handler_121) rfl (xcP (xok_aload_n dX9_handler_122 rfl) rfl (xcP (xok_getfield (ref := "WaysAtlasModel") (Or.inr ⟨rfl, by decide⟩) dX9_handler_123 (Or.inl ⟨q1946, (Or.inl rfl)⟩) xh1065) rfl (xcP (xok_iload_n dX9_handler_126 rfl) rfl (xcP (xok_iload_n dX9_handler_127 rfl) rfl (xcP (xok_iadd dX9_handler_128) rfl (xcP (xok_iaload dX9_handler_129) rfl (xcC0 (xokc_list (List.forall_mem_cons.mpr ⟨xokc_V (r := (RX9, TX9, 96)) xm156 (List.mem_of_getElem? (i := 9) rfl) (by decide) rfl dX9_handler_130 q2453 q2455 qs101 q149 q2456 (by decide +kernel), fun _ h => nomatch h⟩)) rfl (xcP (xok_ifeq dX9_handler_133 (by decide)) rfl (xcP xok_fal rfl trivial)))))))))))))))))))))))))))))))))
theorem okX9_handler_136 : XOkL xms rX9_handler bX9_handler_136 := xcP (xok_iconst dX9_handler_136 rfl) rfl (xcP (xok_goto dX9_handler_137 (by decide)) rfl trivial)
theorem okX9_handler_140 : XOkL xms rX9_handler bX9_handler_140 := xcP (xok_iconst dX9_handler_140 rfl) rfl (xcP xok_fal rfl trivial)
theorem okX9_handler_141 : XOkL xms rX9_handler bX9_handler_141 := xcP (xok_istore dX9_handler_141) rfl (xcP (xok_iinc dX9_handler_143 rfl) rfl (xcP (xok_goto dX9_handler_146 (by decide)) rfl trivial))
theorem okX9_handler_149 : XOkL xms rX9_handler bX9_handler_149 := xcP (xok_iload dX9_handler_149) rfl (xcP (xok_ifeq dX9_handler_151 (by decide)) rfl (xcP (xok_iconst dX9_handler_154 rfl) rfl (xcP (xok_goto dX9_handler_155 (by decide)) rfl trivial)))
theorem okX9_handler_158 : XOkL xms rX9_handler bX9_handler_158 := xcP (xok_iconst dX9_handler_158 rfl) rfl (xcP xok_fal rfl trivial)
theorem okX9_handler_159 : XOkL xms rX9_handler bX9_handler_159 := xcR ⟨dX9_handler_159, rfl⟩
theorem okM_X9_handler : XOkM xms rX9_handler := xokM0 (List.forall_mem_cons.mpr ⟨⟨rfl, okX9_handler_0⟩, List.forall_mem_cons.mpr ⟨⟨rfl, okX9_handler_35⟩, List.forall_mem_cons.mpr ⟨⟨rfl, okX9_handler_37⟩, List.forall_mem_cons.mpr ⟨⟨rfl, okX9_handler_66⟩, List.forall_mem_cons.mpr ⟨⟨rfl, okX9_handler_74⟩, List.forall_mem_cons.mpr ⟨⟨rfl, okX9_handler_75⟩, List.forall_mem_cons.mpr ⟨⟨rfl, okX9_handler_81⟩, List.forall_mem_cons.mpr ⟨⟨rfl, okX9_handler_136⟩, List.forall_mem_cons.mpr ⟨⟨rfl, okX9_handler_140⟩, List.forall_mem_cons.mpr ⟨⟨rfl, okX9_handler_141⟩, List.forall_mem_cons.mpr ⟨⟨rfl, okX9_handler_149⟩, List.forall_mem_cons.mpr ⟨⟨rfl, okX9_handler_158⟩, List.forall_mem_cons.mpr ⟨⟨rfl, okX9_handler_159⟩, fun _ h => nomatch h⟩⟩⟩⟩⟩⟩⟩⟩⟩⟩⟩⟩⟩) (xokH0 rfl (fun _ _ => rfl)) (by decide +kernel) (by decide)
abbrev cX9_isAbove : ByteArray := prog_36_method_60_code
def dkwX9_isAbove_1 : List UInt8 := [46, 62, 167, 255, 232, 29, 155, 0, 7, 4, 167, 0, 4, 3, 172]
abbrev dktX9_isAbove_1 : List UInt8 := dkwX9_isAbove_1 ++ []
def dkwX9_isAbove_0 : List UInt8 := [28, 62, 29, 155, 0, 26, 29, 27, 159, 0, 21, 42, 180, 0, 93, 16, 16, 42, 180, 0, 235, 104, 29, 96]
abbrev dktX9_isAbove_0 : List UInt8 := dkwX9_isAbove_0 ++ dktX9_isAbove_1
theorem dksX9_isAbove_0 : cX9_isAbove.data.toList.drop 0 = dktX9_isAbove_0 := by decide +kernel
theorem dksX9_isAbove_1 : cX9_isAbove.data.toList.drop 24 = dktX9_isAbove_1 := dk_seg dksX9_isAbove_0 24 rfl rfl
theorem dX9_isAbove_0 : decode cX9_isAbove 0 = .ok (.iload_n 2, 1) := dk_28 (dk_at dksX9_isAbove_0 0 rfl rfl)
theorem dX9_isAbove_1 : decode cX9_isAbove 1 = .ok (.istore_n 3, 1) := dk_62 (dk_at dksX9_isAbove_0 1 rfl rfl)
theorem dX9_isAbove_2 : decode cX9_isAbove 2 = .ok (.iload_n 3, 1) := dk_29 (dk_at dksX9_isAbove_0 2 rfl rfl)
theorem dX9_isAbove_3 : decode cX9_isAbove 3 = .ok (.ifCond .lt 26, 3) := dk_155 0 26 (dk_at dksX9_isAbove_0 3 rfl rfl)
theorem dX9_isAbove_6 : decode cX9_isAbove 6 = .ok (.iload_n 3, 1) := dk_29 (dk_at dksX9_isAbove_0 6 rfl rfl)
theorem dX9_isAbove_7 : decode cX9_isAbove 7 = .ok (.iload_n 1, 1) := dk_27 (dk_at dksX9_isAbove_0 7 rfl rfl)
theorem dX9_isAbove_8 : decode cX9_isAbove 8 = .ok (.if_icmp .eq 21, 3) := dk_159 0 21 (dk_at dksX9_isAbove_0 8 rfl rfl)
theorem dX9_isAbove_11 : decode cX9_isAbove 11 = .ok (.aload_n 0, 1) := dk_42 (dk_at dksX9_isAbove_0 11 rfl rfl)
theorem dX9_isAbove_12 : decode cX9_isAbove 12 = .ok (.getfield 93, 3) := dk_180 0 93 (dk_at dksX9_isAbove_0 12 rfl rfl)
theorem dX9_isAbove_15 : decode cX9_isAbove 15 = .ok (.bipush 16, 2) := dk_16 16 (dk_at dksX9_isAbove_0 15 rfl rfl)
theorem dX9_isAbove_17 : decode cX9_isAbove 17 = .ok (.aload_n 0, 1) := dk_42 (dk_at dksX9_isAbove_0 17 rfl rfl)
theorem dX9_isAbove_18 : decode cX9_isAbove 18 = .ok (.getfield 235, 3) := dk_180 0 235 (dk_at dksX9_isAbove_0 18 rfl rfl)
theorem dX9_isAbove_21 : decode cX9_isAbove 21 = .ok (.imul, 1) := dk_104 (dk_at dksX9_isAbove_0 21 rfl rfl)
theorem dX9_isAbove_22 : decode cX9_isAbove 22 = .ok (.iload_n 3, 1) := dk_29 (dk_at dksX9_isAbove_0 22 rfl rfl)
theorem dX9_isAbove_23 : decode cX9_isAbove 23 = .ok (.iadd, 1) := dk_96 (dk_at dksX9_isAbove_0 23 rfl rfl)
theorem dX9_isAbove_24 : decode cX9_isAbove 24 = .ok (.iaload, 1) := dk_46 (dk_at dksX9_isAbove_1 0 rfl rfl)
theorem dX9_isAbove_25 : decode cX9_isAbove 25 = .ok (.istore_n 3, 1) := dk_62 (dk_at dksX9_isAbove_1 1 rfl rfl)
theorem dX9_isAbove_26 : decode cX9_isAbove 26 = .ok (.goto (-24), 3) := dk_167 255 232 (dk_at dksX9_isAbove_1 2 rfl rfl)
theorem dX9_isAbove_29 : decode cX9_isAbove 29 = .ok (.iload_n 3, 1) := dk_29 (dk_at dksX9_isAbove_1 5 rfl rfl)
theorem dX9_isAbove_30 : decode cX9_isAbove 30 = .ok (.ifCond .lt 7, 3) := dk_155 0 7 (dk_at dksX9_isAbove_1 6 rfl rfl)
theorem dX9_isAbove_33 : decode cX9_isAbove 33 = .ok (.iconst 1, 1) := dk_4 (dk_at dksX9_isAbove_1 9 rfl rfl)
theorem dX9_isAbove_34 : decode cX9_isAbove 34 = .ok (.goto 4, 3) := dk_167 0 4 (dk_at dksX9_isAbove_1 10 rfl rfl)
theorem dX9_isAbove_37 : decode cX9_isAbove 37 = .ok (.iconst 0, 1) := dk_3 (dk_at dksX9_isAbove_1 13 rfl rfl)
theorem dX9_isAbove_38 : decode cX9_isAbove 38 = .ok (.ireturn, 1) := dk_172 (dk_at dksX9_isAbove_1 14 rfl rfl)
theorem okX9_isAbove_0 : XOkL xms rX9_isAbove bX9_isAbove_0 := xcP (xok_iload_n dX9_isAbove_0 rfl) rfl (xcP (xok_istore_n dX9_isAbove_1 rfl) rfl (xcP xok_fal rfl trivial))
theorem okX9_isAbove_2 : XOkL xms rX9_isAbove bX9_isAbove_2 := xcP (xok_iload_n dX9_isAbove_2 rfl) rfl (xcP (xok_iflt dX9_isAbove_3 (by decide)) rfl (xcP (xok_iload_n dX9_isAbove_6 rfl) rfl (xcP (xok_iload_n dX9_isAbove_7 rfl) rfl (xcP (xok_icmpeq dX9_isAbove_8 (by decide)) rfl (xcP (xok_aload_n dX9_isAbove_11 rfl) rfl (xcP (xok_getfield (ref := "WaysAtlasModel") (Or.inr ⟨rfl, by decide⟩) dX9_isAbove_12 (Or.inl ⟨q1951, (Or.inl rfl)⟩) xh1070) rfl (xcP (xok_bipush dX9_isAbove_15 rfl) rfl (xcP (xok_aload_n dX9_isAbove_17 rfl) rfl (xcP (xok_getfield (ref := "WaysAtlasModel") (Or.inl ⟨rfl, by decide⟩) dX9_isAbove_18 (Or.inl ⟨q1937, (Or.inl rfl)⟩) xh44) rfl (xcP (xok_imul dX9_isAbove_21) rfl (xcP (xok_iload_n dX9_isAbove_22 rfl) rfl (xcP (xok_iadd dX9_isAbove_23) rfl (xcP (xok_iaload dX9_isAbove_24) rfl (xcP (xok_istore_n dX9_isAbove_25 rfl) rfl (xcP (xok_goto dX9_isAbove_26 (by decide)) rfl trivial)))))))))))))))
theorem okX9_isAbove_29 : XOkL xms rX9_isAbove bX9_isAbove_29 := xcP (xok_iload_n dX9_isAbove_29 rfl) rfl (xcP (xok_iflt dX9_isAbove_30 (by decide)) rfl (xcP (xok_iconst dX9_isAbove_33 rfl) rfl (xcP (xok_goto dX9_isAbove_34 (by decide)) rfl trivial)))
theorem okX9_isAbove_37 : XOkL xms rX9_isAbove bX9_isAbove_37 := xcP (xok_iconst dX9_isAbove_37 rfl) rfl (xcP xok_fal rfl trivial)
theorem okX9_isAbove_38 : XOkL xms rX9_isAbove bX9_isAbove_38 := xcR ⟨dX9_isAbove_38, rfl⟩
theorem okM_X9_isAbove : XOkM xms rX9_isAbove := xokM0 (List.forall_mem_cons.mpr ⟨⟨rfl, okX9_isAbove_0⟩, List.forall_mem_cons.mpr ⟨⟨rfl, okX9_isAbove_2⟩, List.forall_mem_cons.mpr ⟨⟨rfl, okX9_isAbove_29⟩, List.forall_mem_cons.mpr ⟨⟨rfl, okX9_isAbove_37⟩, List.forall_mem_cons.mpr ⟨⟨rfl, okX9_isAbove_38⟩, fun _ h => nomatch h⟩⟩⟩⟩⟩) (xokH0 rfl (fun _ _ => rfl)) (by decide +kernel) (by decide)
abbrev cX9_run : ByteArray := prog_36_method_95_code
def dkwX9_run_2 : List UInt8 := [4, 84, 42, 28, 29, 21, 4, 21, 5, 182, 2, 100, 172]
abbrev dktX9_run_2 : List UInt8 := dkwX9_run_2 ++ []
def dkwX9_run_1 : List UInt8 := [153, 0, 7, 4, 167, 0, 4, 3, 181, 1, 219, 42, 3, 181, 1, 222, 42, 180, 0, 138, 42, 180, 1, 219]
abbrev dktX9_run_1 : List UInt8 := dkwX9_run_1 ++ dktX9_run_2
def dkwX9_run_0 : List UInt8 := [42, 28, 182, 2, 97, 153, 0, 15, 21, 5, 3, 17, 1, 144, 184, 0, 239, 154, 0, 5, 2, 172, 42, 27]
abbrev dktX9_run_0 : List UInt8 := dkwX9_run_0 ++ dktX9_run_1
theorem dksX9_run_0 : cX9_run.data.toList.drop 0 = dktX9_run_0 := by decide +kernel
theorem dksX9_run_1 : cX9_run.data.toList.drop 24 = dktX9_run_1 := dk_seg dksX9_run_0 24 rfl rfl
theorem dksX9_run_2 : cX9_run.data.toList.drop 48 = dktX9_run_2 := dk_seg dksX9_run_1 24 rfl rfl
theorem dX9_run_0 : decode cX9_run 0 = .ok (.aload_n 0, 1) := dk_42 (dk_at dksX9_run_0 0 rfl rfl)
theorem dX9_run_1 : decode cX9_run 1 = .ok (.iload_n 2, 1) := dk_28 (dk_at dksX9_run_0 1 rfl rfl)
theorem dX9_run_2 : decode cX9_run 2 = .ok (.invokevirtual 609, 3) := dk_182 2 97 (dk_at dksX9_run_0 2 rfl rfl)
theorem dX9_run_5 : decode cX9_run 5 = .ok (.ifCond .eq 15, 3) := dk_153 0 15 (dk_at dksX9_run_0 5 rfl rfl)
theorem dX9_run_8 : decode cX9_run 8 = .ok (.iload 5, 2) := dk_21 5 (dk_at dksX9_run_0 8 rfl rfl)
theorem dX9_run_10 : decode cX9_run 10 = .ok (.iconst 0, 1) := dk_3 (dk_at dksX9_run_0 10 rfl rfl)
theorem dX9_run_11 : decode cX9_run 11 = .ok (.sipush 400, 3) := dk_17 1 144 (dk_at dksX9_run_0 11 rfl rfl)
theorem dX9_run_14 : decode cX9_run 14 = .ok (.invokestatic 239, 3) := dk_184 0 239 (dk_at dksX9_run_0 14 rfl rfl)
theorem dX9_run_17 : decode cX9_run 17 = .ok (.ifCond .ne 5, 3) := dk_154 0 5 (dk_at dksX9_run_0 17 rfl rfl)
theorem dX9_run_20 : decode cX9_run 20 = .ok (.iconst (-1), 1) := dk_2 (dk_at dksX9_run_0 20 rfl rfl)
theorem dX9_run_21 : decode cX9_run 21 = .ok (.ireturn, 1) := dk_172 (dk_at dksX9_run_0 21 rfl rfl)
theorem dX9_run_22 : decode cX9_run 22 = .ok (.aload_n 0, 1) := dk_42 (dk_at dksX9_run_0 22 rfl rfl)
theorem dX9_run_23 : decode cX9_run 23 = .ok (.iload_n 1, 1) := dk_27 (dk_at dksX9_run_0 23 rfl rfl)
theorem dX9_run_24 : decode cX9_run 24 = .ok (.ifCond .eq 7, 3) := dk_153 0 7 (dk_at dksX9_run_1 0 rfl rfl)
theorem dX9_run_27 : decode cX9_run 27 = .ok (.iconst 1, 1) := dk_4 (dk_at dksX9_run_1 3 rfl rfl)
theorem dX9_run_28 : decode cX9_run 28 = .ok (.goto 4, 3) := dk_167 0 4 (dk_at dksX9_run_1 4 rfl rfl)
theorem dX9_run_31 : decode cX9_run 31 = .ok (.iconst 0, 1) := dk_3 (dk_at dksX9_run_1 7 rfl rfl)
theorem dX9_run_32 : decode cX9_run 32 = .ok (.putfield 475, 3) := dk_181 1 219 (dk_at dksX9_run_1 8 rfl rfl)
theorem dX9_run_35 : decode cX9_run 35 = .ok (.aload_n 0, 1) := dk_42 (dk_at dksX9_run_1 11 rfl rfl)
theorem dX9_run_36 : decode cX9_run 36 = .ok (.iconst 0, 1) := dk_3 (dk_at dksX9_run_1 12 rfl rfl)
theorem dX9_run_37 : decode cX9_run 37 = .ok (.putfield 478, 3) := dk_181 1 222 (dk_at dksX9_run_1 13 rfl rfl)
theorem dX9_run_40 : decode cX9_run 40 = .ok (.aload_n 0, 1) := dk_42 (dk_at dksX9_run_1 16 rfl rfl)
theorem dX9_run_41 : decode cX9_run 41 = .ok (.getfield 138, 3) := dk_180 0 138 (dk_at dksX9_run_1 17 rfl rfl)
theorem dX9_run_44 : decode cX9_run 44 = .ok (.aload_n 0, 1) := dk_42 (dk_at dksX9_run_1 20 rfl rfl)
theorem dX9_run_45 : decode cX9_run 45 = .ok (.getfield 475, 3) := dk_180 1 219 (dk_at dksX9_run_1 21 rfl rfl)
theorem dX9_run_48 : decode cX9_run 48 = .ok (.iconst 1, 1) := dk_4 (dk_at dksX9_run_2 0 rfl rfl)
theorem dX9_run_49 : decode cX9_run 49 = .ok (.bastore, 1) := dk_84 (dk_at dksX9_run_2 1 rfl rfl)
theorem dX9_run_50 : decode cX9_run 50 = .ok (.aload_n 0, 1) := dk_42 (dk_at dksX9_run_2 2 rfl rfl)
theorem dX9_run_51 : decode cX9_run 51 = .ok (.iload_n 2, 1) := dk_28 (dk_at dksX9_run_2 3 rfl rfl)
theorem dX9_run_52 : decode cX9_run 52 = .ok (.iload_n 3, 1) := dk_29 (dk_at dksX9_run_2 4 rfl rfl)
theorem dX9_run_53 : decode cX9_run 53 = .ok (.iload 4, 2) := dk_21 4 (dk_at dksX9_run_2 5 rfl rfl)
theorem dX9_run_55 : decode cX9_run 55 = .ok (.iload 5, 2) := dk_21 5 (dk_at dksX9_run_2 7 rfl rfl)
theorem dX9_run_57 : decode cX9_run 57 = .ok (.invokevirtual 612, 3) := dk_182 2 100 (dk_at dksX9_run_2 9 rfl rfl)
theorem dX9_run_60 : decode cX9_run 60 = .ok (.ireturn, 1) := dk_172 (dk_at dksX9_run_2 12 rfl rfl)
theorem okX9_run_0 : XOkL xms rX9_run bX9_run_0 := xcP (xok_aload_n dX9_run_0 rfl) rfl (xcP (xok_iload_n dX9_run_1 rfl) rfl (xcC0 (xokc_list (List.forall_mem_cons.mpr ⟨xokc_V (r := (RX9, TX9, 96)) xm158 (List.mem_of_getElem? (i := 9) rfl) (by decide) rfl dX9_run_2 q2461 q2463 qs102 q149 q2464 (by decide +kernel), fun _ h => nomatch h⟩)) rfl (xcP (xok_ifeq dX9_run_5 (by decide)) rfl (xcP (xok_iload dX9_run_8) rfl (xcP (xok_iconst dX9_run_10 rfl) rfl (xcP (xok_sipush dX9_run_11 rfl) rfl (xcC0 (xokc_S xm99 rfl dX9_run_14 q2224 q2225 q149 q2226 (by decide +kernel)) rfl (xcP (xok_ifne dX9_run_17 (by decide)) rfl (xcP xok_fal rfl trivial)))))))))
theorem okX9_run_20 : XOkL xms rX9_run bX9_run_20 := xcP (xok_iconst dX9_run_20 rfl) rfl (xcR ⟨dX9_run_21, rfl⟩)
theorem okX9_run_22 : XOkL xms rX9_run bX9_run_22 := xcP (xok_aload_n dX9_run_22 rfl) rfl (xcP (xok_iload_n dX9_run_23 rfl) rfl (xcP (xok_ifeq dX9_run_24 (by decide)) rfl (xcP (xok_iconst dX9_run_27 rfl) rfl (xcP (xok_goto dX9_run_28 (by decide)) rfl trivial))))
theorem okX9_run_31 : XOkL xms rX9_run bX9_run_31 := xcP (xok_iconst dX9_run_31 rfl) rfl (xcP xok_fal rfl trivial)
theorem okX9_run_32 : XOkL xms rX9_run bX9_run_32 := xcP (xok_putfield (ref := "WaysAtlasModel") (Or.inl ⟨rfl, by decide, rfl⟩) dX9_run_32 (Or.inl ⟨q1978, (Or.inl rfl)⟩) (Or.inl rfl) xh58) rfl (xcP (xok_aload_n dX9_run_35 rfl) rfl (xcP (xok_iconst dX9_run_36 rfl) rfl (xcP (xok_putfield (ref := "WaysAtlasModel") (Or.inl ⟨rfl, by decide, rfl⟩) dX9_run_37 (Or.inl ⟨q2012, (Or.inl rfl)⟩) (Or.inl rfl) xh66) rfl (xcP (xok_aload_n dX9_run_40 rfl) rfl (xcP (xok_getfield (ref := "WaysAtlasModel") (Or.inr ⟨rfl, by decide⟩) dX9_run_41 (Or.inl ⟨q1977, (Or.inl rfl)⟩) xh1085) rfl (xcP (xok_aload_n dX9_run_44 rfl) rfl (xcP (xok_getfield (ref := "WaysAtlasModel") (Or.inl ⟨rfl, by decide⟩) dX9_run_45 (Or.inl ⟨q1978, (Or.inl rfl)⟩) xh58) rfl (xcP (xok_iconst dX9_run_48 rfl) rfl (xcP (xok_zastore dX9_run_49) rfl (xcP (xok_aload_n dX9_run_50 rfl) rfl (xcP (xok_iload_n dX9_run_51 rfl) rfl (xcP (xok_iload_n dX9_run_52 rfl) rfl (xcP (xok_iload dX9_run_53) rfl (xcP (xok_iload dX9_run_55) rfl (xcC0 (xokc_list (List.forall_mem_cons.mpr ⟨xokc_V (r := (RX9, TX9, 96)) xm159 (List.mem_of_getElem? (i := 9) rfl) (by decide) rfl dX9_run_57 q2465 q2467 qs103 q149 q2468 (by decide +kernel), fun _ h => nomatch h⟩)) rfl (xcR ⟨dX9_run_60, rfl⟩))))))))))))))))
theorem okM_X9_run : XOkM xms rX9_run := xokM0 (List.forall_mem_cons.mpr ⟨⟨rfl, okX9_run_0⟩, List.forall_mem_cons.mpr ⟨⟨rfl, okX9_run_20⟩, List.forall_mem_cons.mpr ⟨⟨rfl, okX9_run_22⟩, List.forall_mem_cons.mpr ⟨⟨rfl, okX9_run_31⟩, List.forall_mem_cons.mpr ⟨⟨rfl, okX9_run_32⟩, fun _ h => nomatch h⟩⟩⟩⟩⟩) (xokH0 rfl (fun _ _ => rfl)) (by decide +kernel) (by decide)
abbrev cX9_isMethod : ByteArray := prog_36_method_94_code
def dkwX9_isMethod_1 : List UInt8 := [153, 0, 7, 4, 167, 0, 4, 3, 172]
abbrev dktX9_isMethod_1 : List UInt8 := dkwX9_isMethod_1 ++ []
def dkwX9_isMethod_0 : List UInt8 := [42, 180, 1, 194, 153, 0, 26, 27, 3, 42, 180, 0, 90, 42, 180, 0, 235, 46, 4, 100, 184, 0, 239]
abbrev dktX9_isMethod_0 : List UInt8 := dkwX9_isMethod_0 ++ dktX9_isMethod_1
theorem dksX9_isMethod_0 : cX9_isMethod.data.toList.drop 0 = dktX9_isMethod_0 := by decide +kernel
theorem dksX9_isMethod_1 : cX9_isMethod.data.toList.drop 23 = dktX9_isMethod_1 := dk_seg dksX9_isMethod_0 23 rfl rfl
theorem dX9_isMethod_0 : decode cX9_isMethod 0 = .ok (.aload_n 0, 1) := dk_42 (dk_at dksX9_isMethod_0 0 rfl rfl)
theorem dX9_isMethod_1 : decode cX9_isMethod 1 = .ok (.getfield 450, 3) := dk_180 1 194 (dk_at dksX9_isMethod_0 1 rfl rfl)
theorem dX9_isMethod_4 : decode cX9_isMethod 4 = .ok (.ifCond .eq 26, 3) := dk_153 0 26 (dk_at dksX9_isMethod_0 4 rfl rfl)
theorem dX9_isMethod_7 : decode cX9_isMethod 7 = .ok (.iload_n 1, 1) := dk_27 (dk_at dksX9_isMethod_0 7 rfl rfl)
theorem dX9_isMethod_8 : decode cX9_isMethod 8 = .ok (.iconst 0, 1) := dk_3 (dk_at dksX9_isMethod_0 8 rfl rfl)
theorem dX9_isMethod_9 : decode cX9_isMethod 9 = .ok (.aload_n 0, 1) := dk_42 (dk_at dksX9_isMethod_0 9 rfl rfl)
theorem dX9_isMethod_10 : decode cX9_isMethod 10 = .ok (.getfield 90, 3) := dk_180 0 90 (dk_at dksX9_isMethod_0 10 rfl rfl)
theorem dX9_isMethod_13 : decode cX9_isMethod 13 = .ok (.aload_n 0, 1) := dk_42 (dk_at dksX9_isMethod_0 13 rfl rfl)
theorem dX9_isMethod_14 : decode cX9_isMethod 14 = .ok (.getfield 235, 3) := dk_180 0 235 (dk_at dksX9_isMethod_0 14 rfl rfl)
theorem dX9_isMethod_17 : decode cX9_isMethod 17 = .ok (.iaload, 1) := dk_46 (dk_at dksX9_isMethod_0 17 rfl rfl)
theorem dX9_isMethod_18 : decode cX9_isMethod 18 = .ok (.iconst 1, 1) := dk_4 (dk_at dksX9_isMethod_0 18 rfl rfl)
theorem dX9_isMethod_19 : decode cX9_isMethod 19 = .ok (.isub, 1) := dk_100 (dk_at dksX9_isMethod_0 19 rfl rfl)
theorem dX9_isMethod_20 : decode cX9_isMethod 20 = .ok (.invokestatic 239, 3) := dk_184 0 239 (dk_at dksX9_isMethod_0 20 rfl rfl)
theorem dX9_isMethod_23 : decode cX9_isMethod 23 = .ok (.ifCond .eq 7, 3) := dk_153 0 7 (dk_at dksX9_isMethod_1 0 rfl rfl)
theorem dX9_isMethod_26 : decode cX9_isMethod 26 = .ok (.iconst 1, 1) := dk_4 (dk_at dksX9_isMethod_1 3 rfl rfl)
theorem dX9_isMethod_27 : decode cX9_isMethod 27 = .ok (.goto 4, 3) := dk_167 0 4 (dk_at dksX9_isMethod_1 4 rfl rfl)
theorem dX9_isMethod_30 : decode cX9_isMethod 30 = .ok (.iconst 0, 1) := dk_3 (dk_at dksX9_isMethod_1 7 rfl rfl)
theorem dX9_isMethod_31 : decode cX9_isMethod 31 = .ok (.ireturn, 1) := dk_172 (dk_at dksX9_isMethod_1 8 rfl rfl)
theorem okX9_isMethod_0 : XOkL xms rX9_isMethod bX9_isMethod_0 := xcP (xok_aload_n dX9_isMethod_0 rfl) rfl (xcP (xok_getfield (ref := "WaysAtlasModel") (Or.inl ⟨rfl, by decide⟩) dX9_isMethod_1 (Or.inl ⟨q1939, (Or.inl rfl)⟩) xh46) rfl (xcP (xok_ifeq dX9_isMethod_4 (by decide)) rfl (xcP (xok_iload_n dX9_isMethod_7 rfl) rfl (xcP (xok_iconst dX9_isMethod_8 rfl) rfl (xcP (xok_aload_n dX9_isMethod_9 rfl) rfl (xcP (xok_getfield (ref := "WaysAtlasModel") (Or.inr ⟨rfl, by decide⟩) dX9_isMethod_10 (Or.inl ⟨q1950, (Or.inl rfl)⟩) xh1069) rfl (xcP (xok_aload_n dX9_isMethod_13 rfl) rfl (xcP (xok_getfield (ref := "WaysAtlasModel") (Or.inl ⟨rfl, by decide⟩) dX9_isMethod_14 (Or.inl ⟨q1937, (Or.inl rfl)⟩) xh44) rfl (xcP (xok_iaload dX9_isMethod_17) rfl (xcP (xok_iconst dX9_isMethod_18 rfl) rfl (xcP (xok_isub dX9_isMethod_19) rfl (xcC0 (xokc_S xm99 rfl dX9_isMethod_20 q2224 q2225 q149 q2226 (by decide +kernel)) rfl (xcP (xok_ifeq dX9_isMethod_23 (by decide)) rfl (xcP (xok_iconst dX9_isMethod_26 rfl) rfl (xcP (xok_goto dX9_isMethod_27 (by decide)) rfl trivial)))))))))))))))
theorem okX9_isMethod_30 : XOkL xms rX9_isMethod bX9_isMethod_30 := xcP (xok_iconst dX9_isMethod_30 rfl) rfl (xcP xok_fal rfl trivial)
theorem okX9_isMethod_31 : XOkL xms rX9_isMethod bX9_isMethod_31 := xcR ⟨dX9_isMethod_31, rfl⟩
theorem okM_X9_isMethod : XOkM xms rX9_isMethod := xokM0 (List.forall_mem_cons.mpr ⟨⟨rfl, okX9_isMethod_0⟩, List.forall_mem_cons.mpr ⟨⟨rfl, okX9_isMethod_30⟩, List.forall_mem_cons.mpr ⟨⟨rfl, okX9_isMethod_31⟩, fun _ h => nomatch h⟩⟩⟩) (xokH0 rfl (fun _ _ => rfl)) (by decide +kernel) (by decide)
abbrev cX9_runs : ByteArray := prog_36_method_93_code
def dkwX9_runs_7 : List UInt8 := [42, 180, 1, 216, 79, 42, 180, 1, 216, 172]
abbrev dktX9_runs_7 : List UInt8 := dkwX9_runs_7 ++ []
def dkwX9_runs_6 : List UInt8 := [180, 1, 216, 156, 0, 10, 42, 182, 2, 94, 167, 255, 245, 42, 180, 0, 142, 16, 10, 42, 180, 1, 219, 104]
abbrev dktX9_runs_6 : List UInt8 := dkwX9_runs_6 ++ dktX9_runs_7
def dkwX9_runs_5 : List UInt8 := [181, 1, 255, 42, 3, 181, 1, 240, 42, 3, 181, 2, 34, 42, 27, 28, 29, 2, 182, 2, 30, 42]
abbrev dktX9_runs_5 : List UInt8 := dkwX9_runs_5 ++ dktX9_runs_6
def dkwX9_runs_4 : List UInt8 := [21, 5, 3, 79, 132, 5, 1, 167, 255, 237, 42, 21, 4, 181, 1, 213, 42, 2, 181, 1, 216, 42, 3]
abbrev dktX9_runs_4 : List UInt8 := dkwX9_runs_4 ++ dktX9_runs_5
def dkwX9_runs_3 : List UInt8 := [3, 79, 132, 5, 1, 167, 255, 230, 3, 54, 5, 21, 5, 17, 2, 48, 162, 0, 17, 42, 180, 0, 217]
abbrev dktX9_runs_3 : List UInt8 := dkwX9_runs_3 ++ dktX9_runs_4
def dkwX9_runs_2 : List UInt8 := [3, 54, 5, 21, 5, 16, 80, 162, 0, 25, 42, 180, 0, 172, 16, 80, 42, 180, 1, 219, 104, 21, 5, 96]
abbrev dktX9_runs_2 : List UInt8 := dkwX9_runs_2 ++ dktX9_runs_3
def dkwX9_runs_1 : List UInt8 := [3, 79, 132, 5, 1, 167, 255, 230, 42, 180, 0, 142, 16, 10, 42, 180, 1, 219, 104, 5, 96, 16, 247, 79]
abbrev dktX9_runs_1 : List UInt8 := dkwX9_runs_1 ++ dktX9_runs_2
def dkwX9_runs_0 : List UInt8 := [3, 54, 5, 21, 5, 16, 10, 162, 0, 25, 42, 180, 0, 142, 16, 10, 42, 180, 1, 219, 104, 21, 5, 96]
abbrev dktX9_runs_0 : List UInt8 := dkwX9_runs_0 ++ dktX9_runs_1
theorem dksX9_runs_0 : cX9_runs.data.toList.drop 0 = dktX9_runs_0 := by decide +kernel
theorem dksX9_runs_1 : cX9_runs.data.toList.drop 24 = dktX9_runs_1 := dk_seg dksX9_runs_0 24 rfl rfl
theorem dksX9_runs_2 : cX9_runs.data.toList.drop 48 = dktX9_runs_2 := dk_seg dksX9_runs_1 24 rfl rfl
theorem dksX9_runs_3 : cX9_runs.data.toList.drop 72 = dktX9_runs_3 := dk_seg dksX9_runs_2 24 rfl rfl
theorem dksX9_runs_4 : cX9_runs.data.toList.drop 95 = dktX9_runs_4 := dk_seg dksX9_runs_3 23 rfl rfl
theorem dksX9_runs_5 : cX9_runs.data.toList.drop 118 = dktX9_runs_5 := dk_seg dksX9_runs_4 23 rfl rfl
theorem dksX9_runs_6 : cX9_runs.data.toList.drop 140 = dktX9_runs_6 := dk_seg dksX9_runs_5 22 rfl rfl
theorem dksX9_runs_7 : cX9_runs.data.toList.drop 164 = dktX9_runs_7 := dk_seg dksX9_runs_6 24 rfl rfl
theorem dX9_runs_0 : decode cX9_runs 0 = .ok (.iconst 0, 1) := dk_3 (dk_at dksX9_runs_0 0 rfl rfl)
theorem dX9_runs_1 : decode cX9_runs 1 = .ok (.istore 5, 2) := dk_54 5 (dk_at dksX9_runs_0 1 rfl rfl)
theorem dX9_runs_3 : decode cX9_runs 3 = .ok (.iload 5, 2) := dk_21 5 (dk_at dksX9_runs_0 3 rfl rfl)
theorem dX9_runs_5 : decode cX9_runs 5 = .ok (.bipush 10, 2) := dk_16 10 (dk_at dksX9_runs_0 5 rfl rfl)
theorem dX9_runs_7 : decode cX9_runs 7 = .ok (.if_icmp .ge 25, 3) := dk_162 0 25 (dk_at dksX9_runs_0 7 rfl rfl)
theorem dX9_runs_10 : decode cX9_runs 10 = .ok (.aload_n 0, 1) := dk_42 (dk_at dksX9_runs_0 10 rfl rfl)
theorem dX9_runs_11 : decode cX9_runs 11 = .ok (.getfield 142, 3) := dk_180 0 142 (dk_at dksX9_runs_0 11 rfl rfl)
theorem dX9_runs_14 : decode cX9_runs 14 = .ok (.bipush 10, 2) := dk_16 10 (dk_at dksX9_runs_0 14 rfl rfl)
theorem dX9_runs_16 : decode cX9_runs 16 = .ok (.aload_n 0, 1) := dk_42 (dk_at dksX9_runs_0 16 rfl rfl)
theorem dX9_runs_17 : decode cX9_runs 17 = .ok (.getfield 475, 3) := dk_180 1 219 (dk_at dksX9_runs_0 17 rfl rfl)
theorem dX9_runs_20 : decode cX9_runs 20 = .ok (.imul, 1) := dk_104 (dk_at dksX9_runs_0 20 rfl rfl)
theorem dX9_runs_21 : decode cX9_runs 21 = .ok (.iload 5, 2) := dk_21 5 (dk_at dksX9_runs_0 21 rfl rfl)
theorem dX9_runs_23 : decode cX9_runs 23 = .ok (.iadd, 1) := dk_96 (dk_at dksX9_runs_0 23 rfl rfl)
theorem dX9_runs_24 : decode cX9_runs 24 = .ok (.iconst 0, 1) := dk_3 (dk_at dksX9_runs_1 0 rfl rfl)
theorem dX9_runs_25 : decode cX9_runs 25 = .ok (.iastore, 1) := dk_79 (dk_at dksX9_runs_1 1 rfl rfl)
theorem dX9_runs_26 : decode cX9_runs 26 = .ok (.iinc 5 1, 3) := dk_132 5 1 (dk_at dksX9_runs_1 2 rfl rfl)
theorem dX9_runs_29 : decode cX9_runs 29 = .ok (.goto (-26), 3) := dk_167 255 230 (dk_at dksX9_runs_1 5 rfl rfl)
theorem dX9_runs_32 : decode cX9_runs 32 = .ok (.aload_n 0, 1) := dk_42 (dk_at dksX9_runs_1 8 rfl rfl)
theorem dX9_runs_33 : decode cX9_runs 33 = .ok (.getfield 142, 3) := dk_180 0 142 (dk_at dksX9_runs_1 9 rfl rfl)
theorem dX9_runs_36 : decode cX9_runs 36 = .ok (.bipush 10, 2) := dk_16 10 (dk_at dksX9_runs_1 12 rfl rfl)
theorem dX9_runs_38 : decode cX9_runs 38 = .ok (.aload_n 0, 1) := dk_42 (dk_at dksX9_runs_1 14 rfl rfl)
theorem dX9_runs_39 : decode cX9_runs 39 = .ok (.getfield 475, 3) := dk_180 1 219 (dk_at dksX9_runs_1 15 rfl rfl)
theorem dX9_runs_42 : decode cX9_runs 42 = .ok (.imul, 1) := dk_104 (dk_at dksX9_runs_1 18 rfl rfl)
theorem dX9_runs_43 : decode cX9_runs 43 = .ok (.iconst 2, 1) := dk_5 (dk_at dksX9_runs_1 19 rfl rfl)
theorem dX9_runs_44 : decode cX9_runs 44 = .ok (.iadd, 1) := dk_96 (dk_at dksX9_runs_1 20 rfl rfl)
theorem dX9_runs_45 : decode cX9_runs 45 = .ok (.bipush (-9), 2) := dk_16 247 (dk_at dksX9_runs_1 21 rfl rfl)
theorem dX9_runs_47 : decode cX9_runs 47 = .ok (.iastore, 1) := dk_79 (dk_at dksX9_runs_1 23 rfl rfl)
theorem dX9_runs_48 : decode cX9_runs 48 = .ok (.iconst 0, 1) := dk_3 (dk_at dksX9_runs_2 0 rfl rfl)
theorem dX9_runs_49 : decode cX9_runs 49 = .ok (.istore 5, 2) := dk_54 5 (dk_at dksX9_runs_2 1 rfl rfl)
theorem dX9_runs_51 : decode cX9_runs 51 = .ok (.iload 5, 2) := dk_21 5 (dk_at dksX9_runs_2 3 rfl rfl)
theorem dX9_runs_53 : decode cX9_runs 53 = .ok (.bipush 80, 2) := dk_16 80 (dk_at dksX9_runs_2 5 rfl rfl)
theorem dX9_runs_55 : decode cX9_runs 55 = .ok (.if_icmp .ge 25, 3) := dk_162 0 25 (dk_at dksX9_runs_2 7 rfl rfl)
theorem dX9_runs_58 : decode cX9_runs 58 = .ok (.aload_n 0, 1) := dk_42 (dk_at dksX9_runs_2 10 rfl rfl)
theorem dX9_runs_59 : decode cX9_runs 59 = .ok (.getfield 172, 3) := dk_180 0 172 (dk_at dksX9_runs_2 11 rfl rfl)
theorem dX9_runs_62 : decode cX9_runs 62 = .ok (.bipush 80, 2) := dk_16 80 (dk_at dksX9_runs_2 14 rfl rfl)
theorem dX9_runs_64 : decode cX9_runs 64 = .ok (.aload_n 0, 1) := dk_42 (dk_at dksX9_runs_2 16 rfl rfl)
theorem dX9_runs_65 : decode cX9_runs 65 = .ok (.getfield 475, 3) := dk_180 1 219 (dk_at dksX9_runs_2 17 rfl rfl)
theorem dX9_runs_68 : decode cX9_runs 68 = .ok (.imul, 1) := dk_104 (dk_at dksX9_runs_2 20 rfl rfl)
theorem dX9_runs_69 : decode cX9_runs 69 = .ok (.iload 5, 2) := dk_21 5 (dk_at dksX9_runs_2 21 rfl rfl)
theorem dX9_runs_71 : decode cX9_runs 71 = .ok (.iadd, 1) := dk_96 (dk_at dksX9_runs_2 23 rfl rfl)
theorem dX9_runs_72 : decode cX9_runs 72 = .ok (.iconst 0, 1) := dk_3 (dk_at dksX9_runs_3 0 rfl rfl)
theorem dX9_runs_73 : decode cX9_runs 73 = .ok (.iastore, 1) := dk_79 (dk_at dksX9_runs_3 1 rfl rfl)
theorem dX9_runs_74 : decode cX9_runs 74 = .ok (.iinc 5 1, 3) := dk_132 5 1 (dk_at dksX9_runs_3 2 rfl rfl)
theorem dX9_runs_77 : decode cX9_runs 77 = .ok (.goto (-26), 3) := dk_167 255 230 (dk_at dksX9_runs_3 5 rfl rfl)
theorem dX9_runs_80 : decode cX9_runs 80 = .ok (.iconst 0, 1) := dk_3 (dk_at dksX9_runs_3 8 rfl rfl)
theorem dX9_runs_81 : decode cX9_runs 81 = .ok (.istore 5, 2) := dk_54 5 (dk_at dksX9_runs_3 9 rfl rfl)
theorem dX9_runs_83 : decode cX9_runs 83 = .ok (.iload 5, 2) := dk_21 5 (dk_at dksX9_runs_3 11 rfl rfl)
theorem dX9_runs_85 : decode cX9_runs 85 = .ok (.sipush 560, 3) := dk_17 2 48 (dk_at dksX9_runs_3 13 rfl rfl)
theorem dX9_runs_88 : decode cX9_runs 88 = .ok (.if_icmp .ge 17, 3) := dk_162 0 17 (dk_at dksX9_runs_3 16 rfl rfl)
theorem dX9_runs_91 : decode cX9_runs 91 = .ok (.aload_n 0, 1) := dk_42 (dk_at dksX9_runs_3 19 rfl rfl)
theorem dX9_runs_92 : decode cX9_runs 92 = .ok (.getfield 217, 3) := dk_180 0 217 (dk_at dksX9_runs_3 20 rfl rfl)
theorem dX9_runs_95 : decode cX9_runs 95 = .ok (.iload 5, 2) := dk_21 5 (dk_at dksX9_runs_4 0 rfl rfl)
theorem dX9_runs_97 : decode cX9_runs 97 = .ok (.iconst 0, 1) := dk_3 (dk_at dksX9_runs_4 2 rfl rfl)
theorem dX9_runs_98 : decode cX9_runs 98 = .ok (.iastore, 1) := dk_79 (dk_at dksX9_runs_4 3 rfl rfl)
theorem dX9_runs_99 : decode cX9_runs 99 = .ok (.iinc 5 1, 3) := dk_132 5 1 (dk_at dksX9_runs_4 4 rfl rfl)
theorem dX9_runs_102 : decode cX9_runs 102 = .ok (.goto (-19), 3) := dk_167 255 237 (dk_at dksX9_runs_4 7 rfl rfl)
theorem dX9_runs_105 : decode cX9_runs 105 = .ok (.aload_n 0, 1) := dk_42 (dk_at dksX9_runs_4 10 rfl rfl)
theorem dX9_runs_106 : decode cX9_runs 106 = .ok (.iload 4, 2) := dk_21 4 (dk_at dksX9_runs_4 11 rfl rfl)
theorem dX9_runs_108 : decode cX9_runs 108 = .ok (.putfield 469, 3) := dk_181 1 213 (dk_at dksX9_runs_4 13 rfl rfl)
theorem dX9_runs_111 : decode cX9_runs 111 = .ok (.aload_n 0, 1) := dk_42 (dk_at dksX9_runs_4 16 rfl rfl)
theorem dX9_runs_112 : decode cX9_runs 112 = .ok (.iconst (-1), 1) := dk_2 (dk_at dksX9_runs_4 17 rfl rfl)
theorem dX9_runs_113 : decode cX9_runs 113 = .ok (.putfield 472, 3) := dk_181 1 216 (dk_at dksX9_runs_4 18 rfl rfl)
theorem dX9_runs_116 : decode cX9_runs 116 = .ok (.aload_n 0, 1) := dk_42 (dk_at dksX9_runs_4 21 rfl rfl)
theorem dX9_runs_117 : decode cX9_runs 117 = .ok (.iconst 0, 1) := dk_3 (dk_at dksX9_runs_4 22 rfl rfl)
theorem dX9_runs_118 : decode cX9_runs 118 = .ok (.putfield 511, 3) := dk_181 1 255 (dk_at dksX9_runs_5 0 rfl rfl)
theorem dX9_runs_121 : decode cX9_runs 121 = .ok (.aload_n 0, 1) := dk_42 (dk_at dksX9_runs_5 3 rfl rfl)
theorem dX9_runs_122 : decode cX9_runs 122 = .ok (.iconst 0, 1) := dk_3 (dk_at dksX9_runs_5 4 rfl rfl)
theorem dX9_runs_123 : decode cX9_runs 123 = .ok (.putfield 496, 3) := dk_181 1 240 (dk_at dksX9_runs_5 5 rfl rfl)
theorem dX9_runs_126 : decode cX9_runs 126 = .ok (.aload_n 0, 1) := dk_42 (dk_at dksX9_runs_5 8 rfl rfl)
theorem dX9_runs_127 : decode cX9_runs 127 = .ok (.iconst 0, 1) := dk_3 (dk_at dksX9_runs_5 9 rfl rfl)
theorem dX9_runs_128 : decode cX9_runs 128 = .ok (.putfield 546, 3) := dk_181 2 34 (dk_at dksX9_runs_5 10 rfl rfl)
theorem dX9_runs_131 : decode cX9_runs 131 = .ok (.aload_n 0, 1) := dk_42 (dk_at dksX9_runs_5 13 rfl rfl)
theorem dX9_runs_132 : decode cX9_runs 132 = .ok (.iload_n 1, 1) := dk_27 (dk_at dksX9_runs_5 14 rfl rfl)
theorem dX9_runs_133 : decode cX9_runs 133 = .ok (.iload_n 2, 1) := dk_28 (dk_at dksX9_runs_5 15 rfl rfl)
theorem dX9_runs_134 : decode cX9_runs 134 = .ok (.iload_n 3, 1) := dk_29 (dk_at dksX9_runs_5 16 rfl rfl)
theorem dX9_runs_135 : decode cX9_runs 135 = .ok (.iconst (-1), 1) := dk_2 (dk_at dksX9_runs_5 17 rfl rfl)
theorem dX9_runs_136 : decode cX9_runs 136 = .ok (.invokevirtual 542, 3) := dk_182 2 30 (dk_at dksX9_runs_5 18 rfl rfl)
theorem dX9_runs_139 : decode cX9_runs 139 = .ok (.aload_n 0, 1) := dk_42 (dk_at dksX9_runs_5 21 rfl rfl)
theorem dX9_runs_140 : decode cX9_runs 140 = .ok (.getfield 472, 3) := dk_180 1 216 (dk_at dksX9_runs_6 0 rfl rfl)
theorem dX9_runs_143 : decode cX9_runs 143 = .ok (.ifCond .ge 10, 3) := dk_156 0 10 (dk_at dksX9_runs_6 3 rfl rfl)
theorem dX9_runs_146 : decode cX9_runs 146 = .ok (.aload_n 0, 1) := dk_42 (dk_at dksX9_runs_6 6 rfl rfl)
theorem dX9_runs_147 : decode cX9_runs 147 = .ok (.invokevirtual 606, 3) := dk_182 2 94 (dk_at dksX9_runs_6 7 rfl rfl)
theorem dX9_runs_150 : decode cX9_runs 150 = .ok (.goto (-11), 3) := dk_167 255 245 (dk_at dksX9_runs_6 10 rfl rfl)
theorem dX9_runs_153 : decode cX9_runs 153 = .ok (.aload_n 0, 1) := dk_42 (dk_at dksX9_runs_6 13 rfl rfl)
theorem dX9_runs_154 : decode cX9_runs 154 = .ok (.getfield 142, 3) := dk_180 0 142 (dk_at dksX9_runs_6 14 rfl rfl)
theorem dX9_runs_157 : decode cX9_runs 157 = .ok (.bipush 10, 2) := dk_16 10 (dk_at dksX9_runs_6 17 rfl rfl)
theorem dX9_runs_159 : decode cX9_runs 159 = .ok (.aload_n 0, 1) := dk_42 (dk_at dksX9_runs_6 19 rfl rfl)
theorem dX9_runs_160 : decode cX9_runs 160 = .ok (.getfield 475, 3) := dk_180 1 219 (dk_at dksX9_runs_6 20 rfl rfl)
theorem dX9_runs_163 : decode cX9_runs 163 = .ok (.imul, 1) := dk_104 (dk_at dksX9_runs_6 23 rfl rfl)
theorem dX9_runs_164 : decode cX9_runs 164 = .ok (.aload_n 0, 1) := dk_42 (dk_at dksX9_runs_7 0 rfl rfl)
theorem dX9_runs_165 : decode cX9_runs 165 = .ok (.getfield 472, 3) := dk_180 1 216 (dk_at dksX9_runs_7 1 rfl rfl)
theorem dX9_runs_168 : decode cX9_runs 168 = .ok (.iastore, 1) := dk_79 (dk_at dksX9_runs_7 4 rfl rfl)
theorem dX9_runs_169 : decode cX9_runs 169 = .ok (.aload_n 0, 1) := dk_42 (dk_at dksX9_runs_7 5 rfl rfl)
theorem dX9_runs_170 : decode cX9_runs 170 = .ok (.getfield 472, 3) := dk_180 1 216 (dk_at dksX9_runs_7 6 rfl rfl)
theorem dX9_runs_173 : decode cX9_runs 173 = .ok (.ireturn, 1) := dk_172 (dk_at dksX9_runs_7 9 rfl rfl)
theorem okX9_runs_0 : XOkL xms rX9_runs bX9_runs_0 := xcP (xok_iconst dX9_runs_0 rfl) rfl (xcP (xok_istore dX9_runs_1) rfl (xcP xok_fal rfl trivial))
theorem okX9_runs_3 : XOkL xms rX9_runs bX9_runs_3 := xcP (xok_iload dX9_runs_3) rfl (xcP (xok_bipush dX9_runs_5 rfl) rfl (xcP (xok_icmpge dX9_runs_7 (by decide)) rfl (xcP (xok_aload_n dX9_runs_10 rfl) rfl (xcP (xok_getfield (ref := "WaysAtlasModel") (Or.inr ⟨rfl, by decide⟩) dX9_runs_11 (Or.inl ⟨q1979, (Or.inl rfl)⟩) xh1086) rfl (xcP (xok_bipush dX9_runs_14 rfl) rfl (xcP (xok_aload_n dX9_runs_16 rfl) rfl (xcP (xok_getfield (ref := "WaysAtlasModel") (Or.inl ⟨rfl, by decide⟩) dX9_runs_17 (Or.inl ⟨q1978, (Or.inl rfl)⟩) xh58) rfl (xcP (xok_imul dX9_runs_20) rfl (xcP (xok_iload dX9_runs_21) rfl (xcP (xok_iadd dX9_runs_23) rfl (xcP (xok_iconst dX9_runs_24 rfl) rfl (xcP (xok_iastore dX9_runs_25) rfl (xcP (xok_iinc dX9_runs_26 rfl) rfl (xcP (xok_goto dX9_runs_29 (by decide)) rfl trivial))))))))))))))
theorem okX9_runs_32 : XOkL xms rX9_runs bX9_runs_32 := xcP (xok_aload_n dX9_runs_32 rfl) rfl (xcP (xok_getfield (ref := "WaysAtlasModel") (Or.inr ⟨rfl, by decide⟩) dX9_runs_33 (Or.inl ⟨q1979, (Or.inl rfl)⟩) xh1086) rfl (xcP (xok_bipush dX9_runs_36 rfl) rfl (xcP (xok_aload_n dX9_runs_38 rfl) rfl (xcP (xok_getfield (ref := "WaysAtlasModel") (Or.inl ⟨rfl, by decide⟩) dX9_runs_39 (Or.inl ⟨q1978, (Or.inl rfl)⟩) xh58) rfl (xcP (xok_imul dX9_runs_42) rfl (xcP (xok_iconst dX9_runs_43 rfl) rfl (xcP (xok_iadd dX9_runs_44) rfl (xcP (xok_bipush dX9_runs_45 rfl) rfl (xcP (xok_iastore dX9_runs_47) rfl (xcP (xok_iconst dX9_runs_48 rfl) rfl (xcP (xok_istore dX9_runs_49) rfl (xcP xok_fal rfl trivial))))))))))))
theorem okX9_runs_51 : XOkL xms rX9_runs bX9_runs_51 := xcP (xok_iload dX9_runs_51) rfl (xcP (xok_bipush dX9_runs_53 rfl) rfl (xcP (xok_icmpge dX9_runs_55 (by decide)) rfl (xcP (xok_aload_n dX9_runs_58 rfl) rfl (xcP (xok_getfield (ref := "WaysAtlasModel") (Or.inr ⟨rfl, by decide⟩) dX9_runs_59 (Or.inl ⟨q1989, (Or.inl rfl)⟩) xh1096) rfl (xcP (xok_bipush dX9_runs_62 rfl) rfl (xcP (xok_aload_n dX9_runs_64 rfl) rfl (xcP (xok_getfield (ref := "WaysAtlasModel") (Or.inl ⟨rfl, by decide⟩) dX9_runs_65 (Or.inl ⟨q1978, (Or.inl rfl)⟩) xh58) rfl (xcP (xok_imul dX9_runs_68) rfl (xcP (xok_iload dX9_runs_69) rfl (xcP (xok_iadd dX9_runs_71) rfl (xcP (xok_iconst dX9_runs_72 rfl) rfl (xcP (xok_iastore dX9_runs_73) rfl (xcP (xok_iinc dX9_runs_74 rfl) rfl (xcP (xok_goto dX9_runs_77 (by decide)) rfl trivial))))))))))))))
theorem okX9_runs_80 : XOkL xms rX9_runs bX9_runs_80 := xcP (xok_iconst dX9_runs_80 rfl) rfl (xcP (xok_istore dX9_runs_81) rfl (xcP xok_fal rfl trivial))
theorem okX9_runs_83 : XOkL xms rX9_runs bX9_runs_83 := xcP (xok_iload dX9_runs_83) rfl (xcP (xok_sipush dX9_runs_85 rfl) rfl (xcP (xok_icmpge dX9_runs_88 (by decide)) rfl (xcP (xok_aload_n dX9_runs_91 rfl) rfl (xcP (xok_getfield (ref := "WaysAtlasModel") (Or.inr ⟨rfl, by decide⟩) dX9_runs_92 (Or.inl ⟨q2011, (Or.inl rfl)⟩) xh1111) rfl (xcP (xok_iload dX9_runs_95) rfl (xcP (xok_iconst dX9_runs_97 rfl) rfl (xcP (xok_iastore dX9_runs_98) rfl (xcP (xok_iinc dX9_runs_99 rfl) rfl (xcP (xok_goto dX9_runs_102 (by decide)) rfl trivial)))))))))
theorem okX9_runs_105 : XOkL xms rX9_runs bX9_runs_105 := xcP (xok_aload_n dX9_runs_105 rfl) rfl (xcP (xok_iload dX9_runs_106) rfl (xcP (xok_putfield (ref := "WaysAtlasModel") (Or.inl ⟨rfl, by decide, rfl⟩) dX9_runs_108 (Or.inl ⟨q1990, (Or.inl rfl)⟩) (Or.inl rfl) xh59) rfl (xcP (xok_aload_n dX9_runs_111 rfl) rfl (xcP (xok_iconst dX9_runs_112 rfl) rfl (xcP (xok_putfield (ref := "WaysAtlasModel") (Or.inl ⟨rfl, by decide, rfl⟩) dX9_runs_113 (Or.inl ⟨q1991, (Or.inl rfl)⟩) (Or.inl rfl) xh60) rfl (xcP (xok_aload_n dX9_runs_116 rfl) rfl (xcP (xok_iconst dX9_runs_117 rfl) rfl (xcP (xok_putfield (ref := "WaysAtlasModel") (Or.inl ⟨rfl, by decide, rfl⟩) dX9_runs_118 (Or.inl ⟨q1994, (Or.inl rfl)⟩) (Or.inl rfl) xh63) rfl (xcP (xok_aload_n dX9_runs_121 rfl) rfl (xcP (xok_iconst dX9_runs_122 rfl) rfl (xcP (xok_putfield (ref := "WaysAtlasModel") (Or.inl ⟨rfl, by decide, rfl⟩) dX9_runs_123 (Or.inl ⟨q2003, (Or.inl rfl)⟩) (Or.inl rfl) xh64) rfl (xcP (xok_aload_n dX9_runs_126 rfl) rfl (xcP (xok_iconst dX9_runs_127 rfl) rfl (xcP (xok_putfield (ref := "WaysAtlasModel") (Or.inl ⟨rfl, by decide, rfl⟩) dX9_runs_128 (Or.inl ⟨q2008, (Or.inl rfl)⟩) (Or.inl rfl) xh65) rfl (xcP (xok_aload_n dX9_runs_131 rfl) rfl (xcP (xok_iload_n dX9_runs_132 rfl) rfl (xcP (xok_iload_n dX9_runs_133 rfl) rfl (xcP (xok_iload_n dX9_runs_134 rfl) rfl (xcP (xok_iconst dX9_runs_135 rfl) rfl (xcC0 (xokc_list (List.forall_mem_cons.mpr ⟨xokc_V (r := (RX9, TX9, 96)) xm160 (List.mem_of_getElem? (i := 9) rfl) (by decide) rfl dX9_runs_136 q2469 q2471 qs104 q149 q2472 (by decide +kernel), fun _ h => nomatch h⟩)) rfl (xcP xok_fal rfl trivial)))))))))))))))))))))
theorem okX9_runs_139 : XOkL xms rX9_runs bX9_runs_139 := xcP (xok_aload_n dX9_runs_139 rfl) rfl (xcP (xok_getfield (ref := "WaysAtlasModel") (Or.inl ⟨rfl, by decide⟩) dX9_runs_140 (Or.inl ⟨q1991, (Or.inl rfl)⟩) xh60) rfl (xcP (xok_ifge dX9_runs_143 (by decide)) rfl (xcP (xok_aload_n dX9_runs_146 rfl) rfl (xcC0 (xokc_list (List.forall_mem_cons.mpr ⟨xokc_V (r := (RX9, TX9, 96)) xm164 (List.mem_of_getElem? (i := 9) rfl) (by decide) rfl dX9_runs_147 q2485 q2487 qs108 q149 q2488 (by decide +kernel), fun _ h => nomatch h⟩)) rfl (xcP (xok_goto dX9_runs_150 (by decide)) rfl trivial)))))
theorem okX9_runs_153 : XOkL xms rX9_runs bX9_runs_153 := xcP (xok_aload_n dX9_runs_153 rfl) rfl (xcP (xok_getfield (ref := "WaysAtlasModel") (Or.inr ⟨rfl, by decide⟩) dX9_runs_154 (Or.inl ⟨q1979, (Or.inl rfl)⟩) xh1086) rfl (xcP (xok_bipush dX9_runs_157 rfl) rfl (xcP (xok_aload_n dX9_runs_159 rfl) rfl (xcP (xok_getfield (ref := "WaysAtlasModel") (Or.inl ⟨rfl, by decide⟩) dX9_runs_160 (Or.inl ⟨q1978, (Or.inl rfl)⟩) xh58) rfl (xcP (xok_imul dX9_runs_163) rfl (xcP (xok_aload_n dX9_runs_164 rfl) rfl (xcP (xok_getfield (ref := "WaysAtlasModel") (Or.inl ⟨rfl, by decide⟩) dX9_runs_165 (Or.inl ⟨q1991, (Or.inl rfl)⟩) xh60) rfl (xcP (xok_iastore dX9_runs_168) rfl (xcP (xok_aload_n dX9_runs_169 rfl) rfl (xcP (xok_getfield (ref := "WaysAtlasModel") (Or.inl ⟨rfl, by decide⟩) dX9_runs_170 (Or.inl ⟨q1991, (Or.inl rfl)⟩) xh60) rfl (xcR ⟨dX9_runs_173, rfl⟩)))))))))))
theorem okM_X9_runs : XOkM xms rX9_runs := xokM0 (List.forall_mem_cons.mpr ⟨⟨rfl, okX9_runs_0⟩, List.forall_mem_cons.mpr ⟨⟨rfl, okX9_runs_3⟩, List.forall_mem_cons.mpr ⟨⟨rfl, okX9_runs_32⟩, List.forall_mem_cons.mpr ⟨⟨rfl, okX9_runs_51⟩, List.forall_mem_cons.mpr ⟨⟨rfl, okX9_runs_80⟩, List.forall_mem_cons.mpr ⟨⟨rfl, okX9_runs_83⟩, List.forall_mem_cons.mpr ⟨⟨rfl, okX9_runs_105⟩, List.forall_mem_cons.mpr ⟨⟨rfl, okX9_runs_139⟩, List.forall_mem_cons.mpr ⟨⟨rfl, okX9_runs_153⟩, fun _ h => nomatch h⟩⟩⟩⟩⟩⟩⟩⟩⟩) (xokH0 rfl (fun _ _ => rfl)) (by decide +kernel) (by decide)
abbrev cX9_beginsMethod : ByteArray := prog_36_method_75_code
def dkwX9_beginsMethod_7 : List UInt8 := [180, 0, 87, 16, 8, 42, 180, 0, 235, 104, 27, 96, 46, 182, 2, 24, 177]
abbrev dktX9_beginsMethod_7 : List UInt8 := dkwX9_beginsMethod_7 ++ []
def dkwX9_beginsMethod_6 : List UInt8 := [182, 1, 237, 164, 0, 10, 42, 180, 1, 240, 167, 0, 9, 42, 16, 8, 182, 1, 237, 79, 42, 42]
abbrev dktX9_beginsMethod_6 : List UInt8 := dkwX9_beginsMethod_6 ++ dktX9_beginsMethod_7
def dkwX9_beginsMethod_5 : List UInt8 := [181, 1, 240, 42, 180, 0, 142, 16, 10, 42, 180, 1, 219, 104, 16, 8, 96, 42, 180, 1, 240, 42, 16, 8]
abbrev dktX9_beginsMethod_5 : List UInt8 := dkwX9_beginsMethod_5 ++ dktX9_beginsMethod_6
def dkwX9_beginsMethod_4 : List UInt8 := [6, 42, 180, 1, 240, 104, 21, 5, 96, 2, 79, 132, 5, 1, 167, 255, 232, 42, 89, 180, 1, 240, 4, 96]
abbrev dktX9_beginsMethod_4 : List UInt8 := dkwX9_beginsMethod_4 ++ dktX9_beginsMethod_5
def dkwX9_beginsMethod_3 : List UInt8 := [167, 0, 4, 3, 79, 132, 5, 1, 167, 255, 211, 3, 54, 5, 21, 5, 6, 162, 0, 24, 42, 180, 0, 202]
abbrev dktX9_beginsMethod_3 : List UInt8 := dkwX9_beginsMethod_3 ++ dktX9_beginsMethod_4
def dkwX9_beginsMethod_2 : List UInt8 := [180, 1, 240, 104, 21, 5, 96, 21, 5, 154, 0, 7, 28, 167, 0, 14, 21, 5, 4, 160, 0, 7, 29]
abbrev dktX9_beginsMethod_2 : List UInt8 := dkwX9_beginsMethod_2 ++ dktX9_beginsMethod_3
def dkwX9_beginsMethod_1 : List UInt8 := [180, 1, 240, 16, 247, 79, 3, 54, 5, 21, 5, 16, 6, 162, 0, 44, 42, 180, 0, 199, 16, 6, 42]
abbrev dktX9_beginsMethod_1 : List UInt8 := dkwX9_beginsMethod_1 ++ dktX9_beginsMethod_2
def dkwX9_beginsMethod_0 : List UInt8 := [42, 3, 21, 4, 3, 182, 2, 2, 42, 180, 0, 205, 42, 180, 1, 240, 27, 79, 42, 180, 0, 208, 42]
abbrev dktX9_beginsMethod_0 : List UInt8 := dkwX9_beginsMethod_0 ++ dktX9_beginsMethod_1
theorem dksX9_beginsMethod_0 : cX9_beginsMethod.data.toList.drop 0 = dktX9_beginsMethod_0 := by decide +kernel
theorem dksX9_beginsMethod_1 : cX9_beginsMethod.data.toList.drop 23 = dktX9_beginsMethod_1 := dk_seg dksX9_beginsMethod_0 23 rfl rfl
theorem dksX9_beginsMethod_2 : cX9_beginsMethod.data.toList.drop 46 = dktX9_beginsMethod_2 := dk_seg dksX9_beginsMethod_1 23 rfl rfl
theorem dksX9_beginsMethod_3 : cX9_beginsMethod.data.toList.drop 69 = dktX9_beginsMethod_3 := dk_seg dksX9_beginsMethod_2 23 rfl rfl
theorem dksX9_beginsMethod_4 : cX9_beginsMethod.data.toList.drop 93 = dktX9_beginsMethod_4 := dk_seg dksX9_beginsMethod_3 24 rfl rfl
theorem dksX9_beginsMethod_5 : cX9_beginsMethod.data.toList.drop 117 = dktX9_beginsMethod_5 := dk_seg dksX9_beginsMethod_4 24 rfl rfl
theorem dksX9_beginsMethod_6 : cX9_beginsMethod.data.toList.drop 141 = dktX9_beginsMethod_6 := dk_seg dksX9_beginsMethod_5 24 rfl rfl
theorem dksX9_beginsMethod_7 : cX9_beginsMethod.data.toList.drop 163 = dktX9_beginsMethod_7 := dk_seg dksX9_beginsMethod_6 22 rfl rfl
theorem dX9_beginsMethod_0 : decode cX9_beginsMethod 0 = .ok (.aload_n 0, 1) := dk_42 (dk_at dksX9_beginsMethod_0 0 rfl rfl)
theorem dX9_beginsMethod_1 : decode cX9_beginsMethod 1 = .ok (.iconst 0, 1) := dk_3 (dk_at dksX9_beginsMethod_0 1 rfl rfl)
theorem dX9_beginsMethod_2 : decode cX9_beginsMethod 2 = .ok (.iload 4, 2) := dk_21 4 (dk_at dksX9_beginsMethod_0 2 rfl rfl)
theorem dX9_beginsMethod_4 : decode cX9_beginsMethod 4 = .ok (.iconst 0, 1) := dk_3 (dk_at dksX9_beginsMethod_0 4 rfl rfl)
theorem dX9_beginsMethod_5 : decode cX9_beginsMethod 5 = .ok (.invokevirtual 514, 3) := dk_182 2 2 (dk_at dksX9_beginsMethod_0 5 rfl rfl)
theorem dX9_beginsMethod_8 : decode cX9_beginsMethod 8 = .ok (.aload_n 0, 1) := dk_42 (dk_at dksX9_beginsMethod_0 8 rfl rfl)
theorem dX9_beginsMethod_9 : decode cX9_beginsMethod 9 = .ok (.getfield 205, 3) := dk_180 0 205 (dk_at dksX9_beginsMethod_0 9 rfl rfl)
theorem dX9_beginsMethod_12 : decode cX9_beginsMethod 12 = .ok (.aload_n 0, 1) := dk_42 (dk_at dksX9_beginsMethod_0 12 rfl rfl)
theorem dX9_beginsMethod_13 : decode cX9_beginsMethod 13 = .ok (.getfield 496, 3) := dk_180 1 240 (dk_at dksX9_beginsMethod_0 13 rfl rfl)
theorem dX9_beginsMethod_16 : decode cX9_beginsMethod 16 = .ok (.iload_n 1, 1) := dk_27 (dk_at dksX9_beginsMethod_0 16 rfl rfl)
theorem dX9_beginsMethod_17 : decode cX9_beginsMethod 17 = .ok (.iastore, 1) := dk_79 (dk_at dksX9_beginsMethod_0 17 rfl rfl)
theorem dX9_beginsMethod_18 : decode cX9_beginsMethod 18 = .ok (.aload_n 0, 1) := dk_42 (dk_at dksX9_beginsMethod_0 18 rfl rfl)
theorem dX9_beginsMethod_19 : decode cX9_beginsMethod 19 = .ok (.getfield 208, 3) := dk_180 0 208 (dk_at dksX9_beginsMethod_0 19 rfl rfl)
theorem dX9_beginsMethod_22 : decode cX9_beginsMethod 22 = .ok (.aload_n 0, 1) := dk_42 (dk_at dksX9_beginsMethod_0 22 rfl rfl)
theorem dX9_beginsMethod_23 : decode cX9_beginsMethod 23 = .ok (.getfield 496, 3) := dk_180 1 240 (dk_at dksX9_beginsMethod_1 0 rfl rfl)
theorem dX9_beginsMethod_26 : decode cX9_beginsMethod 26 = .ok (.bipush (-9), 2) := dk_16 247 (dk_at dksX9_beginsMethod_1 3 rfl rfl)
theorem dX9_beginsMethod_28 : decode cX9_beginsMethod 28 = .ok (.iastore, 1) := dk_79 (dk_at dksX9_beginsMethod_1 5 rfl rfl)
theorem dX9_beginsMethod_29 : decode cX9_beginsMethod 29 = .ok (.iconst 0, 1) := dk_3 (dk_at dksX9_beginsMethod_1 6 rfl rfl)
theorem dX9_beginsMethod_30 : decode cX9_beginsMethod 30 = .ok (.istore 5, 2) := dk_54 5 (dk_at dksX9_beginsMethod_1 7 rfl rfl)
theorem dX9_beginsMethod_32 : decode cX9_beginsMethod 32 = .ok (.iload 5, 2) := dk_21 5 (dk_at dksX9_beginsMethod_1 9 rfl rfl)
theorem dX9_beginsMethod_34 : decode cX9_beginsMethod 34 = .ok (.bipush 6, 2) := dk_16 6 (dk_at dksX9_beginsMethod_1 11 rfl rfl)
theorem dX9_beginsMethod_36 : decode cX9_beginsMethod 36 = .ok (.if_icmp .ge 44, 3) := dk_162 0 44 (dk_at dksX9_beginsMethod_1 13 rfl rfl)
theorem dX9_beginsMethod_39 : decode cX9_beginsMethod 39 = .ok (.aload_n 0, 1) := dk_42 (dk_at dksX9_beginsMethod_1 16 rfl rfl)
theorem dX9_beginsMethod_40 : decode cX9_beginsMethod 40 = .ok (.getfield 199, 3) := dk_180 0 199 (dk_at dksX9_beginsMethod_1 17 rfl rfl)
theorem dX9_beginsMethod_43 : decode cX9_beginsMethod 43 = .ok (.bipush 6, 2) := dk_16 6 (dk_at dksX9_beginsMethod_1 20 rfl rfl)
theorem dX9_beginsMethod_45 : decode cX9_beginsMethod 45 = .ok (.aload_n 0, 1) := dk_42 (dk_at dksX9_beginsMethod_1 22 rfl rfl)
theorem dX9_beginsMethod_46 : decode cX9_beginsMethod 46 = .ok (.getfield 496, 3) := dk_180 1 240 (dk_at dksX9_beginsMethod_2 0 rfl rfl)
theorem dX9_beginsMethod_49 : decode cX9_beginsMethod 49 = .ok (.imul, 1) := dk_104 (dk_at dksX9_beginsMethod_2 3 rfl rfl)
theorem dX9_beginsMethod_50 : decode cX9_beginsMethod 50 = .ok (.iload 5, 2) := dk_21 5 (dk_at dksX9_beginsMethod_2 4 rfl rfl)
theorem dX9_beginsMethod_52 : decode cX9_beginsMethod 52 = .ok (.iadd, 1) := dk_96 (dk_at dksX9_beginsMethod_2 6 rfl rfl)
theorem dX9_beginsMethod_53 : decode cX9_beginsMethod 53 = .ok (.iload 5, 2) := dk_21 5 (dk_at dksX9_beginsMethod_2 7 rfl rfl)
theorem dX9_beginsMethod_55 : decode cX9_beginsMethod 55 = .ok (.ifCond .ne 7, 3) := dk_154 0 7 (dk_at dksX9_beginsMethod_2 9 rfl rfl)
theorem dX9_beginsMethod_58 : decode cX9_beginsMethod 58 = .ok (.iload_n 2, 1) := dk_28 (dk_at dksX9_beginsMethod_2 12 rfl rfl)
theorem dX9_beginsMethod_59 : decode cX9_beginsMethod 59 = .ok (.goto 14, 3) := dk_167 0 14 (dk_at dksX9_beginsMethod_2 13 rfl rfl)
theorem dX9_beginsMethod_62 : decode cX9_beginsMethod 62 = .ok (.iload 5, 2) := dk_21 5 (dk_at dksX9_beginsMethod_2 16 rfl rfl)
theorem dX9_beginsMethod_64 : decode cX9_beginsMethod 64 = .ok (.iconst 1, 1) := dk_4 (dk_at dksX9_beginsMethod_2 18 rfl rfl)
theorem dX9_beginsMethod_65 : decode cX9_beginsMethod 65 = .ok (.if_icmp .ne 7, 3) := dk_160 0 7 (dk_at dksX9_beginsMethod_2 19 rfl rfl)
theorem dX9_beginsMethod_68 : decode cX9_beginsMethod 68 = .ok (.iload_n 3, 1) := dk_29 (dk_at dksX9_beginsMethod_2 22 rfl rfl)
theorem dX9_beginsMethod_69 : decode cX9_beginsMethod 69 = .ok (.goto 4, 3) := dk_167 0 4 (dk_at dksX9_beginsMethod_3 0 rfl rfl)
theorem dX9_beginsMethod_72 : decode cX9_beginsMethod 72 = .ok (.iconst 0, 1) := dk_3 (dk_at dksX9_beginsMethod_3 3 rfl rfl)
theorem dX9_beginsMethod_73 : decode cX9_beginsMethod 73 = .ok (.iastore, 1) := dk_79 (dk_at dksX9_beginsMethod_3 4 rfl rfl)
theorem dX9_beginsMethod_74 : decode cX9_beginsMethod 74 = .ok (.iinc 5 1, 3) := dk_132 5 1 (dk_at dksX9_beginsMethod_3 5 rfl rfl)
theorem dX9_beginsMethod_77 : decode cX9_beginsMethod 77 = .ok (.goto (-45), 3) := dk_167 255 211 (dk_at dksX9_beginsMethod_3 8 rfl rfl)
theorem dX9_beginsMethod_80 : decode cX9_beginsMethod 80 = .ok (.iconst 0, 1) := dk_3 (dk_at dksX9_beginsMethod_3 11 rfl rfl)
theorem dX9_beginsMethod_81 : decode cX9_beginsMethod 81 = .ok (.istore 5, 2) := dk_54 5 (dk_at dksX9_beginsMethod_3 12 rfl rfl)
theorem dX9_beginsMethod_83 : decode cX9_beginsMethod 83 = .ok (.iload 5, 2) := dk_21 5 (dk_at dksX9_beginsMethod_3 14 rfl rfl)
theorem dX9_beginsMethod_85 : decode cX9_beginsMethod 85 = .ok (.iconst 3, 1) := dk_6 (dk_at dksX9_beginsMethod_3 16 rfl rfl)
theorem dX9_beginsMethod_86 : decode cX9_beginsMethod 86 = .ok (.if_icmp .ge 24, 3) := dk_162 0 24 (dk_at dksX9_beginsMethod_3 17 rfl rfl)
theorem dX9_beginsMethod_89 : decode cX9_beginsMethod 89 = .ok (.aload_n 0, 1) := dk_42 (dk_at dksX9_beginsMethod_3 20 rfl rfl)
theorem dX9_beginsMethod_90 : decode cX9_beginsMethod 90 = .ok (.getfield 202, 3) := dk_180 0 202 (dk_at dksX9_beginsMethod_3 21 rfl rfl)
theorem dX9_beginsMethod_93 : decode cX9_beginsMethod 93 = .ok (.iconst 3, 1) := dk_6 (dk_at dksX9_beginsMethod_4 0 rfl rfl)
theorem dX9_beginsMethod_94 : decode cX9_beginsMethod 94 = .ok (.aload_n 0, 1) := dk_42 (dk_at dksX9_beginsMethod_4 1 rfl rfl)
theorem dX9_beginsMethod_95 : decode cX9_beginsMethod 95 = .ok (.getfield 496, 3) := dk_180 1 240 (dk_at dksX9_beginsMethod_4 2 rfl rfl)
theorem dX9_beginsMethod_98 : decode cX9_beginsMethod 98 = .ok (.imul, 1) := dk_104 (dk_at dksX9_beginsMethod_4 5 rfl rfl)
theorem dX9_beginsMethod_99 : decode cX9_beginsMethod 99 = .ok (.iload 5, 2) := dk_21 5 (dk_at dksX9_beginsMethod_4 6 rfl rfl)
theorem dX9_beginsMethod_101 : decode cX9_beginsMethod 101 = .ok (.iadd, 1) := dk_96 (dk_at dksX9_beginsMethod_4 8 rfl rfl)
theorem dX9_beginsMethod_102 : decode cX9_beginsMethod 102 = .ok (.iconst (-1), 1) := dk_2 (dk_at dksX9_beginsMethod_4 9 rfl rfl)
theorem dX9_beginsMethod_103 : decode cX9_beginsMethod 103 = .ok (.iastore, 1) := dk_79 (dk_at dksX9_beginsMethod_4 10 rfl rfl)
theorem dX9_beginsMethod_104 : decode cX9_beginsMethod 104 = .ok (.iinc 5 1, 3) := dk_132 5 1 (dk_at dksX9_beginsMethod_4 11 rfl rfl)
theorem dX9_beginsMethod_107 : decode cX9_beginsMethod 107 = .ok (.goto (-24), 3) := dk_167 255 232 (dk_at dksX9_beginsMethod_4 14 rfl rfl)
theorem dX9_beginsMethod_110 : decode cX9_beginsMethod 110 = .ok (.aload_n 0, 1) := dk_42 (dk_at dksX9_beginsMethod_4 17 rfl rfl)
theorem dX9_beginsMethod_111 : decode cX9_beginsMethod 111 = .ok (.dup, 1) := dk_89 (dk_at dksX9_beginsMethod_4 18 rfl rfl)
theorem dX9_beginsMethod_112 : decode cX9_beginsMethod 112 = .ok (.getfield 496, 3) := dk_180 1 240 (dk_at dksX9_beginsMethod_4 19 rfl rfl)
theorem dX9_beginsMethod_115 : decode cX9_beginsMethod 115 = .ok (.iconst 1, 1) := dk_4 (dk_at dksX9_beginsMethod_4 22 rfl rfl)
theorem dX9_beginsMethod_116 : decode cX9_beginsMethod 116 = .ok (.iadd, 1) := dk_96 (dk_at dksX9_beginsMethod_4 23 rfl rfl)
theorem dX9_beginsMethod_117 : decode cX9_beginsMethod 117 = .ok (.putfield 496, 3) := dk_181 1 240 (dk_at dksX9_beginsMethod_5 0 rfl rfl)
theorem dX9_beginsMethod_120 : decode cX9_beginsMethod 120 = .ok (.aload_n 0, 1) := dk_42 (dk_at dksX9_beginsMethod_5 3 rfl rfl)
theorem dX9_beginsMethod_121 : decode cX9_beginsMethod 121 = .ok (.getfield 142, 3) := dk_180 0 142 (dk_at dksX9_beginsMethod_5 4 rfl rfl)
theorem dX9_beginsMethod_124 : decode cX9_beginsMethod 124 = .ok (.bipush 10, 2) := dk_16 10 (dk_at dksX9_beginsMethod_5 7 rfl rfl)
theorem dX9_beginsMethod_126 : decode cX9_beginsMethod 126 = .ok (.aload_n 0, 1) := dk_42 (dk_at dksX9_beginsMethod_5 9 rfl rfl)
theorem dX9_beginsMethod_127 : decode cX9_beginsMethod 127 = .ok (.getfield 475, 3) := dk_180 1 219 (dk_at dksX9_beginsMethod_5 10 rfl rfl)
theorem dX9_beginsMethod_130 : decode cX9_beginsMethod 130 = .ok (.imul, 1) := dk_104 (dk_at dksX9_beginsMethod_5 13 rfl rfl)
theorem dX9_beginsMethod_131 : decode cX9_beginsMethod 131 = .ok (.bipush 8, 2) := dk_16 8 (dk_at dksX9_beginsMethod_5 14 rfl rfl)
theorem dX9_beginsMethod_133 : decode cX9_beginsMethod 133 = .ok (.iadd, 1) := dk_96 (dk_at dksX9_beginsMethod_5 16 rfl rfl)
theorem dX9_beginsMethod_134 : decode cX9_beginsMethod 134 = .ok (.aload_n 0, 1) := dk_42 (dk_at dksX9_beginsMethod_5 17 rfl rfl)
theorem dX9_beginsMethod_135 : decode cX9_beginsMethod 135 = .ok (.getfield 496, 3) := dk_180 1 240 (dk_at dksX9_beginsMethod_5 18 rfl rfl)
theorem dX9_beginsMethod_138 : decode cX9_beginsMethod 138 = .ok (.aload_n 0, 1) := dk_42 (dk_at dksX9_beginsMethod_5 21 rfl rfl)
theorem dX9_beginsMethod_139 : decode cX9_beginsMethod 139 = .ok (.bipush 8, 2) := dk_16 8 (dk_at dksX9_beginsMethod_5 22 rfl rfl)
theorem dX9_beginsMethod_141 : decode cX9_beginsMethod 141 = .ok (.invokevirtual 493, 3) := dk_182 1 237 (dk_at dksX9_beginsMethod_6 0 rfl rfl)
theorem dX9_beginsMethod_144 : decode cX9_beginsMethod 144 = .ok (.if_icmp .le 10, 3) := dk_164 0 10 (dk_at dksX9_beginsMethod_6 3 rfl rfl)
theorem dX9_beginsMethod_147 : decode cX9_beginsMethod 147 = .ok (.aload_n 0, 1) := dk_42 (dk_at dksX9_beginsMethod_6 6 rfl rfl)
theorem dX9_beginsMethod_148 : decode cX9_beginsMethod 148 = .ok (.getfield 496, 3) := dk_180 1 240 (dk_at dksX9_beginsMethod_6 7 rfl rfl)
theorem dX9_beginsMethod_151 : decode cX9_beginsMethod 151 = .ok (.goto 9, 3) := dk_167 0 9 (dk_at dksX9_beginsMethod_6 10 rfl rfl)
theorem dX9_beginsMethod_154 : decode cX9_beginsMethod 154 = .ok (.aload_n 0, 1) := dk_42 (dk_at dksX9_beginsMethod_6 13 rfl rfl)
theorem dX9_beginsMethod_155 : decode cX9_beginsMethod 155 = .ok (.bipush 8, 2) := dk_16 8 (dk_at dksX9_beginsMethod_6 14 rfl rfl)
theorem dX9_beginsMethod_157 : decode cX9_beginsMethod 157 = .ok (.invokevirtual 493, 3) := dk_182 1 237 (dk_at dksX9_beginsMethod_6 16 rfl rfl)
theorem dX9_beginsMethod_160 : decode cX9_beginsMethod 160 = .ok (.iastore, 1) := dk_79 (dk_at dksX9_beginsMethod_6 19 rfl rfl)
theorem dX9_beginsMethod_161 : decode cX9_beginsMethod 161 = .ok (.aload_n 0, 1) := dk_42 (dk_at dksX9_beginsMethod_6 20 rfl rfl)
theorem dX9_beginsMethod_162 : decode cX9_beginsMethod 162 = .ok (.aload_n 0, 1) := dk_42 (dk_at dksX9_beginsMethod_6 21 rfl rfl)
theorem dX9_beginsMethod_163 : decode cX9_beginsMethod 163 = .ok (.getfield 87, 3) := dk_180 0 87 (dk_at dksX9_beginsMethod_7 0 rfl rfl)
theorem dX9_beginsMethod_166 : decode cX9_beginsMethod 166 = .ok (.bipush 8, 2) := dk_16 8 (dk_at dksX9_beginsMethod_7 3 rfl rfl)
theorem dX9_beginsMethod_168 : decode cX9_beginsMethod 168 = .ok (.aload_n 0, 1) := dk_42 (dk_at dksX9_beginsMethod_7 5 rfl rfl)
theorem dX9_beginsMethod_169 : decode cX9_beginsMethod 169 = .ok (.getfield 235, 3) := dk_180 0 235 (dk_at dksX9_beginsMethod_7 6 rfl rfl)
theorem dX9_beginsMethod_172 : decode cX9_beginsMethod 172 = .ok (.imul, 1) := dk_104 (dk_at dksX9_beginsMethod_7 9 rfl rfl)
theorem dX9_beginsMethod_173 : decode cX9_beginsMethod 173 = .ok (.iload_n 1, 1) := dk_27 (dk_at dksX9_beginsMethod_7 10 rfl rfl)
theorem dX9_beginsMethod_174 : decode cX9_beginsMethod 174 = .ok (.iadd, 1) := dk_96 (dk_at dksX9_beginsMethod_7 11 rfl rfl)
theorem dX9_beginsMethod_175 : decode cX9_beginsMethod 175 = .ok (.iaload, 1) := dk_46 (dk_at dksX9_beginsMethod_7 12 rfl rfl)
theorem dX9_beginsMethod_176 : decode cX9_beginsMethod 176 = .ok (.invokevirtual 536, 3) := dk_182 2 24 (dk_at dksX9_beginsMethod_7 13 rfl rfl)
theorem dX9_beginsMethod_179 : decode cX9_beginsMethod 179 = .ok (.return_, 1) := dk_177 (dk_at dksX9_beginsMethod_7 16 rfl rfl)
theorem okX9_beginsMethod_0 : XOkL xms rX9_beginsMethod bX9_beginsMethod_0 := xcP (xok_aload_n dX9_beginsMethod_0 rfl) rfl (xcP (xok_iconst dX9_beginsMethod_1 rfl) rfl (xcP (xok_iload dX9_beginsMethod_2) rfl (xcP (xok_iconst dX9_beginsMethod_4 rfl) rfl (xcC0 (xokc_list (List.forall_mem_cons.mpr ⟨xokc_V (r := (RX9, TX9, 96)) xm161 (List.mem_of_getElem? (i := 9) rfl) (by decide) rfl dX9_beginsMethod_5 q2473 q2475 qs105 q149 q2476 (by decide +kernel), fun _ h => nomatch h⟩)) rfl (xcP (xok_aload_n dX9_beginsMethod_8 rfl) rfl (xcP (xok_getfield (ref := "WaysAtlasModel") (Or.inr ⟨rfl, by decide⟩) dX9_beginsMethod_9 (Or.inl ⟨q2006, (Or.inl rfl)⟩) xh1107) rfl (xcP (xok_aload_n dX9_beginsMethod_12 rfl) rfl (xcP (xok_getfield (ref := "WaysAtlasModel") (Or.inl ⟨rfl, by decide⟩) dX9_beginsMethod_13 (Or.inl ⟨q2003, (Or.inl rfl)⟩) xh64) rfl (xcP (xok_iload_n dX9_beginsMethod_16 rfl) rfl (xcP (xok_iastore dX9_beginsMethod_17) rfl (xcP (xok_aload_n dX9_beginsMethod_18 rfl) rfl (xcP (xok_getfield (ref := "WaysAtlasModel") (Or.inr ⟨rfl, by decide⟩) dX9_beginsMethod_19 (Or.inl ⟨q2007, (Or.inl rfl)⟩) xh1108) rfl (xcP (xok_aload_n dX9_beginsMethod_22 rfl) rfl (xcP (xok_getfield (ref := "WaysAtlasModel") (Or.inl ⟨rfl, by decide⟩) dX9_beginsMethod_23 (Or.inl ⟨q2003, (Or.inl rfl)⟩) xh64) rfl (xcP (xok_bipush dX9_beginsMethod_26 rfl) rfl (xcP (xok_iastore dX9_beginsMethod_28) rfl (xcP (xok_iconst dX9_beginsMethod_29 rfl) rfl (xcP (xok_istore dX9_beginsMethod_30) rfl (xcP xok_fal rfl trivial)))))))))))))))))))
theorem okX9_beginsMethod_32 : XOkL xms rX9_beginsMethod bX9_beginsMethod_32 := xcP (xok_iload dX9_beginsMethod_32) rfl (xcP (xok_bipush dX9_beginsMethod_34 rfl) rfl (xcP (xok_icmpge dX9_beginsMethod_36 (by decide)) rfl (xcP (xok_aload_n dX9_beginsMethod_39 rfl) rfl (xcP (xok_getfield (ref := "WaysAtlasModel") (Or.inr ⟨rfl, by decide⟩) dX9_beginsMethod_40 (Or.inl ⟨q2004, (Or.inl rfl)⟩) xh1105) rfl (xcP (xok_bipush dX9_beginsMethod_43 rfl) rfl (xcP (xok_aload_n dX9_beginsMethod_45 rfl) rfl (xcP (xok_getfield (ref := "WaysAtlasModel") (Or.inl ⟨rfl, by decide⟩) dX9_beginsMethod_46 (Or.inl ⟨q2003, (Or.inl rfl)⟩) xh64) rfl (xcP (xok_imul dX9_beginsMethod_49) rfl (xcP (xok_iload dX9_beginsMethod_50) rfl (xcP (xok_iadd dX9_beginsMethod_52) rfl (xcP (xok_iload dX9_beginsMethod_53) rfl (xcP (xok_ifne dX9_beginsMethod_55 (by decide)) rfl (xcP (xok_iload_n dX9_beginsMethod_58 rfl) rfl (xcP (xok_goto dX9_beginsMethod_59 (by decide)) rfl trivial))))))))))))))
theorem okX9_beginsMethod_62 : XOkL xms rX9_beginsMethod bX9_beginsMethod_62 := xcP (xok_iload dX9_beginsMethod_62) rfl (xcP (xok_iconst dX9_beginsMethod_64 rfl) rfl (xcP (xok_icmpne dX9_beginsMethod_65 (by decide)) rfl (xcP (xok_iload_n dX9_beginsMethod_68 rfl) rfl (xcP (xok_goto dX9_beginsMethod_69 (by decide)) rfl trivial))))
theorem okX9_beginsMethod_72 : XOkL xms rX9_beginsMethod bX9_beginsMethod_72 := xcP (xok_iconst dX9_beginsMethod_72 rfl) rfl (xcP xok_fal rfl trivial)
theorem okX9_beginsMethod_73 : XOkL xms rX9_beginsMethod bX9_beginsMethod_73 := xcP (xok_iastore dX9_beginsMethod_73) rfl (xcP (xok_iinc dX9_beginsMethod_74 rfl) rfl (xcP (xok_goto dX9_beginsMethod_77 (by decide)) rfl trivial))
theorem okX9_beginsMethod_80 : XOkL xms rX9_beginsMethod bX9_beginsMethod_80 := xcP (xok_iconst dX9_beginsMethod_80 rfl) rfl (xcP (xok_istore dX9_beginsMethod_81) rfl (xcP xok_fal rfl trivial))
theorem okX9_beginsMethod_83 : XOkL xms rX9_beginsMethod bX9_beginsMethod_83 := xcP (xok_iload dX9_beginsMethod_83) rfl (xcP (xok_iconst dX9_beginsMethod_85 rfl) rfl (xcP (xok_icmpge dX9_beginsMethod_86 (by decide)) rfl (xcP (xok_aload_n dX9_beginsMethod_89 rfl) rfl (xcP (xok_getfield (ref := "WaysAtlasModel") (Or.inr ⟨rfl, by decide⟩) dX9_beginsMethod_90 (Or.inl ⟨q2005, (Or.inl rfl)⟩) xh1106) rfl (xcP (xok_iconst dX9_beginsMethod_93 rfl) rfl (xcP (xok_aload_n dX9_beginsMethod_94 rfl) rfl (xcP (xok_getfield (ref := "WaysAtlasModel") (Or.inl ⟨rfl, by decide⟩) dX9_beginsMethod_95 (Or.inl ⟨q2003, (Or.inl rfl)⟩) xh64) rfl (xcP (xok_imul dX9_beginsMethod_98) rfl (xcP (xok_iload dX9_beginsMethod_99) rfl (xcP (xok_iadd dX9_beginsMethod_101) rfl (xcP (xok_iconst dX9_beginsMethod_102 rfl) rfl (xcP (xok_iastore dX9_beginsMethod_103) rfl (xcP (xok_iinc dX9_beginsMethod_104 rfl) rfl (xcP (xok_goto dX9_beginsMethod_107 (by decide)) rfl trivial))))))))))))))
theorem okX9_beginsMethod_110 : XOkL xms rX9_beginsMethod bX9_beginsMethod_110 := xcP (xok_aload_n dX9_beginsMethod_110 rfl) rfl (xcP (xok_dup dX9_beginsMethod_111) rfl (xcP (xok_getfield (ref := "WaysAtlasModel") (Or.inl ⟨rfl, by decide⟩) dX9_beginsMethod_112 (Or.inl ⟨q2003, (Or.inl rfl)⟩) xh64) rfl (xcP (xok_iconst dX9_beginsMethod_115 rfl) rfl (xcP (xok_iadd dX9_beginsMethod_116) rfl (xcP (xok_putfield (ref := "WaysAtlasModel") (Or.inl ⟨rfl, by decide, rfl⟩) dX9_beginsMethod_117 (Or.inl ⟨q2003, (Or.inl rfl)⟩) (Or.inl rfl) xh64) rfl (xcP (xok_aload_n dX9_beginsMethod_120 rfl) rfl (xcP (xok_getfield (ref := "WaysAtlasModel") (Or.inr ⟨rfl, by decide⟩) dX9_beginsMethod_121 (Or.inl ⟨q1979, (Or.inl rfl)⟩) xh1086) rfl (xcP (xok_bipush dX9_beginsMethod_124 rfl) rfl (xcP (xok_aload_n dX9_beginsMethod_126 rfl) rfl (xcP (xok_getfield (ref := "WaysAtlasModel") (Or.inl ⟨rfl, by decide⟩) dX9_beginsMethod_127 (Or.inl ⟨q1978, (Or.inl rfl)⟩) xh58) rfl (xcP (xok_imul dX9_beginsMethod_130) rfl (xcP (xok_bipush dX9_beginsMethod_131 rfl) rfl (xcP (xok_iadd dX9_beginsMethod_133) rfl (xcP (xok_aload_n dX9_beginsMethod_134 rfl) rfl (xcP (xok_getfield (ref := "WaysAtlasModel") (Or.inl ⟨rfl, by decide⟩) dX9_beginsMethod_135 (Or.inl ⟨q2003, (Or.inl rfl)⟩) xh64) rfl (xcP (xok_aload_n dX9_beginsMethod_138 rfl) rfl (xcP (xok_bipush dX9_beginsMethod_139 rfl) rfl (xcC0 (xokc_list (List.forall_mem_cons.mpr ⟨xokc_V (r := (RX9, TX9, 96)) xm162 (List.mem_of_getElem? (i := 9) rfl) (by decide) rfl dX9_beginsMethod_141 q2477 q2479 qs106 q149 q2480 (by decide +kernel), fun _ h => nomatch h⟩)) rfl (xcP (xok_icmple dX9_beginsMethod_144 (by decide)) rfl (xcP (xok_aload_n dX9_beginsMethod_147 rfl) rfl (xcP (xok_getfield (ref := "WaysAtlasModel") (Or.inl ⟨rfl, by decide⟩) dX9_beginsMethod_148 (Or.inl ⟨q2003, (Or.inl rfl)⟩) xh64) rfl (xcP (xok_goto dX9_beginsMethod_151 (by decide)) rfl trivial))))))))))))))))))))))
theorem okX9_beginsMethod_154 : XOkL xms rX9_beginsMethod bX9_beginsMethod_154 := xcP (xok_aload_n dX9_beginsMethod_154 rfl) rfl (xcP (xok_bipush dX9_beginsMethod_155 rfl) rfl (xcC0 (xokc_list (List.forall_mem_cons.mpr ⟨xokc_V (r := (RX9, TX9, 96)) xm162 (List.mem_of_getElem? (i := 9) rfl) (by decide) rfl dX9_beginsMethod_157 q2477 q2479 qs106 q149 q2480 (by decide +kernel), fun _ h => nomatch h⟩)) rfl (xcP xok_fal rfl trivial)))
theorem okX9_beginsMethod_160 : XOkL xms rX9_beginsMethod bX9_beginsMethod_160 := xcP (xok_iastore dX9_beginsMethod_160) rfl (xcP (xok_aload_n dX9_beginsMethod_161 rfl) rfl (xcP (xok_aload_n dX9_beginsMethod_162 rfl) rfl (xcP (xok_getfield (ref := "WaysAtlasModel") (Or.inr ⟨rfl, by decide⟩) dX9_beginsMethod_163 (Or.inl ⟨q1949, (Or.inl rfl)⟩) xh1068) rfl (xcP (xok_bipush dX9_beginsMethod_166 rfl) rfl (xcP (xok_aload_n dX9_beginsMethod_168 rfl) rfl (xcP (xok_getfield (ref := "WaysAtlasModel") (Or.inl ⟨rfl, by decide⟩) dX9_beginsMethod_169 (Or.inl ⟨q1937, (Or.inl rfl)⟩) xh44) rfl (xcP (xok_imul dX9_beginsMethod_172) rfl (xcP (xok_iload_n dX9_beginsMethod_173 rfl) rfl (xcP (xok_iadd dX9_beginsMethod_174) rfl (xcP (xok_iaload dX9_beginsMethod_175) rfl (xcC0 (xokc_list (List.forall_mem_cons.mpr ⟨xokc_V (r := (RX9, TX9, 96)) xm163 (List.mem_of_getElem? (i := 9) rfl) (by decide) rfl dX9_beginsMethod_176 q2481 q2483 qs107 q149 q2484 (by decide +kernel), fun _ h => nomatch h⟩)) rfl (xcR ⟨dX9_beginsMethod_179, rfl⟩))))))))))))
theorem okM_X9_beginsMethod : XOkM xms rX9_beginsMethod := xokM0 (List.forall_mem_cons.mpr ⟨⟨rfl, okX9_beginsMethod_0⟩, List.forall_mem_cons.mpr ⟨⟨rfl, okX9_beginsMethod_32⟩, List.forall_mem_cons.mpr ⟨⟨rfl, okX9_beginsMethod_62⟩, List.forall_mem_cons.mpr ⟨⟨rfl, okX9_beginsMethod_72⟩, List.forall_mem_cons.mpr ⟨⟨rfl, okX9_beginsMethod_73⟩, List.forall_mem_cons.mpr ⟨⟨rfl, okX9_beginsMethod_80⟩, List.forall_mem_cons.mpr ⟨⟨rfl, okX9_beginsMethod_83⟩, List.forall_mem_cons.mpr ⟨⟨rfl, okX9_beginsMethod_110⟩, List.forall_mem_cons.mpr ⟨⟨rfl, okX9_beginsMethod_154⟩, List.forall_mem_cons.mpr ⟨⟨rfl, okX9_beginsMethod_160⟩, fun _ h => nomatch h⟩⟩⟩⟩⟩⟩⟩⟩⟩⟩) (xokH0 rfl (fun _ _ => rfl)) (by decide +kernel) (by decide)
abbrev cX9_pushes : ByteArray := prog_36_method_69_code
def dkwX9_pushes_3 : List UInt8 := [180, 0, 196, 42, 180, 1, 255, 16, 247, 79, 42, 89, 180, 1, 255, 4, 96, 181, 1, 255, 177]
abbrev dktX9_pushes_3 : List UInt8 := dkwX9_pushes_3 ++ []
def dkwX9_pushes_2 : List UInt8 := [3, 79, 42, 180, 0, 190, 42, 180, 1, 255, 3, 79, 42, 180, 0, 193, 42, 180, 1, 255, 3, 79, 42]
abbrev dktX9_pushes_2 : List UInt8 := dkwX9_pushes_2 ++ dktX9_pushes_3
def dkwX9_pushes_1 : List UInt8 := [42, 180, 1, 255, 29, 79, 42, 180, 0, 184, 42, 180, 1, 255, 3, 79, 42, 180, 0, 187, 42, 180, 1, 255]
abbrev dktX9_pushes_1 : List UInt8 := dkwX9_pushes_1 ++ dktX9_pushes_2
def dkwX9_pushes_0 : List UInt8 := [42, 180, 0, 175, 42, 180, 1, 255, 27, 79, 42, 180, 0, 178, 42, 180, 1, 255, 28, 79, 42, 180, 0, 181]
abbrev dktX9_pushes_0 : List UInt8 := dkwX9_pushes_0 ++ dktX9_pushes_1
theorem dksX9_pushes_0 : cX9_pushes.data.toList.drop 0 = dktX9_pushes_0 := by decide +kernel
theorem dksX9_pushes_1 : cX9_pushes.data.toList.drop 24 = dktX9_pushes_1 := dk_seg dksX9_pushes_0 24 rfl rfl
theorem dksX9_pushes_2 : cX9_pushes.data.toList.drop 48 = dktX9_pushes_2 := dk_seg dksX9_pushes_1 24 rfl rfl
theorem dksX9_pushes_3 : cX9_pushes.data.toList.drop 71 = dktX9_pushes_3 := dk_seg dksX9_pushes_2 23 rfl rfl
theorem dX9_pushes_0 : decode cX9_pushes 0 = .ok (.aload_n 0, 1) := dk_42 (dk_at dksX9_pushes_0 0 rfl rfl)
theorem dX9_pushes_1 : decode cX9_pushes 1 = .ok (.getfield 175, 3) := dk_180 0 175 (dk_at dksX9_pushes_0 1 rfl rfl)
theorem dX9_pushes_4 : decode cX9_pushes 4 = .ok (.aload_n 0, 1) := dk_42 (dk_at dksX9_pushes_0 4 rfl rfl)
theorem dX9_pushes_5 : decode cX9_pushes 5 = .ok (.getfield 511, 3) := dk_180 1 255 (dk_at dksX9_pushes_0 5 rfl rfl)
theorem dX9_pushes_8 : decode cX9_pushes 8 = .ok (.iload_n 1, 1) := dk_27 (dk_at dksX9_pushes_0 8 rfl rfl)
theorem dX9_pushes_9 : decode cX9_pushes 9 = .ok (.iastore, 1) := dk_79 (dk_at dksX9_pushes_0 9 rfl rfl)
theorem dX9_pushes_10 : decode cX9_pushes 10 = .ok (.aload_n 0, 1) := dk_42 (dk_at dksX9_pushes_0 10 rfl rfl)
theorem dX9_pushes_11 : decode cX9_pushes 11 = .ok (.getfield 178, 3) := dk_180 0 178 (dk_at dksX9_pushes_0 11 rfl rfl)
theorem dX9_pushes_14 : decode cX9_pushes 14 = .ok (.aload_n 0, 1) := dk_42 (dk_at dksX9_pushes_0 14 rfl rfl)
theorem dX9_pushes_15 : decode cX9_pushes 15 = .ok (.getfield 511, 3) := dk_180 1 255 (dk_at dksX9_pushes_0 15 rfl rfl)
theorem dX9_pushes_18 : decode cX9_pushes 18 = .ok (.iload_n 2, 1) := dk_28 (dk_at dksX9_pushes_0 18 rfl rfl)
theorem dX9_pushes_19 : decode cX9_pushes 19 = .ok (.iastore, 1) := dk_79 (dk_at dksX9_pushes_0 19 rfl rfl)
theorem dX9_pushes_20 : decode cX9_pushes 20 = .ok (.aload_n 0, 1) := dk_42 (dk_at dksX9_pushes_0 20 rfl rfl)
theorem dX9_pushes_21 : decode cX9_pushes 21 = .ok (.getfield 181, 3) := dk_180 0 181 (dk_at dksX9_pushes_0 21 rfl rfl)
theorem dX9_pushes_24 : decode cX9_pushes 24 = .ok (.aload_n 0, 1) := dk_42 (dk_at dksX9_pushes_1 0 rfl rfl)
theorem dX9_pushes_25 : decode cX9_pushes 25 = .ok (.getfield 511, 3) := dk_180 1 255 (dk_at dksX9_pushes_1 1 rfl rfl)
theorem dX9_pushes_28 : decode cX9_pushes 28 = .ok (.iload_n 3, 1) := dk_29 (dk_at dksX9_pushes_1 4 rfl rfl)
theorem dX9_pushes_29 : decode cX9_pushes 29 = .ok (.iastore, 1) := dk_79 (dk_at dksX9_pushes_1 5 rfl rfl)
theorem dX9_pushes_30 : decode cX9_pushes 30 = .ok (.aload_n 0, 1) := dk_42 (dk_at dksX9_pushes_1 6 rfl rfl)
theorem dX9_pushes_31 : decode cX9_pushes 31 = .ok (.getfield 184, 3) := dk_180 0 184 (dk_at dksX9_pushes_1 7 rfl rfl)
theorem dX9_pushes_34 : decode cX9_pushes 34 = .ok (.aload_n 0, 1) := dk_42 (dk_at dksX9_pushes_1 10 rfl rfl)
theorem dX9_pushes_35 : decode cX9_pushes 35 = .ok (.getfield 511, 3) := dk_180 1 255 (dk_at dksX9_pushes_1 11 rfl rfl)
theorem dX9_pushes_38 : decode cX9_pushes 38 = .ok (.iconst 0, 1) := dk_3 (dk_at dksX9_pushes_1 14 rfl rfl)
theorem dX9_pushes_39 : decode cX9_pushes 39 = .ok (.iastore, 1) := dk_79 (dk_at dksX9_pushes_1 15 rfl rfl)
theorem dX9_pushes_40 : decode cX9_pushes 40 = .ok (.aload_n 0, 1) := dk_42 (dk_at dksX9_pushes_1 16 rfl rfl)
theorem dX9_pushes_41 : decode cX9_pushes 41 = .ok (.getfield 187, 3) := dk_180 0 187 (dk_at dksX9_pushes_1 17 rfl rfl)
theorem dX9_pushes_44 : decode cX9_pushes 44 = .ok (.aload_n 0, 1) := dk_42 (dk_at dksX9_pushes_1 20 rfl rfl)
theorem dX9_pushes_45 : decode cX9_pushes 45 = .ok (.getfield 511, 3) := dk_180 1 255 (dk_at dksX9_pushes_1 21 rfl rfl)
theorem dX9_pushes_48 : decode cX9_pushes 48 = .ok (.iconst 0, 1) := dk_3 (dk_at dksX9_pushes_2 0 rfl rfl)
theorem dX9_pushes_49 : decode cX9_pushes 49 = .ok (.iastore, 1) := dk_79 (dk_at dksX9_pushes_2 1 rfl rfl)
theorem dX9_pushes_50 : decode cX9_pushes 50 = .ok (.aload_n 0, 1) := dk_42 (dk_at dksX9_pushes_2 2 rfl rfl)
theorem dX9_pushes_51 : decode cX9_pushes 51 = .ok (.getfield 190, 3) := dk_180 0 190 (dk_at dksX9_pushes_2 3 rfl rfl)
theorem dX9_pushes_54 : decode cX9_pushes 54 = .ok (.aload_n 0, 1) := dk_42 (dk_at dksX9_pushes_2 6 rfl rfl)
theorem dX9_pushes_55 : decode cX9_pushes 55 = .ok (.getfield 511, 3) := dk_180 1 255 (dk_at dksX9_pushes_2 7 rfl rfl)
theorem dX9_pushes_58 : decode cX9_pushes 58 = .ok (.iconst 0, 1) := dk_3 (dk_at dksX9_pushes_2 10 rfl rfl)
theorem dX9_pushes_59 : decode cX9_pushes 59 = .ok (.iastore, 1) := dk_79 (dk_at dksX9_pushes_2 11 rfl rfl)
theorem dX9_pushes_60 : decode cX9_pushes 60 = .ok (.aload_n 0, 1) := dk_42 (dk_at dksX9_pushes_2 12 rfl rfl)
theorem dX9_pushes_61 : decode cX9_pushes 61 = .ok (.getfield 193, 3) := dk_180 0 193 (dk_at dksX9_pushes_2 13 rfl rfl)
theorem dX9_pushes_64 : decode cX9_pushes 64 = .ok (.aload_n 0, 1) := dk_42 (dk_at dksX9_pushes_2 16 rfl rfl)
theorem dX9_pushes_65 : decode cX9_pushes 65 = .ok (.getfield 511, 3) := dk_180 1 255 (dk_at dksX9_pushes_2 17 rfl rfl)
theorem dX9_pushes_68 : decode cX9_pushes 68 = .ok (.iconst 0, 1) := dk_3 (dk_at dksX9_pushes_2 20 rfl rfl)
theorem dX9_pushes_69 : decode cX9_pushes 69 = .ok (.iastore, 1) := dk_79 (dk_at dksX9_pushes_2 21 rfl rfl)
theorem dX9_pushes_70 : decode cX9_pushes 70 = .ok (.aload_n 0, 1) := dk_42 (dk_at dksX9_pushes_2 22 rfl rfl)
theorem dX9_pushes_71 : decode cX9_pushes 71 = .ok (.getfield 196, 3) := dk_180 0 196 (dk_at dksX9_pushes_3 0 rfl rfl)
theorem dX9_pushes_74 : decode cX9_pushes 74 = .ok (.aload_n 0, 1) := dk_42 (dk_at dksX9_pushes_3 3 rfl rfl)
theorem dX9_pushes_75 : decode cX9_pushes 75 = .ok (.getfield 511, 3) := dk_180 1 255 (dk_at dksX9_pushes_3 4 rfl rfl)
theorem dX9_pushes_78 : decode cX9_pushes 78 = .ok (.bipush (-9), 2) := dk_16 247 (dk_at dksX9_pushes_3 7 rfl rfl)
theorem dX9_pushes_80 : decode cX9_pushes 80 = .ok (.iastore, 1) := dk_79 (dk_at dksX9_pushes_3 9 rfl rfl)
theorem dX9_pushes_81 : decode cX9_pushes 81 = .ok (.aload_n 0, 1) := dk_42 (dk_at dksX9_pushes_3 10 rfl rfl)
theorem dX9_pushes_82 : decode cX9_pushes 82 = .ok (.dup, 1) := dk_89 (dk_at dksX9_pushes_3 11 rfl rfl)
theorem dX9_pushes_83 : decode cX9_pushes 83 = .ok (.getfield 511, 3) := dk_180 1 255 (dk_at dksX9_pushes_3 12 rfl rfl)
theorem dX9_pushes_86 : decode cX9_pushes 86 = .ok (.iconst 1, 1) := dk_4 (dk_at dksX9_pushes_3 15 rfl rfl)
theorem dX9_pushes_87 : decode cX9_pushes 87 = .ok (.iadd, 1) := dk_96 (dk_at dksX9_pushes_3 16 rfl rfl)
theorem dX9_pushes_88 : decode cX9_pushes 88 = .ok (.putfield 511, 3) := dk_181 1 255 (dk_at dksX9_pushes_3 17 rfl rfl)
theorem dX9_pushes_91 : decode cX9_pushes 91 = .ok (.return_, 1) := dk_177 (dk_at dksX9_pushes_3 20 rfl rfl)
theorem okX9_pushes_0 : XOkL xms rX9_pushes bX9_pushes_0 := xcP (xok_aload_n dX9_pushes_0 rfl) rfl (xcP (xok_getfield (ref := "WaysAtlasModel") (Or.inr ⟨rfl, by decide⟩) dX9_pushes_1 (Or.inl ⟨q1995, (Or.inl rfl)⟩) xh1097) rfl (xcP (xok_aload_n dX9_pushes_4 rfl) rfl (xcP (xok_getfield (ref := "WaysAtlasModel") (Or.inl ⟨rfl, by decide⟩) dX9_pushes_5 (Or.inl ⟨q1994, (Or.inl rfl)⟩) xh63) rfl (xcP (xok_iload_n dX9_pushes_8 rfl) rfl (xcP (xok_iastore dX9_pushes_9) rfl (xcP (xok_aload_n dX9_pushes_10 rfl) rfl (xcP (xok_getfield (ref := "WaysAtlasModel") (Or.inr ⟨rfl, by decide⟩) dX9_pushes_11 (Or.inl ⟨q1996, (Or.inl rfl)⟩) xh1098) rfl (xcP (xok_aload_n dX9_pushes_14 rfl) rfl (xcP (xok_getfield (ref := "WaysAtlasModel") (Or.inl ⟨rfl, by decide⟩) dX9_pushes_15 (Or.inl ⟨q1994, (Or.inl rfl)⟩) xh63) rfl (xcP (xok_iload_n dX9_pushes_18 rfl) rfl (xcP (xok_iastore dX9_pushes_19) rfl (xcP (xok_aload_n dX9_pushes_20 rfl) rfl (xcP (xok_getfield (ref := "WaysAtlasModel") (Or.inr ⟨rfl, by decide⟩) dX9_pushes_21 (Or.inl ⟨q1997, (Or.inl rfl)⟩) xh1099) rfl (xcP (xok_aload_n dX9_pushes_24 rfl) rfl (xcP (xok_getfield (ref := "WaysAtlasModel") (Or.inl ⟨rfl, by decide⟩) dX9_pushes_25 (Or.inl ⟨q1994, (Or.inl rfl)⟩) xh63) rfl (xcP (xok_iload_n dX9_pushes_28 rfl) rfl (xcP (xok_iastore dX9_pushes_29) rfl (xcP (xok_aload_n dX9_pushes_30 rfl) rfl (xcP (xok_getfield (ref := "WaysAtlasModel") (Or.inr ⟨rfl, by decide⟩) dX9_pushes_31 (Or.inl ⟨q1998, (Or.inl rfl)⟩) xh1100) rfl (xcP (xok_aload_n dX9_pushes_34 rfl) rfl (xcP (xok_getfield (ref := "WaysAtlasModel") (Or.inl ⟨rfl, by decide⟩) dX9_pushes_35 (Or.inl ⟨q1994, (Or.inl rfl)⟩) xh63) rfl (xcP (xok_iconst dX9_pushes_38 rfl) rfl (xcP (xok_iastore dX9_pushes_39) rfl (xcP (xok_aload_n dX9_pushes_40 rfl) rfl (xcP (xok_getfield (ref := "WaysAtlasModel") (Or.inr ⟨rfl, by decide⟩) dX9_pushes_41 (Or.inl ⟨q1999, (Or.inl rfl)⟩) xh1101) rfl (xcP (xok_aload_n dX9_pushes_44 rfl) rfl (xcP (xok_getfield (ref := "WaysAtlasModel") (Or.inl ⟨rfl, by decide⟩) dX9_pushes_45 (Or.inl ⟨q1994, (Or.inl rfl)⟩) xh63) rfl (xcP (xok_iconst dX9_pushes_48 rfl) rfl (xcP (xok_iastore dX9_pushes_49) rfl (xcP (xok_aload_n dX9_pushes_50 rfl) rfl (xcP (xok_getfield (ref := "WaysAtlasModel") (Or.inr ⟨rfl, by decide⟩) dX9_pushes_51 (Or.inl ⟨q2000, (Or.inl rfl)⟩) xh1102) rfl (xcP (xok_aload_n dX9_pushes_54 rfl) rfl (xcP (xok_getfield (ref := "WaysAtlasModel") (Or.inl ⟨rfl, by decide⟩) dX9_pushes_55 (Or.inl ⟨q1994, (Or.inl rfl)⟩) xh63) rfl (xcP (xok_iconst dX9_pushes_58 rfl) rfl (xcP (xok_iastore dX9_pushes_59) rfl (xcP (xok_aload_n dX9_pushes_60 rfl) rfl (xcP (xok_getfield (ref := "WaysAtlasModel") (Or.inr ⟨rfl, by decide⟩) dX9_pushes_61 (Or.inl ⟨q2001, (Or.inl rfl)⟩) xh1103) rfl (xcP (xok_aload_n dX9_pushes_64 rfl) rfl (xcP (xok_getfield (ref := "WaysAtlasModel") (Or.inl ⟨rfl, by decide⟩) dX9_pushes_65 (Or.inl ⟨q1994, (Or.inl rfl)⟩) xh63) rfl (xcP (xok_iconst dX9_pushes_68 rfl) rfl (xcP (xok_iastore dX9_pushes_69) rfl (xcP (xok_aload_n dX9_pushes_70 rfl) rfl (xcP (xok_getfield (ref := "WaysAtlasModel") (Or.inr ⟨rfl, by decide⟩) dX9_pushes_71 (Or.inl ⟨q2002, (Or.inl rfl)⟩) xh1104) rfl (xcP (xok_aload_n dX9_pushes_74 rfl) rfl (xcP (xok_getfield (ref := "WaysAtlasModel") (Or.inl ⟨rfl, by decide⟩) dX9_pushes_75 (Or.inl ⟨q1994, (Or.inl rfl)⟩) xh63) rfl (xcP (xok_bipush dX9_pushes_78 rfl) rfl (xcP (xok_iastore dX9_pushes_80) rfl (xcP (xok_aload_n dX9_pushes_81 rfl) rfl (xcP (xok_dup dX9_pushes_82) rfl (xcP (xok_getfield (ref := "WaysAtlasModel") (Or.inl ⟨rfl, by decide⟩) dX9_pushes_83 (Or.inl ⟨q1994, (Or.inl rfl)⟩) xh63) rfl (xcP (xok_iconst dX9_pushes_86 rfl) rfl (xcP (xok_iadd dX9_pushes_87) rfl (xcP (xok_putfield (ref := "WaysAtlasModel") (Or.inl ⟨rfl, by decide, rfl⟩) dX9_pushes_88 (Or.inl ⟨q1994, (Or.inl rfl)⟩) (Or.inl rfl) xh63) rfl (xcR ⟨dX9_pushes_91, rfl⟩))))))))))))))))))))))))))))))))))))))))))))))))))))))
theorem okM_X9_pushes : XOkM xms rX9_pushes := xokM0 (List.forall_mem_cons.mpr ⟨⟨rfl, okX9_pushes_0⟩, fun _ h => nomatch h⟩) (xokH0 rfl (fun _ _ => rfl)) (by decide +kernel) (by decide)
abbrev cX9_tell : ByteArray := prog_36_method_63_code
def dkwX9_tell_0 : List UInt8 := [42, 180, 0, 142, 16, 10, 42, 180, 1, 219, 104, 27, 96, 46, 172]
abbrev dktX9_tell_0 : List UInt8 := dkwX9_tell_0 ++ []
theorem dksX9_tell_0 : cX9_tell.data.toList.drop 0 = dktX9_tell_0 := by decide +kernel
theorem dX9_tell_0 : decode cX9_tell 0 = .ok (.aload_n 0, 1) := dk_42 (dk_at dksX9_tell_0 0 rfl rfl)
theorem dX9_tell_1 : decode cX9_tell 1 = .ok (.getfield 142, 3) := dk_180 0 142 (dk_at dksX9_tell_0 1 rfl rfl)
theorem dX9_tell_4 : decode cX9_tell 4 = .ok (.bipush 10, 2) := dk_16 10 (dk_at dksX9_tell_0 4 rfl rfl)
theorem dX9_tell_6 : decode cX9_tell 6 = .ok (.aload_n 0, 1) := dk_42 (dk_at dksX9_tell_0 6 rfl rfl)
theorem dX9_tell_7 : decode cX9_tell 7 = .ok (.getfield 475, 3) := dk_180 1 219 (dk_at dksX9_tell_0 7 rfl rfl)
theorem dX9_tell_10 : decode cX9_tell 10 = .ok (.imul, 1) := dk_104 (dk_at dksX9_tell_0 10 rfl rfl)
theorem dX9_tell_11 : decode cX9_tell 11 = .ok (.iload_n 1, 1) := dk_27 (dk_at dksX9_tell_0 11 rfl rfl)
theorem dX9_tell_12 : decode cX9_tell 12 = .ok (.iadd, 1) := dk_96 (dk_at dksX9_tell_0 12 rfl rfl)
theorem dX9_tell_13 : decode cX9_tell 13 = .ok (.iaload, 1) := dk_46 (dk_at dksX9_tell_0 13 rfl rfl)
theorem dX9_tell_14 : decode cX9_tell 14 = .ok (.ireturn, 1) := dk_172 (dk_at dksX9_tell_0 14 rfl rfl)
theorem okX9_tell_0 : XOkL xms rX9_tell bX9_tell_0 := xcP (xok_aload_n dX9_tell_0 rfl) rfl (xcP (xok_getfield (ref := "WaysAtlasModel") (Or.inr ⟨rfl, by decide⟩) dX9_tell_1 (Or.inl ⟨q1979, (Or.inl rfl)⟩) xh1086) rfl (xcP (xok_bipush dX9_tell_4 rfl) rfl (xcP (xok_aload_n dX9_tell_6 rfl) rfl (xcP (xok_getfield (ref := "WaysAtlasModel") (Or.inl ⟨rfl, by decide⟩) dX9_tell_7 (Or.inl ⟨q1978, (Or.inl rfl)⟩) xh58) rfl (xcP (xok_imul dX9_tell_10) rfl (xcP (xok_iload_n dX9_tell_11 rfl) rfl (xcP (xok_iadd dX9_tell_12) rfl (xcP (xok_iaload dX9_tell_13) rfl (xcR ⟨dX9_tell_14, rfl⟩)))))))))
theorem okM_X9_tell : XOkM xms rX9_tell := xokM0 (List.forall_mem_cons.mpr ⟨⟨rfl, okX9_tell_0⟩, fun _ h => nomatch h⟩) (xokH0 rfl (fun _ _ => rfl)) (by decide +kernel) (by decide)
abbrev cX9_entersBlock : ByteArray := prog_36_method_70_code
def dkwX9_entersBlock_1 : List UInt8 := [181, 1, 246, 177]
abbrev dktX9_entersBlock_1 : List UInt8 := dkwX9_entersBlock_1 ++ []
def dkwX9_entersBlock_0 : List UInt8 := [42, 4, 2, 42, 180, 0, 72, 17, 1, 144, 42, 180, 0, 235, 104, 27, 96, 46, 182, 2, 2, 42, 2]
abbrev dktX9_entersBlock_0 : List UInt8 := dkwX9_entersBlock_0 ++ dktX9_entersBlock_1
theorem dksX9_entersBlock_0 : cX9_entersBlock.data.toList.drop 0 = dktX9_entersBlock_0 := by decide +kernel
theorem dksX9_entersBlock_1 : cX9_entersBlock.data.toList.drop 23 = dktX9_entersBlock_1 := dk_seg dksX9_entersBlock_0 23 rfl rfl
theorem dX9_entersBlock_0 : decode cX9_entersBlock 0 = .ok (.aload_n 0, 1) := dk_42 (dk_at dksX9_entersBlock_0 0 rfl rfl)
theorem dX9_entersBlock_1 : decode cX9_entersBlock 1 = .ok (.iconst 1, 1) := dk_4 (dk_at dksX9_entersBlock_0 1 rfl rfl)
theorem dX9_entersBlock_2 : decode cX9_entersBlock 2 = .ok (.iconst (-1), 1) := dk_2 (dk_at dksX9_entersBlock_0 2 rfl rfl)
theorem dX9_entersBlock_3 : decode cX9_entersBlock 3 = .ok (.aload_n 0, 1) := dk_42 (dk_at dksX9_entersBlock_0 3 rfl rfl)
theorem dX9_entersBlock_4 : decode cX9_entersBlock 4 = .ok (.getfield 72, 3) := dk_180 0 72 (dk_at dksX9_entersBlock_0 4 rfl rfl)
theorem dX9_entersBlock_7 : decode cX9_entersBlock 7 = .ok (.sipush 400, 3) := dk_17 1 144 (dk_at dksX9_entersBlock_0 7 rfl rfl)
theorem dX9_entersBlock_10 : decode cX9_entersBlock 10 = .ok (.aload_n 0, 1) := dk_42 (dk_at dksX9_entersBlock_0 10 rfl rfl)
theorem dX9_entersBlock_11 : decode cX9_entersBlock 11 = .ok (.getfield 235, 3) := dk_180 0 235 (dk_at dksX9_entersBlock_0 11 rfl rfl)
theorem dX9_entersBlock_14 : decode cX9_entersBlock 14 = .ok (.imul, 1) := dk_104 (dk_at dksX9_entersBlock_0 14 rfl rfl)
theorem dX9_entersBlock_15 : decode cX9_entersBlock 15 = .ok (.iload_n 1, 1) := dk_27 (dk_at dksX9_entersBlock_0 15 rfl rfl)
theorem dX9_entersBlock_16 : decode cX9_entersBlock 16 = .ok (.iadd, 1) := dk_96 (dk_at dksX9_entersBlock_0 16 rfl rfl)
theorem dX9_entersBlock_17 : decode cX9_entersBlock 17 = .ok (.iaload, 1) := dk_46 (dk_at dksX9_entersBlock_0 17 rfl rfl)
theorem dX9_entersBlock_18 : decode cX9_entersBlock 18 = .ok (.invokevirtual 514, 3) := dk_182 2 2 (dk_at dksX9_entersBlock_0 18 rfl rfl)
theorem dX9_entersBlock_21 : decode cX9_entersBlock 21 = .ok (.aload_n 0, 1) := dk_42 (dk_at dksX9_entersBlock_0 21 rfl rfl)
theorem dX9_entersBlock_22 : decode cX9_entersBlock 22 = .ok (.iconst (-1), 1) := dk_2 (dk_at dksX9_entersBlock_0 22 rfl rfl)
theorem dX9_entersBlock_23 : decode cX9_entersBlock 23 = .ok (.putfield 502, 3) := dk_181 1 246 (dk_at dksX9_entersBlock_1 0 rfl rfl)
theorem dX9_entersBlock_26 : decode cX9_entersBlock 26 = .ok (.return_, 1) := dk_177 (dk_at dksX9_entersBlock_1 3 rfl rfl)
theorem okX9_entersBlock_0 : XOkL xms rX9_entersBlock bX9_entersBlock_0 := xcP (xok_aload_n dX9_entersBlock_0 rfl) rfl (xcP (xok_iconst dX9_entersBlock_1 rfl) rfl (xcP (xok_iconst dX9_entersBlock_2 rfl) rfl (xcP (xok_aload_n dX9_entersBlock_3 rfl) rfl (xcP (xok_getfield (ref := "WaysAtlasModel") (Or.inr ⟨rfl, by decide⟩) dX9_entersBlock_4 (Or.inl ⟨q1944, (Or.inl rfl)⟩) xh1063) rfl (xcP (xok_sipush dX9_entersBlock_7 rfl) rfl (xcP (xok_aload_n dX9_entersBlock_10 rfl) rfl (xcP (xok_getfield (ref := "WaysAtlasModel") (Or.inl ⟨rfl, by decide⟩) dX9_entersBlock_11 (Or.inl ⟨q1937, (Or.inl rfl)⟩) xh44) rfl (xcP (xok_imul dX9_entersBlock_14) rfl (xcP (xok_iload_n dX9_entersBlock_15 rfl) rfl (xcP (xok_iadd dX9_entersBlock_16) rfl (xcP (xok_iaload dX9_entersBlock_17) rfl (xcC0 (xokc_list (List.forall_mem_cons.mpr ⟨xokc_V (r := (RX9, TX9, 96)) xm161 (List.mem_of_getElem? (i := 9) rfl) (by decide) rfl dX9_entersBlock_18 q2473 q2475 qs105 q149 q2476 (by decide +kernel), fun _ h => nomatch h⟩)) rfl (xcP (xok_aload_n dX9_entersBlock_21 rfl) rfl (xcP (xok_iconst dX9_entersBlock_22 rfl) rfl (xcP (xok_putfield (ref := "WaysAtlasModel") (Or.inl ⟨rfl, by decide, rfl⟩) dX9_entersBlock_23 (Or.inl ⟨q1992, (Or.inl rfl)⟩) (Or.inl rfl) xh61) rfl (xcR ⟨dX9_entersBlock_26, rfl⟩))))))))))))))))
theorem okM_X9_entersBlock : XOkM xms rX9_entersBlock := xokM0 (List.forall_mem_cons.mpr ⟨⟨rfl, okX9_entersBlock_0⟩, fun _ h => nomatch h⟩) (xokH0 rfl (fun _ _ => rfl)) (by decide +kernel) (by decide)
abbrev cX9_goesOnce : ByteArray := prog_36_method_92_code
def dkwX9_goesOnce_7 : List UInt8 := [182, 2, 91, 177]
abbrev dktX9_goesOnce_7 : List UInt8 := dkwX9_goesOnce_7 ++ []
def dkwX9_goesOnce_6 : List UInt8 := [181, 1, 255, 167, 0, 24, 42, 27, 182, 2, 85, 167, 0, 16, 42, 27, 182, 2, 88, 167, 0, 8, 42, 27]
abbrev dktX9_goesOnce_6 : List UInt8 := dkwX9_goesOnce_6 ++ dktX9_goesOnce_7
def dkwX9_goesOnce_5 : List UInt8 := [42, 180, 1, 246, 154, 0, 11, 42, 2, 181, 1, 246, 167, 0, 37, 42, 89, 180, 1, 255, 4, 100]
abbrev dktX9_goesOnce_5 : List UInt8 := dkwX9_goesOnce_5 ++ dktX9_goesOnce_6
def dkwX9_goesOnce_4 : List UInt8 := [170, 0, 0, 0, 0, 70, 0, 0, 0, 1, 0, 0, 0, 3, 0, 0, 0, 26, 0, 0, 0, 54, 0, 0, 0, 62]
abbrev dktX9_goesOnce_4 : List UInt8 := dkwX9_goesOnce_4 ++ dktX9_goesOnce_5
def dkwX9_goesOnce_3 : List UInt8 := [100, 28, 79, 42, 28, 182, 2, 82, 177, 42, 180, 0, 175, 27, 46]
abbrev dktX9_goesOnce_3 : List UInt8 := dkwX9_goesOnce_3 ++ dktX9_goesOnce_4
def dkwX9_goesOnce_2 : List UInt8 := [42, 28, 16, 10, 182, 1, 200, 79, 42, 182, 2, 40, 153, 0, 20, 42, 180, 0, 208, 42, 180, 1, 240, 4]
abbrev dktX9_goesOnce_2 : List UInt8 := dkwX9_goesOnce_2 ++ dktX9_goesOnce_3
def dkwX9_goesOnce_1 : List UInt8 := [156, 0, 19, 42, 89, 180, 1, 255, 4, 100, 181, 1, 255, 42, 3, 181, 1, 246, 177, 42, 180, 0, 181, 27]
abbrev dktX9_goesOnce_1 : List UInt8 := dkwX9_goesOnce_1 ++ dktX9_goesOnce_2
def dkwX9_goesOnce_0 : List UInt8 := [42, 180, 1, 255, 4, 100, 60, 42, 180, 1, 246, 2, 160, 0, 68, 42, 180, 0, 181, 27, 46, 61, 28]
abbrev dktX9_goesOnce_0 : List UInt8 := dkwX9_goesOnce_0 ++ dktX9_goesOnce_1
theorem dksX9_goesOnce_0 : cX9_goesOnce.data.toList.drop 0 = dktX9_goesOnce_0 := by decide +kernel
theorem dksX9_goesOnce_1 : cX9_goesOnce.data.toList.drop 23 = dktX9_goesOnce_1 := dk_seg dksX9_goesOnce_0 23 rfl rfl
theorem dksX9_goesOnce_2 : cX9_goesOnce.data.toList.drop 47 = dktX9_goesOnce_2 := dk_seg dksX9_goesOnce_1 24 rfl rfl
theorem dksX9_goesOnce_3 : cX9_goesOnce.data.toList.drop 71 = dktX9_goesOnce_3 := dk_seg dksX9_goesOnce_2 24 rfl rfl
theorem dksX9_goesOnce_4 : cX9_goesOnce.data.toList.drop 86 = dktX9_goesOnce_4 := dk_seg dksX9_goesOnce_3 15 rfl rfl
theorem dksX9_goesOnce_5 : cX9_goesOnce.data.toList.drop 112 = dktX9_goesOnce_5 := dk_seg dksX9_goesOnce_4 26 rfl rfl
theorem dksX9_goesOnce_6 : cX9_goesOnce.data.toList.drop 134 = dktX9_goesOnce_6 := dk_seg dksX9_goesOnce_5 22 rfl rfl
theorem dksX9_goesOnce_7 : cX9_goesOnce.data.toList.drop 158 = dktX9_goesOnce_7 := dk_seg dksX9_goesOnce_6 24 rfl rfl
theorem dX9_goesOnce_0 : decode cX9_goesOnce 0 = .ok (.aload_n 0, 1) := dk_42 (dk_at dksX9_goesOnce_0 0 rfl rfl)
theorem dX9_goesOnce_1 : decode cX9_goesOnce 1 = .ok (.getfield 511, 3) := dk_180 1 255 (dk_at dksX9_goesOnce_0 1 rfl rfl)
theorem dX9_goesOnce_4 : decode cX9_goesOnce 4 = .ok (.iconst 1, 1) := dk_4 (dk_at dksX9_goesOnce_0 4 rfl rfl)
theorem dX9_goesOnce_5 : decode cX9_goesOnce 5 = .ok (.isub, 1) := dk_100 (dk_at dksX9_goesOnce_0 5 rfl rfl)
theorem dX9_goesOnce_6 : decode cX9_goesOnce 6 = .ok (.istore_n 1, 1) := dk_60 (dk_at dksX9_goesOnce_0 6 rfl rfl)
theorem dX9_goesOnce_7 : decode cX9_goesOnce 7 = .ok (.aload_n 0, 1) := dk_42 (dk_at dksX9_goesOnce_0 7 rfl rfl)
theorem dX9_goesOnce_8 : decode cX9_goesOnce 8 = .ok (.getfield 502, 3) := dk_180 1 246 (dk_at dksX9_goesOnce_0 8 rfl rfl)
theorem dX9_goesOnce_11 : decode cX9_goesOnce 11 = .ok (.iconst (-1), 1) := dk_2 (dk_at dksX9_goesOnce_0 11 rfl rfl)
theorem dX9_goesOnce_12 : decode cX9_goesOnce 12 = .ok (.if_icmp .ne 68, 3) := dk_160 0 68 (dk_at dksX9_goesOnce_0 12 rfl rfl)
theorem dX9_goesOnce_15 : decode cX9_goesOnce 15 = .ok (.aload_n 0, 1) := dk_42 (dk_at dksX9_goesOnce_0 15 rfl rfl)
theorem dX9_goesOnce_16 : decode cX9_goesOnce 16 = .ok (.getfield 181, 3) := dk_180 0 181 (dk_at dksX9_goesOnce_0 16 rfl rfl)
theorem dX9_goesOnce_19 : decode cX9_goesOnce 19 = .ok (.iload_n 1, 1) := dk_27 (dk_at dksX9_goesOnce_0 19 rfl rfl)
theorem dX9_goesOnce_20 : decode cX9_goesOnce 20 = .ok (.iaload, 1) := dk_46 (dk_at dksX9_goesOnce_0 20 rfl rfl)
theorem dX9_goesOnce_21 : decode cX9_goesOnce 21 = .ok (.istore_n 2, 1) := dk_61 (dk_at dksX9_goesOnce_0 21 rfl rfl)
theorem dX9_goesOnce_22 : decode cX9_goesOnce 22 = .ok (.iload_n 2, 1) := dk_28 (dk_at dksX9_goesOnce_0 22 rfl rfl)
theorem dX9_goesOnce_23 : decode cX9_goesOnce 23 = .ok (.ifCond .ge 19, 3) := dk_156 0 19 (dk_at dksX9_goesOnce_1 0 rfl rfl)
theorem dX9_goesOnce_26 : decode cX9_goesOnce 26 = .ok (.aload_n 0, 1) := dk_42 (dk_at dksX9_goesOnce_1 3 rfl rfl)
theorem dX9_goesOnce_27 : decode cX9_goesOnce 27 = .ok (.dup, 1) := dk_89 (dk_at dksX9_goesOnce_1 4 rfl rfl)
theorem dX9_goesOnce_28 : decode cX9_goesOnce 28 = .ok (.getfield 511, 3) := dk_180 1 255 (dk_at dksX9_goesOnce_1 5 rfl rfl)
theorem dX9_goesOnce_31 : decode cX9_goesOnce 31 = .ok (.iconst 1, 1) := dk_4 (dk_at dksX9_goesOnce_1 8 rfl rfl)
theorem dX9_goesOnce_32 : decode cX9_goesOnce 32 = .ok (.isub, 1) := dk_100 (dk_at dksX9_goesOnce_1 9 rfl rfl)
theorem dX9_goesOnce_33 : decode cX9_goesOnce 33 = .ok (.putfield 511, 3) := dk_181 1 255 (dk_at dksX9_goesOnce_1 10 rfl rfl)
theorem dX9_goesOnce_36 : decode cX9_goesOnce 36 = .ok (.aload_n 0, 1) := dk_42 (dk_at dksX9_goesOnce_1 13 rfl rfl)
theorem dX9_goesOnce_37 : decode cX9_goesOnce 37 = .ok (.iconst 0, 1) := dk_3 (dk_at dksX9_goesOnce_1 14 rfl rfl)
theorem dX9_goesOnce_38 : decode cX9_goesOnce 38 = .ok (.putfield 502, 3) := dk_181 1 246 (dk_at dksX9_goesOnce_1 15 rfl rfl)
theorem dX9_goesOnce_41 : decode cX9_goesOnce 41 = .ok (.return_, 1) := dk_177 (dk_at dksX9_goesOnce_1 18 rfl rfl)
theorem dX9_goesOnce_42 : decode cX9_goesOnce 42 = .ok (.aload_n 0, 1) := dk_42 (dk_at dksX9_goesOnce_1 19 rfl rfl)
theorem dX9_goesOnce_43 : decode cX9_goesOnce 43 = .ok (.getfield 181, 3) := dk_180 0 181 (dk_at dksX9_goesOnce_1 20 rfl rfl)
theorem dX9_goesOnce_46 : decode cX9_goesOnce 46 = .ok (.iload_n 1, 1) := dk_27 (dk_at dksX9_goesOnce_1 23 rfl rfl)
theorem dX9_goesOnce_47 : decode cX9_goesOnce 47 = .ok (.aload_n 0, 1) := dk_42 (dk_at dksX9_goesOnce_2 0 rfl rfl)
theorem dX9_goesOnce_48 : decode cX9_goesOnce 48 = .ok (.iload_n 2, 1) := dk_28 (dk_at dksX9_goesOnce_2 1 rfl rfl)
theorem dX9_goesOnce_49 : decode cX9_goesOnce 49 = .ok (.bipush 10, 2) := dk_16 10 (dk_at dksX9_goesOnce_2 2 rfl rfl)
theorem dX9_goesOnce_51 : decode cX9_goesOnce 51 = .ok (.invokevirtual 456, 3) := dk_182 1 200 (dk_at dksX9_goesOnce_2 4 rfl rfl)
theorem dX9_goesOnce_54 : decode cX9_goesOnce 54 = .ok (.iastore, 1) := dk_79 (dk_at dksX9_goesOnce_2 7 rfl rfl)
theorem dX9_goesOnce_55 : decode cX9_goesOnce 55 = .ok (.aload_n 0, 1) := dk_42 (dk_at dksX9_goesOnce_2 8 rfl rfl)
theorem dX9_goesOnce_56 : decode cX9_goesOnce 56 = .ok (.invokevirtual 552, 3) := dk_182 2 40 (dk_at dksX9_goesOnce_2 9 rfl rfl)
theorem dX9_goesOnce_59 : decode cX9_goesOnce 59 = .ok (.ifCond .eq 20, 3) := dk_153 0 20 (dk_at dksX9_goesOnce_2 12 rfl rfl)
theorem dX9_goesOnce_62 : decode cX9_goesOnce 62 = .ok (.aload_n 0, 1) := dk_42 (dk_at dksX9_goesOnce_2 15 rfl rfl)
theorem dX9_goesOnce_63 : decode cX9_goesOnce 63 = .ok (.getfield 208, 3) := dk_180 0 208 (dk_at dksX9_goesOnce_2 16 rfl rfl)
theorem dX9_goesOnce_66 : decode cX9_goesOnce 66 = .ok (.aload_n 0, 1) := dk_42 (dk_at dksX9_goesOnce_2 19 rfl rfl)
theorem dX9_goesOnce_67 : decode cX9_goesOnce 67 = .ok (.getfield 496, 3) := dk_180 1 240 (dk_at dksX9_goesOnce_2 20 rfl rfl)
theorem dX9_goesOnce_70 : decode cX9_goesOnce 70 = .ok (.iconst 1, 1) := dk_4 (dk_at dksX9_goesOnce_2 23 rfl rfl)
theorem dX9_goesOnce_71 : decode cX9_goesOnce 71 = .ok (.isub, 1) := dk_100 (dk_at dksX9_goesOnce_3 0 rfl rfl)
theorem dX9_goesOnce_72 : decode cX9_goesOnce 72 = .ok (.iload_n 2, 1) := dk_28 (dk_at dksX9_goesOnce_3 1 rfl rfl)
theorem dX9_goesOnce_73 : decode cX9_goesOnce 73 = .ok (.iastore, 1) := dk_79 (dk_at dksX9_goesOnce_3 2 rfl rfl)
theorem dX9_goesOnce_74 : decode cX9_goesOnce 74 = .ok (.aload_n 0, 1) := dk_42 (dk_at dksX9_goesOnce_3 3 rfl rfl)
theorem dX9_goesOnce_75 : decode cX9_goesOnce 75 = .ok (.iload_n 2, 1) := dk_28 (dk_at dksX9_goesOnce_3 4 rfl rfl)
theorem dX9_goesOnce_76 : decode cX9_goesOnce 76 = .ok (.invokevirtual 594, 3) := dk_182 2 82 (dk_at dksX9_goesOnce_3 5 rfl rfl)
theorem dX9_goesOnce_79 : decode cX9_goesOnce 79 = .ok (.return_, 1) := dk_177 (dk_at dksX9_goesOnce_3 8 rfl rfl)
theorem dX9_goesOnce_80 : decode cX9_goesOnce 80 = .ok (.aload_n 0, 1) := dk_42 (dk_at dksX9_goesOnce_3 9 rfl rfl)
theorem dX9_goesOnce_81 : decode cX9_goesOnce 81 = .ok (.getfield 175, 3) := dk_180 0 175 (dk_at dksX9_goesOnce_3 10 rfl rfl)
theorem dX9_goesOnce_84 : decode cX9_goesOnce 84 = .ok (.iload_n 1, 1) := dk_27 (dk_at dksX9_goesOnce_3 13 rfl rfl)
theorem dX9_goesOnce_85 : decode cX9_goesOnce 85 = .ok (.iaload, 1) := dk_46 (dk_at dksX9_goesOnce_3 14 rfl rfl)
theorem dX9_goesOnce_86 : decode cX9_goesOnce 86 = .ok (.tableswitch 70 1 3 #[26, 54, 62], 26) := by decide +kernel
theorem dX9_goesOnce_112 : decode cX9_goesOnce 112 = .ok (.aload_n 0, 1) := dk_42 (dk_at dksX9_goesOnce_5 0 rfl rfl)
theorem dX9_goesOnce_113 : decode cX9_goesOnce 113 = .ok (.getfield 502, 3) := dk_180 1 246 (dk_at dksX9_goesOnce_5 1 rfl rfl)
theorem dX9_goesOnce_116 : decode cX9_goesOnce 116 = .ok (.ifCond .ne 11, 3) := dk_154 0 11 (dk_at dksX9_goesOnce_5 4 rfl rfl)
theorem dX9_goesOnce_119 : decode cX9_goesOnce 119 = .ok (.aload_n 0, 1) := dk_42 (dk_at dksX9_goesOnce_5 7 rfl rfl)
theorem dX9_goesOnce_120 : decode cX9_goesOnce 120 = .ok (.iconst (-1), 1) := dk_2 (dk_at dksX9_goesOnce_5 8 rfl rfl)
theorem dX9_goesOnce_121 : decode cX9_goesOnce 121 = .ok (.putfield 502, 3) := dk_181 1 246 (dk_at dksX9_goesOnce_5 9 rfl rfl)
theorem dX9_goesOnce_124 : decode cX9_goesOnce 124 = .ok (.goto 37, 3) := dk_167 0 37 (dk_at dksX9_goesOnce_5 12 rfl rfl)
theorem dX9_goesOnce_127 : decode cX9_goesOnce 127 = .ok (.aload_n 0, 1) := dk_42 (dk_at dksX9_goesOnce_5 15 rfl rfl)
theorem dX9_goesOnce_128 : decode cX9_goesOnce 128 = .ok (.dup, 1) := dk_89 (dk_at dksX9_goesOnce_5 16 rfl rfl)
theorem dX9_goesOnce_129 : decode cX9_goesOnce 129 = .ok (.getfield 511, 3) := dk_180 1 255 (dk_at dksX9_goesOnce_5 17 rfl rfl)
theorem dX9_goesOnce_132 : decode cX9_goesOnce 132 = .ok (.iconst 1, 1) := dk_4 (dk_at dksX9_goesOnce_5 20 rfl rfl)
theorem dX9_goesOnce_133 : decode cX9_goesOnce 133 = .ok (.isub, 1) := dk_100 (dk_at dksX9_goesOnce_5 21 rfl rfl)
theorem dX9_goesOnce_134 : decode cX9_goesOnce 134 = .ok (.putfield 511, 3) := dk_181 1 255 (dk_at dksX9_goesOnce_6 0 rfl rfl)
theorem dX9_goesOnce_137 : decode cX9_goesOnce 137 = .ok (.goto 24, 3) := dk_167 0 24 (dk_at dksX9_goesOnce_6 3 rfl rfl)
theorem dX9_goesOnce_140 : decode cX9_goesOnce 140 = .ok (.aload_n 0, 1) := dk_42 (dk_at dksX9_goesOnce_6 6 rfl rfl)
theorem dX9_goesOnce_141 : decode cX9_goesOnce 141 = .ok (.iload_n 1, 1) := dk_27 (dk_at dksX9_goesOnce_6 7 rfl rfl)
theorem dX9_goesOnce_142 : decode cX9_goesOnce 142 = .ok (.invokevirtual 597, 3) := dk_182 2 85 (dk_at dksX9_goesOnce_6 8 rfl rfl)
theorem dX9_goesOnce_145 : decode cX9_goesOnce 145 = .ok (.goto 16, 3) := dk_167 0 16 (dk_at dksX9_goesOnce_6 11 rfl rfl)
theorem dX9_goesOnce_148 : decode cX9_goesOnce 148 = .ok (.aload_n 0, 1) := dk_42 (dk_at dksX9_goesOnce_6 14 rfl rfl)
theorem dX9_goesOnce_149 : decode cX9_goesOnce 149 = .ok (.iload_n 1, 1) := dk_27 (dk_at dksX9_goesOnce_6 15 rfl rfl)
theorem dX9_goesOnce_150 : decode cX9_goesOnce 150 = .ok (.invokevirtual 600, 3) := dk_182 2 88 (dk_at dksX9_goesOnce_6 16 rfl rfl)
theorem dX9_goesOnce_153 : decode cX9_goesOnce 153 = .ok (.goto 8, 3) := dk_167 0 8 (dk_at dksX9_goesOnce_6 19 rfl rfl)
theorem dX9_goesOnce_156 : decode cX9_goesOnce 156 = .ok (.aload_n 0, 1) := dk_42 (dk_at dksX9_goesOnce_6 22 rfl rfl)
theorem dX9_goesOnce_157 : decode cX9_goesOnce 157 = .ok (.iload_n 1, 1) := dk_27 (dk_at dksX9_goesOnce_6 23 rfl rfl)
theorem dX9_goesOnce_158 : decode cX9_goesOnce 158 = .ok (.invokevirtual 603, 3) := dk_182 2 91 (dk_at dksX9_goesOnce_7 0 rfl rfl)
theorem dX9_goesOnce_161 : decode cX9_goesOnce 161 = .ok (.return_, 1) := dk_177 (dk_at dksX9_goesOnce_7 3 rfl rfl)
theorem okX9_goesOnce_0 : XOkL xms rX9_goesOnce bX9_goesOnce_0 := xcP (xok_aload_n dX9_goesOnce_0 rfl) rfl (xcP (xok_getfield (ref := "WaysAtlasModel") (Or.inl ⟨rfl, by decide⟩) dX9_goesOnce_1 (Or.inl ⟨q1994, (Or.inl rfl)⟩) xh63) rfl (xcP (xok_iconst dX9_goesOnce_4 rfl) rfl (xcP (xok_isub dX9_goesOnce_5) rfl (xcP (xok_istore_n dX9_goesOnce_6 rfl) rfl (xcP (xok_aload_n dX9_goesOnce_7 rfl) rfl (xcP (xok_getfield (ref := "WaysAtlasModel") (Or.inl ⟨rfl, by decide⟩) dX9_goesOnce_8 (Or.inl ⟨q1992, (Or.inl rfl)⟩) xh61) rfl (xcP (xok_iconst dX9_goesOnce_11 rfl) rfl (xcP (xok_icmpne dX9_goesOnce_12 (by decide)) rfl (xcP (xok_aload_n dX9_goesOnce_15 rfl) rfl (xcP (xok_getfield (ref := "WaysAtlasModel") (Or.inr ⟨rfl, by decide⟩) dX9_goesOnce_16 (Or.inl ⟨q1997, (Or.inl rfl)⟩) xh1099) rfl (xcP (xok_iload_n dX9_goesOnce_19 rfl) rfl (xcP (xok_iaload dX9_goesOnce_20) rfl (xcP (xok_istore_n dX9_goesOnce_21 rfl) rfl (xcP (xok_iload_n dX9_goesOnce_22 rfl) rfl (xcP (xok_ifge dX9_goesOnce_23 (by decide)) rfl (xcP (xok_aload_n dX9_goesOnce_26 rfl) rfl (xcP (xok_dup dX9_goesOnce_27) rfl (xcP (xok_getfield (ref := "WaysAtlasModel") (Or.inl ⟨rfl, by decide⟩) dX9_goesOnce_28 (Or.inl ⟨q1994, (Or.inl rfl)⟩) xh63) rfl (xcP (xok_iconst dX9_goesOnce_31 rfl) rfl (xcP (xok_isub dX9_goesOnce_32) rfl (xcP (xok_putfield (ref := "WaysAtlasModel") (Or.inl ⟨rfl, by decide, rfl⟩) dX9_goesOnce_33 (Or.inl ⟨q1994, (Or.inl rfl)⟩) (Or.inl rfl) xh63) rfl (xcP (xok_aload_n dX9_goesOnce_36 rfl) rfl (xcP (xok_iconst dX9_goesOnce_37 rfl) rfl (xcP (xok_putfield (ref := "WaysAtlasModel") (Or.inl ⟨rfl, by decide, rfl⟩) dX9_goesOnce_38 (Or.inl ⟨q1992, (Or.inl rfl)⟩) (Or.inl rfl) xh61) rfl (xcR ⟨dX9_goesOnce_41, rfl⟩)))))))))))))))))))))))))
theorem okX9_goesOnce_42 : XOkL xms rX9_goesOnce bX9_goesOnce_42 := xcP (xok_aload_n dX9_goesOnce_42 rfl) rfl (xcP (xok_getfield (ref := "WaysAtlasModel") (Or.inr ⟨rfl, by decide⟩) dX9_goesOnce_43 (Or.inl ⟨q1997, (Or.inl rfl)⟩) xh1099) rfl (xcP (xok_iload_n dX9_goesOnce_46 rfl) rfl (xcP (xok_aload_n dX9_goesOnce_47 rfl) rfl (xcP (xok_iload_n dX9_goesOnce_48 rfl) rfl (xcP (xok_bipush dX9_goesOnce_49 rfl) rfl (xcC0 (xokc_list (List.forall_mem_cons.mpr ⟨xokc_V (r := (RX9, TX9, 96)) xm153 (List.mem_of_getElem? (i := 9) rfl) (by decide) rfl dX9_goesOnce_51 q2441 q2443 qs100 q149 q2444 (by decide +kernel), fun _ h => nomatch h⟩)) rfl (xcP (xok_iastore dX9_goesOnce_54) rfl (xcP (xok_aload_n dX9_goesOnce_55 rfl) rfl (xcC0 (xokc_list (List.forall_mem_cons.mpr ⟨xokc_V (r := (RX9, TX9, 96)) xm165 (List.mem_of_getElem? (i := 9) rfl) (by decide) rfl dX9_goesOnce_56 q2489 q2491 qs109 q149 q2492 (by decide +kernel), fun _ h => nomatch h⟩)) rfl (xcP (xok_ifeq dX9_goesOnce_59 (by decide)) rfl (xcP (xok_aload_n dX9_goesOnce_62 rfl) rfl (xcP (xok_getfield (ref := "WaysAtlasModel") (Or.inr ⟨rfl, by decide⟩) dX9_goesOnce_63 (Or.inl ⟨q2007, (Or.inl rfl)⟩) xh1108) rfl (xcP (xok_aload_n dX9_goesOnce_66 rfl) rfl (xcP (xok_getfield (ref := "WaysAtlasModel") (Or.inl ⟨rfl, by decide⟩) dX9_goesOnce_67 (Or.inl ⟨q2003, (Or.inl rfl)⟩) xh64) rfl (xcP (xok_iconst dX9_goesOnce_70 rfl) rfl (xcP (xok_isub dX9_goesOnce_71) rfl (xcP (xok_iload_n dX9_goesOnce_72 rfl) rfl (xcP (xok_iastore dX9_goesOnce_73) rfl (xcP (xok_aload_n dX9_goesOnce_74 rfl) rfl (xcP (xok_iload_n dX9_goesOnce_75 rfl) rfl (xcC0 (xokc_list (List.forall_mem_cons.mpr ⟨xokc_V (r := (RX9, TX9, 96)) xm166 (List.mem_of_getElem? (i := 9) rfl) (by decide) rfl dX9_goesOnce_76 q2493 q2495 qs110 q149 q2496 (by decide +kernel), fun _ h => nomatch h⟩)) rfl (xcP xok_fal rfl trivial))))))))))))))))))))))
theorem okX9_goesOnce_79 : XOkL xms rX9_goesOnce bX9_goesOnce_79 := xcR ⟨dX9_goesOnce_79, rfl⟩
theorem okX9_goesOnce_80 : XOkL xms rX9_goesOnce bX9_goesOnce_80 := xcP (xok_aload_n dX9_goesOnce_80 rfl) rfl (xcP (xok_getfield (ref := "WaysAtlasModel") (Or.inr ⟨rfl, by decide⟩) dX9_goesOnce_81 (Or.inl ⟨q1995, (Or.inl rfl)⟩) xh1097) rfl (xcP (xok_iload_n dX9_goesOnce_84 rfl) rfl (xcP (xok_iaload dX9_goesOnce_85) rfl (xcP (xok_tsw dX9_goesOnce_86 (by decide) (by decide) (by decide)) rfl trivial))))
theorem okX9_goesOnce_112 : XOkL xms rX9_goesOnce bX9_goesOnce_112 := xcP (xok_aload_n dX9_goesOnce_112 rfl) rfl (xcP (xok_getfield (ref := "WaysAtlasModel") (Or.inl ⟨rfl, by decide⟩) dX9_goesOnce_113 (Or.inl ⟨q1992, (Or.inl rfl)⟩) xh61) rfl (xcP (xok_ifne dX9_goesOnce_116 (by decide)) rfl (xcP (xok_aload_n dX9_goesOnce_119 rfl) rfl (xcP (xok_iconst dX9_goesOnce_120 rfl) rfl (xcP (xok_putfield (ref := "WaysAtlasModel") (Or.inl ⟨rfl, by decide, rfl⟩) dX9_goesOnce_121 (Or.inl ⟨q1992, (Or.inl rfl)⟩) (Or.inl rfl) xh61) rfl (xcP (xok_goto dX9_goesOnce_124 (by decide)) rfl trivial))))))
theorem okX9_goesOnce_127 : XOkL xms rX9_goesOnce bX9_goesOnce_127 := xcP (xok_aload_n dX9_goesOnce_127 rfl) rfl (xcP (xok_dup dX9_goesOnce_128) rfl (xcP (xok_getfield (ref := "WaysAtlasModel") (Or.inl ⟨rfl, by decide⟩) dX9_goesOnce_129 (Or.inl ⟨q1994, (Or.inl rfl)⟩) xh63) rfl (xcP (xok_iconst dX9_goesOnce_132 rfl) rfl (xcP (xok_isub dX9_goesOnce_133) rfl (xcP (xok_putfield (ref := "WaysAtlasModel") (Or.inl ⟨rfl, by decide, rfl⟩) dX9_goesOnce_134 (Or.inl ⟨q1994, (Or.inl rfl)⟩) (Or.inl rfl) xh63) rfl (xcP (xok_goto dX9_goesOnce_137 (by decide)) rfl trivial))))))
theorem okX9_goesOnce_140 : XOkL xms rX9_goesOnce bX9_goesOnce_140 := xcP (xok_aload_n dX9_goesOnce_140 rfl) rfl (xcP (xok_iload_n dX9_goesOnce_141 rfl) rfl (xcC0 (xokc_list (List.forall_mem_cons.mpr ⟨xokc_V (r := (RX9, TX9, 96)) xm184 (List.mem_of_getElem? (i := 9) rfl) (by decide) rfl dX9_goesOnce_142 q2565 q2567 qs128 q149 q2568 (by decide +kernel), fun _ h => nomatch h⟩)) rfl (xcP (xok_goto dX9_goesOnce_145 (by decide)) rfl trivial)))
theorem okX9_goesOnce_148 : XOkL xms rX9_goesOnce bX9_goesOnce_148 := xcP (xok_aload_n dX9_goesOnce_148 rfl) rfl (xcP (xok_iload_n dX9_goesOnce_149 rfl) rfl (xcC0 (xokc_list (List.forall_mem_cons.mpr ⟨xokc_V (r := (RX9, TX9, 96)) xm185 (List.mem_of_getElem? (i := 9) rfl) (by decide) rfl dX9_goesOnce_150 q2569 q2571 qs129 q149 q2572 (by decide +kernel), fun _ h => nomatch h⟩)) rfl (xcP (xok_goto dX9_goesOnce_153 (by decide)) rfl trivial)))
theorem okX9_goesOnce_156 : XOkL xms rX9_goesOnce bX9_goesOnce_156 := xcP (xok_aload_n dX9_goesOnce_156 rfl) rfl (xcP (xok_iload_n dX9_goesOnce_157 rfl) rfl (xcC0 (xokc_list (List.forall_mem_cons.mpr ⟨xokc_V (r := (RX9, TX9, 96)) xm190 (List.mem_of_getElem? (i := 9) rfl) (by decide) rfl dX9_goesOnce_158 q2589 q2591 qs134 q149 q2592 (by decide +kernel), fun _ h => nomatch h⟩)) rfl (xcP xok_fal rfl trivial)))
theorem okX9_goesOnce_161 : XOkL xms rX9_goesOnce bX9_goesOnce_161 := xcR ⟨dX9_goesOnce_161, rfl⟩
theorem okM_X9_goesOnce : XOkM xms rX9_goesOnce := xokM0 (List.forall_mem_cons.mpr ⟨⟨rfl, okX9_goesOnce_0⟩, List.forall_mem_cons.mpr ⟨⟨rfl, okX9_goesOnce_42⟩, List.forall_mem_cons.mpr ⟨⟨rfl, okX9_goesOnce_79⟩, List.forall_mem_cons.mpr ⟨⟨rfl, okX9_goesOnce_80⟩, List.forall_mem_cons.mpr ⟨⟨rfl, okX9_goesOnce_112⟩, List.forall_mem_cons.mpr ⟨⟨rfl, okX9_goesOnce_127⟩, List.forall_mem_cons.mpr ⟨⟨rfl, okX9_goesOnce_140⟩, List.forall_mem_cons.mpr ⟨⟨rfl, okX9_goesOnce_148⟩, List.forall_mem_cons.mpr ⟨⟨rfl, okX9_goesOnce_156⟩, List.forall_mem_cons.mpr ⟨⟨rfl, okX9_goesOnce_161⟩, fun _ h => nomatch h⟩⟩⟩⟩⟩⟩⟩⟩⟩⟩) (xokH0 rfl (fun _ _ => rfl)) (by decide +kernel) (by decide)
abbrev cX9_takesStep : ByteArray := prog_36_method_62_code
def dkwX9_takesStep_1 : List UInt8 := [42, 180, 0, 142, 16, 10, 42, 180, 1, 219, 104, 16, 9, 96, 92, 46, 4, 96, 79, 4, 172]
abbrev dktX9_takesStep_1 : List UInt8 := dkwX9_takesStep_1 ++ []
def dkwX9_takesStep_0 : List UInt8 := [42, 180, 1, 213, 154, 0, 10, 42, 5, 181, 1, 216, 3, 172, 42, 89, 180, 1, 213, 4, 100, 181, 1, 213]
abbrev dktX9_takesStep_0 : List UInt8 := dkwX9_takesStep_0 ++ dktX9_takesStep_1
theorem dksX9_takesStep_0 : cX9_takesStep.data.toList.drop 0 = dktX9_takesStep_0 := by decide +kernel
theorem dksX9_takesStep_1 : cX9_takesStep.data.toList.drop 24 = dktX9_takesStep_1 := dk_seg dksX9_takesStep_0 24 rfl rfl
theorem dX9_takesStep_0 : decode cX9_takesStep 0 = .ok (.aload_n 0, 1) := dk_42 (dk_at dksX9_takesStep_0 0 rfl rfl)
theorem dX9_takesStep_1 : decode cX9_takesStep 1 = .ok (.getfield 469, 3) := dk_180 1 213 (dk_at dksX9_takesStep_0 1 rfl rfl)
theorem dX9_takesStep_4 : decode cX9_takesStep 4 = .ok (.ifCond .ne 10, 3) := dk_154 0 10 (dk_at dksX9_takesStep_0 4 rfl rfl)
theorem dX9_takesStep_7 : decode cX9_takesStep 7 = .ok (.aload_n 0, 1) := dk_42 (dk_at dksX9_takesStep_0 7 rfl rfl)
theorem dX9_takesStep_8 : decode cX9_takesStep 8 = .ok (.iconst 2, 1) := dk_5 (dk_at dksX9_takesStep_0 8 rfl rfl)
theorem dX9_takesStep_9 : decode cX9_takesStep 9 = .ok (.putfield 472, 3) := dk_181 1 216 (dk_at dksX9_takesStep_0 9 rfl rfl)
theorem dX9_takesStep_12 : decode cX9_takesStep 12 = .ok (.iconst 0, 1) := dk_3 (dk_at dksX9_takesStep_0 12 rfl rfl)
theorem dX9_takesStep_13 : decode cX9_takesStep 13 = .ok (.ireturn, 1) := dk_172 (dk_at dksX9_takesStep_0 13 rfl rfl)
theorem dX9_takesStep_14 : decode cX9_takesStep 14 = .ok (.aload_n 0, 1) := dk_42 (dk_at dksX9_takesStep_0 14 rfl rfl)
theorem dX9_takesStep_15 : decode cX9_takesStep 15 = .ok (.dup, 1) := dk_89 (dk_at dksX9_takesStep_0 15 rfl rfl)
theorem dX9_takesStep_16 : decode cX9_takesStep 16 = .ok (.getfield 469, 3) := dk_180 1 213 (dk_at dksX9_takesStep_0 16 rfl rfl)
theorem dX9_takesStep_19 : decode cX9_takesStep 19 = .ok (.iconst 1, 1) := dk_4 (dk_at dksX9_takesStep_0 19 rfl rfl)
theorem dX9_takesStep_20 : decode cX9_takesStep 20 = .ok (.isub, 1) := dk_100 (dk_at dksX9_takesStep_0 20 rfl rfl)
theorem dX9_takesStep_21 : decode cX9_takesStep 21 = .ok (.putfield 469, 3) := dk_181 1 213 (dk_at dksX9_takesStep_0 21 rfl rfl)
theorem dX9_takesStep_24 : decode cX9_takesStep 24 = .ok (.aload_n 0, 1) := dk_42 (dk_at dksX9_takesStep_1 0 rfl rfl)
theorem dX9_takesStep_25 : decode cX9_takesStep 25 = .ok (.getfield 142, 3) := dk_180 0 142 (dk_at dksX9_takesStep_1 1 rfl rfl)
theorem dX9_takesStep_28 : decode cX9_takesStep 28 = .ok (.bipush 10, 2) := dk_16 10 (dk_at dksX9_takesStep_1 4 rfl rfl)
theorem dX9_takesStep_30 : decode cX9_takesStep 30 = .ok (.aload_n 0, 1) := dk_42 (dk_at dksX9_takesStep_1 6 rfl rfl)
theorem dX9_takesStep_31 : decode cX9_takesStep 31 = .ok (.getfield 475, 3) := dk_180 1 219 (dk_at dksX9_takesStep_1 7 rfl rfl)
theorem dX9_takesStep_34 : decode cX9_takesStep 34 = .ok (.imul, 1) := dk_104 (dk_at dksX9_takesStep_1 10 rfl rfl)
theorem dX9_takesStep_35 : decode cX9_takesStep 35 = .ok (.bipush 9, 2) := dk_16 9 (dk_at dksX9_takesStep_1 11 rfl rfl)
theorem dX9_takesStep_37 : decode cX9_takesStep 37 = .ok (.iadd, 1) := dk_96 (dk_at dksX9_takesStep_1 13 rfl rfl)
theorem dX9_takesStep_38 : decode cX9_takesStep 38 = .ok (.dup2, 1) := dk_92 (dk_at dksX9_takesStep_1 14 rfl rfl)
theorem dX9_takesStep_39 : decode cX9_takesStep 39 = .ok (.iaload, 1) := dk_46 (dk_at dksX9_takesStep_1 15 rfl rfl)
theorem dX9_takesStep_40 : decode cX9_takesStep 40 = .ok (.iconst 1, 1) := dk_4 (dk_at dksX9_takesStep_1 16 rfl rfl)
theorem dX9_takesStep_41 : decode cX9_takesStep 41 = .ok (.iadd, 1) := dk_96 (dk_at dksX9_takesStep_1 17 rfl rfl)
theorem dX9_takesStep_42 : decode cX9_takesStep 42 = .ok (.iastore, 1) := dk_79 (dk_at dksX9_takesStep_1 18 rfl rfl)
theorem dX9_takesStep_43 : decode cX9_takesStep 43 = .ok (.iconst 1, 1) := dk_4 (dk_at dksX9_takesStep_1 19 rfl rfl)
theorem dX9_takesStep_44 : decode cX9_takesStep 44 = .ok (.ireturn, 1) := dk_172 (dk_at dksX9_takesStep_1 20 rfl rfl)
theorem okX9_takesStep_0 : XOkL xms rX9_takesStep bX9_takesStep_0 := xcP (xok_aload_n dX9_takesStep_0 rfl) rfl (xcP (xok_getfield (ref := "WaysAtlasModel") (Or.inl ⟨rfl, by decide⟩) dX9_takesStep_1 (Or.inl ⟨q1990, (Or.inl rfl)⟩) xh59) rfl (xcP (xok_ifne dX9_takesStep_4 (by decide)) rfl (xcP (xok_aload_n dX9_takesStep_7 rfl) rfl (xcP (xok_iconst dX9_takesStep_8 rfl) rfl (xcP (xok_putfield (ref := "WaysAtlasModel") (Or.inl ⟨rfl, by decide, rfl⟩) dX9_takesStep_9 (Or.inl ⟨q1991, (Or.inl rfl)⟩) (Or.inl rfl) xh60) rfl (xcP (xok_iconst dX9_takesStep_12 rfl) rfl (xcR ⟨dX9_takesStep_13, rfl⟩)))))))
theorem okX9_takesStep_14 : XOkL xms rX9_takesStep bX9_takesStep_14 := xcP (xok_aload_n dX9_takesStep_14 rfl) rfl (xcP (xok_dup dX9_takesStep_15) rfl (xcP (xok_getfield (ref := "WaysAtlasModel") (Or.inl ⟨rfl, by decide⟩) dX9_takesStep_16 (Or.inl ⟨q1990, (Or.inl rfl)⟩) xh59) rfl (xcP (xok_iconst dX9_takesStep_19 rfl) rfl (xcP (xok_isub dX9_takesStep_20) rfl (xcP (xok_putfield (ref := "WaysAtlasModel") (Or.inl ⟨rfl, by decide, rfl⟩) dX9_takesStep_21 (Or.inl ⟨q1990, (Or.inl rfl)⟩) (Or.inl rfl) xh59) rfl (xcP (xok_aload_n dX9_takesStep_24 rfl) rfl (xcP (xok_getfield (ref := "WaysAtlasModel") (Or.inr ⟨rfl, by decide⟩) dX9_takesStep_25 (Or.inl ⟨q1979, (Or.inl rfl)⟩) xh1086) rfl (xcP (xok_bipush dX9_takesStep_28 rfl) rfl (xcP (xok_aload_n dX9_takesStep_30 rfl) rfl (xcP (xok_getfield (ref := "WaysAtlasModel") (Or.inl ⟨rfl, by decide⟩) dX9_takesStep_31 (Or.inl ⟨q1978, (Or.inl rfl)⟩) xh58) rfl (xcP (xok_imul dX9_takesStep_34) rfl (xcP (xok_bipush dX9_takesStep_35 rfl) rfl (xcP (xok_iadd dX9_takesStep_37) rfl (xcP (xok_dup2 dX9_takesStep_38) rfl (xcP (xok_iaload dX9_takesStep_39) rfl (xcP (xok_iconst dX9_takesStep_40 rfl) rfl (xcP (xok_iadd dX9_takesStep_41) rfl (xcP (xok_iastore dX9_takesStep_42) rfl (xcP (xok_iconst dX9_takesStep_43 rfl) rfl (xcR ⟨dX9_takesStep_44, rfl⟩))))))))))))))))))))
theorem okM_X9_takesStep : XOkM xms rX9_takesStep := xokM0 (List.forall_mem_cons.mpr ⟨⟨rfl, okX9_takesStep_0⟩, List.forall_mem_cons.mpr ⟨⟨rfl, okX9_takesStep_14⟩, fun _ h => nomatch h⟩⟩) (xokH0 rfl (fun _ _ => rfl)) (by decide +kernel) (by decide)
abbrev cX9_does : ByteArray := prog_36_method_84_code
def dkwX9_does_15 : List UInt8 := [182, 2, 24, 167, 0, 8, 42, 27, 182, 2, 67, 177]
abbrev dktX9_does_15 : List UInt8 := dkwX9_does_15 ++ []
def dkwX9_does_14 : List UInt8 := [182, 2, 64, 182, 2, 55, 167, 0, 29, 42, 6, 27, 3, 182, 2, 2, 42, 42, 27, 16, 7, 182, 1, 200]
abbrev dktX9_does_14 : List UInt8 := dkwX9_does_14 ++ dktX9_does_15
def dkwX9_does_13 : List UInt8 := [7, 42, 42, 27, 4, 182, 1, 200, 42, 182, 2, 64, 182, 1, 249, 182, 2, 55, 167, 0, 41, 42, 7, 42]
abbrev dktX9_does_13 : List UInt8 := dkwX9_does_13 ++ dktX9_does_14
def dkwX9_does_12 : List UInt8 := [4, 182, 1, 200, 182, 2, 55, 167, 0, 76, 42, 42, 27, 4, 182, 1, 200, 182, 2, 21, 167, 0, 63, 42]
abbrev dktX9_does_12 : List UInt8 := dkwX9_does_12 ++ dktX9_does_13
def dkwX9_does_11 : List UInt8 := [182, 2, 61, 167, 0, 104, 42, 5, 42, 27, 4, 182, 1, 200, 182, 2, 55, 167, 0, 90, 42, 6, 42, 27]
abbrev dktX9_does_11 : List UInt8 := dkwX9_does_11 ++ dktX9_does_12
def dkwX9_does_10 : List UInt8 := [2, 160, 0, 130, 42, 4, 21, 4, 182, 2, 55, 167, 0, 120, 42, 27, 182, 2, 58, 167, 0, 112, 42, 27]
abbrev dktX9_does_10 : List UInt8 := dkwX9_does_10 ++ dktX9_does_11
def dkwX9_does_9 : List UInt8 := [167, 0, 155, 42, 27, 182, 2, 52, 167, 0, 147, 42, 27, 6, 7, 182, 2, 27, 54, 4, 42, 180, 1, 246]
abbrev dktX9_does_9 : List UInt8 := dkwX9_does_9 ++ dktX9_does_10
def dkwX9_does_8 : List UInt8 := [180, 1, 240, 4, 100, 104, 42, 27, 4, 182, 1, 200, 96, 42, 42, 27, 5, 182, 1, 200, 182, 2, 5, 79]
abbrev dktX9_does_8 : List UInt8 := dkwX9_does_8 ++ dktX9_does_9
def dkwX9_does_7 : List UInt8 := [180, 1, 240, 4, 100, 104, 42, 27, 4, 182, 1, 200, 96, 2, 79, 167, 0, 188, 42, 180, 0, 202, 6, 42]
abbrev dktX9_does_7 : List UInt8 := dkwX9_does_7 ++ dktX9_does_8
def dkwX9_does_6 : List UInt8 := [42, 27, 182, 2, 46, 167, 0, 220, 42, 27, 182, 2, 49, 167, 0, 212, 42, 180, 0, 202, 6, 42]
abbrev dktX9_does_6 : List UInt8 := dkwX9_does_6 ++ dktX9_does_7
def dkwX9_does_5 : List UInt8 := [180, 0, 199, 16, 6, 42, 180, 1, 240, 4, 100, 104, 42, 27, 4, 182, 1, 200, 96, 29, 79, 167, 0, 228]
abbrev dktX9_does_5 : List UInt8 := dkwX9_does_5 ++ dktX9_does_6
def dkwX9_does_4 : List UInt8 := [182, 1, 243, 167, 1, 13, 42, 27, 6, 7, 182, 2, 27, 62, 42, 180, 1, 246, 2, 160, 0, 253, 42]
abbrev dktX9_does_4 : List UInt8 := dkwX9_does_4 ++ dktX9_does_5
def dkwX9_does_3 : List UInt8 := [17, 1, 154, 42, 180, 1, 219, 104, 42, 6, 182, 1, 237, 96, 42, 27, 4, 182, 1, 200, 79, 42, 6]
abbrev dktX9_does_3 : List UInt8 := dkwX9_does_3 ++ dktX9_does_4
def dkwX9_does_2 : List UInt8 := [42, 27, 3, 182, 2, 43, 61, 28, 155, 0, 11, 42, 28, 182, 2, 21, 167, 1, 46, 42, 180, 0, 145]
abbrev dktX9_does_2 : List UInt8 := dkwX9_does_2 ++ dktX9_does_3
def dkwX9_does_1 : List UInt8 := [170, 0, 0, 0, 1, 139, 0, 0, 0, 0, 0, 0, 0, 16, 0, 0, 0, 82, 0, 0, 0, 134, 0, 0, 0, 175, 0, 0, 0, 183, 0, 0, 0, 191, 0, 0, 0, 215, 0, 0, 0, 248, 0, 0, 0, 175, 0, 0, 1, 0, 0, 0, 1, 27, 0, 0, 1, 35, 0, 0, 1, 43, 0, 0, 1, 57, 0, 0, 1, 71, 0, 0, 1, 84, 0, 0, 1, 106, 0, 0, 1, 118]
abbrev dktX9_does_1 : List UInt8 := dkwX9_does_1 ++ dktX9_does_2
def dkwX9_does_0 : List UInt8 := [42, 27, 3, 182, 1, 200]
abbrev dktX9_does_0 : List UInt8 := dkwX9_does_0 ++ dktX9_does_1
theorem dksX9_does_0 : cX9_does.data.toList.drop 0 = dktX9_does_0 := by decide +kernel
theorem dksX9_does_1 : cX9_does.data.toList.drop 6 = dktX9_does_1 := dk_seg dksX9_does_0 6 rfl rfl
theorem dksX9_does_2 : cX9_does.data.toList.drop 88 = dktX9_does_2 := dk_seg dksX9_does_1 82 rfl rfl
theorem dksX9_does_3 : cX9_does.data.toList.drop 111 = dktX9_does_3 := dk_seg dksX9_does_2 23 rfl rfl
theorem dksX9_does_4 : cX9_does.data.toList.drop 134 = dktX9_does_4 := dk_seg dksX9_does_3 23 rfl rfl
theorem dksX9_does_5 : cX9_does.data.toList.drop 157 = dktX9_does_5 := dk_seg dksX9_does_4 23 rfl rfl
theorem dksX9_does_6 : cX9_does.data.toList.drop 181 = dktX9_does_6 := dk_seg dksX9_does_5 24 rfl rfl
theorem dksX9_does_7 : cX9_does.data.toList.drop 203 = dktX9_does_7 := dk_seg dksX9_does_6 22 rfl rfl
theorem dksX9_does_8 : cX9_does.data.toList.drop 227 = dktX9_does_8 := dk_seg dksX9_does_7 24 rfl rfl
theorem dksX9_does_9 : cX9_does.data.toList.drop 251 = dktX9_does_9 := dk_seg dksX9_does_8 24 rfl rfl
theorem dksX9_does_10 : cX9_does.data.toList.drop 275 = dktX9_does_10 := dk_seg dksX9_does_9 24 rfl rfl
theorem dksX9_does_11 : cX9_does.data.toList.drop 299 = dktX9_does_11 := dk_seg dksX9_does_10 24 rfl rfl
theorem dksX9_does_12 : cX9_does.data.toList.drop 323 = dktX9_does_12 := dk_seg dksX9_does_11 24 rfl rfl
theorem dksX9_does_13 : cX9_does.data.toList.drop 347 = dktX9_does_13 := dk_seg dksX9_does_12 24 rfl rfl
theorem dksX9_does_14 : cX9_does.data.toList.drop 371 = dktX9_does_14 := dk_seg dksX9_does_13 24 rfl rfl
theorem dksX9_does_15 : cX9_does.data.toList.drop 395 = dktX9_does_15 := dk_seg dksX9_does_14 24 rfl rfl
theorem dX9_does_0 : decode cX9_does 0 = .ok (.aload_n 0, 1) := dk_42 (dk_at dksX9_does_0 0 rfl rfl)
theorem dX9_does_1 : decode cX9_does 1 = .ok (.iload_n 1, 1) := dk_27 (dk_at dksX9_does_0 1 rfl rfl)
theorem dX9_does_2 : decode cX9_does 2 = .ok (.iconst 0, 1) := dk_3 (dk_at dksX9_does_0 2 rfl rfl)
theorem dX9_does_3 : decode cX9_does 3 = .ok (.invokevirtual 456, 3) := dk_182 1 200 (dk_at dksX9_does_0 3 rfl rfl)
theorem dX9_does_6 : decode cX9_does 6 = .ok (.tableswitch 395 0 16 #[82, 134, 175, 183, 191, 215, 248, 175, 256, 283, 291, 299, 313, 327, 340, 362, 374], 82) := by decide +kernel
theorem dX9_does_88 : decode cX9_does 88 = .ok (.aload_n 0, 1) := dk_42 (dk_at dksX9_does_2 0 rfl rfl)
theorem dX9_does_89 : decode cX9_does 89 = .ok (.iload_n 1, 1) := dk_27 (dk_at dksX9_does_2 1 rfl rfl)
theorem dX9_does_90 : decode cX9_does 90 = .ok (.iconst 0, 1) := dk_3 (dk_at dksX9_does_2 2 rfl rfl)
theorem dX9_does_91 : decode cX9_does 91 = .ok (.invokevirtual 555, 3) := dk_182 2 43 (dk_at dksX9_does_2 3 rfl rfl)
theorem dX9_does_94 : decode cX9_does 94 = .ok (.istore_n 2, 1) := dk_61 (dk_at dksX9_does_2 6 rfl rfl)
theorem dX9_does_95 : decode cX9_does 95 = .ok (.iload_n 2, 1) := dk_28 (dk_at dksX9_does_2 7 rfl rfl)
theorem dX9_does_96 : decode cX9_does 96 = .ok (.ifCond .lt 11, 3) := dk_155 0 11 (dk_at dksX9_does_2 8 rfl rfl)
theorem dX9_does_99 : decode cX9_does 99 = .ok (.aload_n 0, 1) := dk_42 (dk_at dksX9_does_2 11 rfl rfl)
theorem dX9_does_100 : decode cX9_does 100 = .ok (.iload_n 2, 1) := dk_28 (dk_at dksX9_does_2 12 rfl rfl)
theorem dX9_does_101 : decode cX9_does 101 = .ok (.invokevirtual 533, 3) := dk_182 2 21 (dk_at dksX9_does_2 13 rfl rfl)
theorem dX9_does_104 : decode cX9_does 104 = .ok (.goto 302, 3) := dk_167 1 46 (dk_at dksX9_does_2 16 rfl rfl)
theorem dX9_does_107 : decode cX9_does 107 = .ok (.aload_n 0, 1) := dk_42 (dk_at dksX9_does_2 19 rfl rfl)
theorem dX9_does_108 : decode cX9_does 108 = .ok (.getfield 145, 3) := dk_180 0 145 (dk_at dksX9_does_2 20 rfl rfl)
theorem dX9_does_111 : decode cX9_does 111 = .ok (.sipush 410, 3) := dk_17 1 154 (dk_at dksX9_does_3 0 rfl rfl)
theorem dX9_does_114 : decode cX9_does 114 = .ok (.aload_n 0, 1) := dk_42 (dk_at dksX9_does_3 3 rfl rfl)
theorem dX9_does_115 : decode cX9_does 115 = .ok (.getfield 475, 3) := dk_180 1 219 (dk_at dksX9_does_3 4 rfl rfl)
theorem dX9_does_118 : decode cX9_does 118 = .ok (.imul, 1) := dk_104 (dk_at dksX9_does_3 7 rfl rfl)
theorem dX9_does_119 : decode cX9_does 119 = .ok (.aload_n 0, 1) := dk_42 (dk_at dksX9_does_3 8 rfl rfl)
theorem dX9_does_120 : decode cX9_does 120 = .ok (.iconst 3, 1) := dk_6 (dk_at dksX9_does_3 9 rfl rfl)
theorem dX9_does_121 : decode cX9_does 121 = .ok (.invokevirtual 493, 3) := dk_182 1 237 (dk_at dksX9_does_3 10 rfl rfl)
theorem dX9_does_124 : decode cX9_does 124 = .ok (.iadd, 1) := dk_96 (dk_at dksX9_does_3 13 rfl rfl)
theorem dX9_does_125 : decode cX9_does 125 = .ok (.aload_n 0, 1) := dk_42 (dk_at dksX9_does_3 14 rfl rfl)
theorem dX9_does_126 : decode cX9_does 126 = .ok (.iload_n 1, 1) := dk_27 (dk_at dksX9_does_3 15 rfl rfl)
theorem dX9_does_127 : decode cX9_does 127 = .ok (.iconst 1, 1) := dk_4 (dk_at dksX9_does_3 16 rfl rfl)
theorem dX9_does_128 : decode cX9_does 128 = .ok (.invokevirtual 456, 3) := dk_182 1 200 (dk_at dksX9_does_3 17 rfl rfl)
theorem dX9_does_131 : decode cX9_does 131 = .ok (.iastore, 1) := dk_79 (dk_at dksX9_does_3 20 rfl rfl)
theorem dX9_does_132 : decode cX9_does 132 = .ok (.aload_n 0, 1) := dk_42 (dk_at dksX9_does_3 21 rfl rfl)
theorem dX9_does_133 : decode cX9_does 133 = .ok (.iconst 3, 1) := dk_6 (dk_at dksX9_does_3 22 rfl rfl)
theorem dX9_does_134 : decode cX9_does 134 = .ok (.invokevirtual 499, 3) := dk_182 1 243 (dk_at dksX9_does_4 0 rfl rfl)
theorem dX9_does_137 : decode cX9_does 137 = .ok (.goto 269, 3) := dk_167 1 13 (dk_at dksX9_does_4 3 rfl rfl)
theorem dX9_does_140 : decode cX9_does 140 = .ok (.aload_n 0, 1) := dk_42 (dk_at dksX9_does_4 6 rfl rfl)
theorem dX9_does_141 : decode cX9_does 141 = .ok (.iload_n 1, 1) := dk_27 (dk_at dksX9_does_4 7 rfl rfl)
theorem dX9_does_142 : decode cX9_does 142 = .ok (.iconst 3, 1) := dk_6 (dk_at dksX9_does_4 8 rfl rfl)
theorem dX9_does_143 : decode cX9_does 143 = .ok (.iconst 4, 1) := dk_7 (dk_at dksX9_does_4 9 rfl rfl)
theorem dX9_does_144 : decode cX9_does 144 = .ok (.invokevirtual 539, 3) := dk_182 2 27 (dk_at dksX9_does_4 10 rfl rfl)
theorem dX9_does_147 : decode cX9_does 147 = .ok (.istore_n 3, 1) := dk_62 (dk_at dksX9_does_4 13 rfl rfl)
theorem dX9_does_148 : decode cX9_does 148 = .ok (.aload_n 0, 1) := dk_42 (dk_at dksX9_does_4 14 rfl rfl)
theorem dX9_does_149 : decode cX9_does 149 = .ok (.getfield 502, 3) := dk_180 1 246 (dk_at dksX9_does_4 15 rfl rfl)
theorem dX9_does_152 : decode cX9_does 152 = .ok (.iconst (-1), 1) := dk_2 (dk_at dksX9_does_4 18 rfl rfl)
theorem dX9_does_153 : decode cX9_does 153 = .ok (.if_icmp .ne 253, 3) := dk_160 0 253 (dk_at dksX9_does_4 19 rfl rfl)
theorem dX9_does_156 : decode cX9_does 156 = .ok (.aload_n 0, 1) := dk_42 (dk_at dksX9_does_4 22 rfl rfl)
theorem dX9_does_157 : decode cX9_does 157 = .ok (.getfield 199, 3) := dk_180 0 199 (dk_at dksX9_does_5 0 rfl rfl)
theorem dX9_does_160 : decode cX9_does 160 = .ok (.bipush 6, 2) := dk_16 6 (dk_at dksX9_does_5 3 rfl rfl)
theorem dX9_does_162 : decode cX9_does 162 = .ok (.aload_n 0, 1) := dk_42 (dk_at dksX9_does_5 5 rfl rfl)
theorem dX9_does_163 : decode cX9_does 163 = .ok (.getfield 496, 3) := dk_180 1 240 (dk_at dksX9_does_5 6 rfl rfl)
theorem dX9_does_166 : decode cX9_does 166 = .ok (.iconst 1, 1) := dk_4 (dk_at dksX9_does_5 9 rfl rfl)
theorem dX9_does_167 : decode cX9_does 167 = .ok (.isub, 1) := dk_100 (dk_at dksX9_does_5 10 rfl rfl)
theorem dX9_does_168 : decode cX9_does 168 = .ok (.imul, 1) := dk_104 (dk_at dksX9_does_5 11 rfl rfl)
theorem dX9_does_169 : decode cX9_does 169 = .ok (.aload_n 0, 1) := dk_42 (dk_at dksX9_does_5 12 rfl rfl)
theorem dX9_does_170 : decode cX9_does 170 = .ok (.iload_n 1, 1) := dk_27 (dk_at dksX9_does_5 13 rfl rfl)
theorem dX9_does_171 : decode cX9_does 171 = .ok (.iconst 1, 1) := dk_4 (dk_at dksX9_does_5 14 rfl rfl)
theorem dX9_does_172 : decode cX9_does 172 = .ok (.invokevirtual 456, 3) := dk_182 1 200 (dk_at dksX9_does_5 15 rfl rfl)
theorem dX9_does_175 : decode cX9_does 175 = .ok (.iadd, 1) := dk_96 (dk_at dksX9_does_5 18 rfl rfl)
theorem dX9_does_176 : decode cX9_does 176 = .ok (.iload_n 3, 1) := dk_29 (dk_at dksX9_does_5 19 rfl rfl)
theorem dX9_does_177 : decode cX9_does 177 = .ok (.iastore, 1) := dk_79 (dk_at dksX9_does_5 20 rfl rfl)
theorem dX9_does_178 : decode cX9_does 178 = .ok (.goto 228, 3) := dk_167 0 228 (dk_at dksX9_does_5 21 rfl rfl)
theorem dX9_does_181 : decode cX9_does 181 = .ok (.aload_n 0, 1) := dk_42 (dk_at dksX9_does_6 0 rfl rfl)
theorem dX9_does_182 : decode cX9_does 182 = .ok (.iload_n 1, 1) := dk_27 (dk_at dksX9_does_6 1 rfl rfl)
theorem dX9_does_183 : decode cX9_does 183 = .ok (.invokevirtual 558, 3) := dk_182 2 46 (dk_at dksX9_does_6 2 rfl rfl)
theorem dX9_does_186 : decode cX9_does 186 = .ok (.goto 220, 3) := dk_167 0 220 (dk_at dksX9_does_6 5 rfl rfl)
theorem dX9_does_189 : decode cX9_does 189 = .ok (.aload_n 0, 1) := dk_42 (dk_at dksX9_does_6 8 rfl rfl)
theorem dX9_does_190 : decode cX9_does 190 = .ok (.iload_n 1, 1) := dk_27 (dk_at dksX9_does_6 9 rfl rfl)
theorem dX9_does_191 : decode cX9_does 191 = .ok (.invokevirtual 561, 3) := dk_182 2 49 (dk_at dksX9_does_6 10 rfl rfl)
theorem dX9_does_194 : decode cX9_does 194 = .ok (.goto 212, 3) := dk_167 0 212 (dk_at dksX9_does_6 13 rfl rfl)
theorem dX9_does_197 : decode cX9_does 197 = .ok (.aload_n 0, 1) := dk_42 (dk_at dksX9_does_6 16 rfl rfl)
theorem dX9_does_198 : decode cX9_does 198 = .ok (.getfield 202, 3) := dk_180 0 202 (dk_at dksX9_does_6 17 rfl rfl)
theorem dX9_does_201 : decode cX9_does 201 = .ok (.iconst 3, 1) := dk_6 (dk_at dksX9_does_6 20 rfl rfl)
theorem dX9_does_202 : decode cX9_does 202 = .ok (.aload_n 0, 1) := dk_42 (dk_at dksX9_does_6 21 rfl rfl)
theorem dX9_does_203 : decode cX9_does 203 = .ok (.getfield 496, 3) := dk_180 1 240 (dk_at dksX9_does_7 0 rfl rfl)
theorem dX9_does_206 : decode cX9_does 206 = .ok (.iconst 1, 1) := dk_4 (dk_at dksX9_does_7 3 rfl rfl)
theorem dX9_does_207 : decode cX9_does 207 = .ok (.isub, 1) := dk_100 (dk_at dksX9_does_7 4 rfl rfl)
theorem dX9_does_208 : decode cX9_does 208 = .ok (.imul, 1) := dk_104 (dk_at dksX9_does_7 5 rfl rfl)
theorem dX9_does_209 : decode cX9_does 209 = .ok (.aload_n 0, 1) := dk_42 (dk_at dksX9_does_7 6 rfl rfl)
theorem dX9_does_210 : decode cX9_does 210 = .ok (.iload_n 1, 1) := dk_27 (dk_at dksX9_does_7 7 rfl rfl)
theorem dX9_does_211 : decode cX9_does 211 = .ok (.iconst 1, 1) := dk_4 (dk_at dksX9_does_7 8 rfl rfl)
theorem dX9_does_212 : decode cX9_does 212 = .ok (.invokevirtual 456, 3) := dk_182 1 200 (dk_at dksX9_does_7 9 rfl rfl)
theorem dX9_does_215 : decode cX9_does 215 = .ok (.iadd, 1) := dk_96 (dk_at dksX9_does_7 12 rfl rfl)
theorem dX9_does_216 : decode cX9_does 216 = .ok (.iconst (-1), 1) := dk_2 (dk_at dksX9_does_7 13 rfl rfl)
theorem dX9_does_217 : decode cX9_does 217 = .ok (.iastore, 1) := dk_79 (dk_at dksX9_does_7 14 rfl rfl)
theorem dX9_does_218 : decode cX9_does 218 = .ok (.goto 188, 3) := dk_167 0 188 (dk_at dksX9_does_7 15 rfl rfl)
theorem dX9_does_221 : decode cX9_does 221 = .ok (.aload_n 0, 1) := dk_42 (dk_at dksX9_does_7 18 rfl rfl)
theorem dX9_does_222 : decode cX9_does 222 = .ok (.getfield 202, 3) := dk_180 0 202 (dk_at dksX9_does_7 19 rfl rfl)
theorem dX9_does_225 : decode cX9_does 225 = .ok (.iconst 3, 1) := dk_6 (dk_at dksX9_does_7 22 rfl rfl)
theorem dX9_does_226 : decode cX9_does 226 = .ok (.aload_n 0, 1) := dk_42 (dk_at dksX9_does_7 23 rfl rfl)
theorem dX9_does_227 : decode cX9_does 227 = .ok (.getfield 496, 3) := dk_180 1 240 (dk_at dksX9_does_8 0 rfl rfl)
theorem dX9_does_230 : decode cX9_does 230 = .ok (.iconst 1, 1) := dk_4 (dk_at dksX9_does_8 3 rfl rfl)
theorem dX9_does_231 : decode cX9_does 231 = .ok (.isub, 1) := dk_100 (dk_at dksX9_does_8 4 rfl rfl)
theorem dX9_does_232 : decode cX9_does 232 = .ok (.imul, 1) := dk_104 (dk_at dksX9_does_8 5 rfl rfl)
theorem dX9_does_233 : decode cX9_does 233 = .ok (.aload_n 0, 1) := dk_42 (dk_at dksX9_does_8 6 rfl rfl)
theorem dX9_does_234 : decode cX9_does 234 = .ok (.iload_n 1, 1) := dk_27 (dk_at dksX9_does_8 7 rfl rfl)
theorem dX9_does_235 : decode cX9_does 235 = .ok (.iconst 1, 1) := dk_4 (dk_at dksX9_does_8 8 rfl rfl)
theorem dX9_does_236 : decode cX9_does 236 = .ok (.invokevirtual 456, 3) := dk_182 1 200 (dk_at dksX9_does_8 9 rfl rfl)
theorem dX9_does_239 : decode cX9_does 239 = .ok (.iadd, 1) := dk_96 (dk_at dksX9_does_8 12 rfl rfl)
theorem dX9_does_240 : decode cX9_does 240 = .ok (.aload_n 0, 1) := dk_42 (dk_at dksX9_does_8 13 rfl rfl)
theorem dX9_does_241 : decode cX9_does 241 = .ok (.aload_n 0, 1) := dk_42 (dk_at dksX9_does_8 14 rfl rfl)
theorem dX9_does_242 : decode cX9_does 242 = .ok (.iload_n 1, 1) := dk_27 (dk_at dksX9_does_8 15 rfl rfl)
theorem dX9_does_243 : decode cX9_does 243 = .ok (.iconst 2, 1) := dk_5 (dk_at dksX9_does_8 16 rfl rfl)
theorem dX9_does_244 : decode cX9_does 244 = .ok (.invokevirtual 456, 3) := dk_182 1 200 (dk_at dksX9_does_8 17 rfl rfl)
theorem dX9_does_247 : decode cX9_does 247 = .ok (.invokevirtual 517, 3) := dk_182 2 5 (dk_at dksX9_does_8 20 rfl rfl)
theorem dX9_does_250 : decode cX9_does 250 = .ok (.iastore, 1) := dk_79 (dk_at dksX9_does_8 23 rfl rfl)
theorem dX9_does_251 : decode cX9_does 251 = .ok (.goto 155, 3) := dk_167 0 155 (dk_at dksX9_does_9 0 rfl rfl)
theorem dX9_does_254 : decode cX9_does 254 = .ok (.aload_n 0, 1) := dk_42 (dk_at dksX9_does_9 3 rfl rfl)
theorem dX9_does_255 : decode cX9_does 255 = .ok (.iload_n 1, 1) := dk_27 (dk_at dksX9_does_9 4 rfl rfl)
theorem dX9_does_256 : decode cX9_does 256 = .ok (.invokevirtual 564, 3) := dk_182 2 52 (dk_at dksX9_does_9 5 rfl rfl)
theorem dX9_does_259 : decode cX9_does 259 = .ok (.goto 147, 3) := dk_167 0 147 (dk_at dksX9_does_9 8 rfl rfl)
theorem dX9_does_262 : decode cX9_does 262 = .ok (.aload_n 0, 1) := dk_42 (dk_at dksX9_does_9 11 rfl rfl)
theorem dX9_does_263 : decode cX9_does 263 = .ok (.iload_n 1, 1) := dk_27 (dk_at dksX9_does_9 12 rfl rfl)
theorem dX9_does_264 : decode cX9_does 264 = .ok (.iconst 3, 1) := dk_6 (dk_at dksX9_does_9 13 rfl rfl)
theorem dX9_does_265 : decode cX9_does 265 = .ok (.iconst 4, 1) := dk_7 (dk_at dksX9_does_9 14 rfl rfl)
theorem dX9_does_266 : decode cX9_does 266 = .ok (.invokevirtual 539, 3) := dk_182 2 27 (dk_at dksX9_does_9 15 rfl rfl)
theorem dX9_does_269 : decode cX9_does 269 = .ok (.istore 4, 2) := dk_54 4 (dk_at dksX9_does_9 18 rfl rfl)
theorem dX9_does_271 : decode cX9_does 271 = .ok (.aload_n 0, 1) := dk_42 (dk_at dksX9_does_9 20 rfl rfl)
theorem dX9_does_272 : decode cX9_does 272 = .ok (.getfield 502, 3) := dk_180 1 246 (dk_at dksX9_does_9 21 rfl rfl)
theorem dX9_does_275 : decode cX9_does 275 = .ok (.iconst (-1), 1) := dk_2 (dk_at dksX9_does_10 0 rfl rfl)
theorem dX9_does_276 : decode cX9_does 276 = .ok (.if_icmp .ne 130, 3) := dk_160 0 130 (dk_at dksX9_does_10 1 rfl rfl)
theorem dX9_does_279 : decode cX9_does 279 = .ok (.aload_n 0, 1) := dk_42 (dk_at dksX9_does_10 4 rfl rfl)
theorem dX9_does_280 : decode cX9_does 280 = .ok (.iconst 1, 1) := dk_4 (dk_at dksX9_does_10 5 rfl rfl)
theorem dX9_does_281 : decode cX9_does 281 = .ok (.iload 4, 2) := dk_21 4 (dk_at dksX9_does_10 6 rfl rfl)
theorem dX9_does_283 : decode cX9_does 283 = .ok (.invokevirtual 567, 3) := dk_182 2 55 (dk_at dksX9_does_10 8 rfl rfl)
theorem dX9_does_286 : decode cX9_does 286 = .ok (.goto 120, 3) := dk_167 0 120 (dk_at dksX9_does_10 11 rfl rfl)
theorem dX9_does_289 : decode cX9_does 289 = .ok (.aload_n 0, 1) := dk_42 (dk_at dksX9_does_10 14 rfl rfl)
theorem dX9_does_290 : decode cX9_does 290 = .ok (.iload_n 1, 1) := dk_27 (dk_at dksX9_does_10 15 rfl rfl)
theorem dX9_does_291 : decode cX9_does 291 = .ok (.invokevirtual 570, 3) := dk_182 2 58 (dk_at dksX9_does_10 16 rfl rfl)
theorem dX9_does_294 : decode cX9_does 294 = .ok (.goto 112, 3) := dk_167 0 112 (dk_at dksX9_does_10 19 rfl rfl)
theorem dX9_does_297 : decode cX9_does 297 = .ok (.aload_n 0, 1) := dk_42 (dk_at dksX9_does_10 22 rfl rfl)
theorem dX9_does_298 : decode cX9_does 298 = .ok (.iload_n 1, 1) := dk_27 (dk_at dksX9_does_10 23 rfl rfl)
theorem dX9_does_299 : decode cX9_does 299 = .ok (.invokevirtual 573, 3) := dk_182 2 61 (dk_at dksX9_does_11 0 rfl rfl)
theorem dX9_does_302 : decode cX9_does 302 = .ok (.goto 104, 3) := dk_167 0 104 (dk_at dksX9_does_11 3 rfl rfl)
theorem dX9_does_305 : decode cX9_does 305 = .ok (.aload_n 0, 1) := dk_42 (dk_at dksX9_does_11 6 rfl rfl)
theorem dX9_does_306 : decode cX9_does 306 = .ok (.iconst 2, 1) := dk_5 (dk_at dksX9_does_11 7 rfl rfl)
theorem dX9_does_307 : decode cX9_does 307 = .ok (.aload_n 0, 1) := dk_42 (dk_at dksX9_does_11 8 rfl rfl)
theorem dX9_does_308 : decode cX9_does 308 = .ok (.iload_n 1, 1) := dk_27 (dk_at dksX9_does_11 9 rfl rfl)
theorem dX9_does_309 : decode cX9_does 309 = .ok (.iconst 1, 1) := dk_4 (dk_at dksX9_does_11 10 rfl rfl)
theorem dX9_does_310 : decode cX9_does 310 = .ok (.invokevirtual 456, 3) := dk_182 1 200 (dk_at dksX9_does_11 11 rfl rfl)
theorem dX9_does_313 : decode cX9_does 313 = .ok (.invokevirtual 567, 3) := dk_182 2 55 (dk_at dksX9_does_11 14 rfl rfl)
theorem dX9_does_316 : decode cX9_does 316 = .ok (.goto 90, 3) := dk_167 0 90 (dk_at dksX9_does_11 17 rfl rfl)
theorem dX9_does_319 : decode cX9_does 319 = .ok (.aload_n 0, 1) := dk_42 (dk_at dksX9_does_11 20 rfl rfl)
theorem dX9_does_320 : decode cX9_does 320 = .ok (.iconst 3, 1) := dk_6 (dk_at dksX9_does_11 21 rfl rfl)
theorem dX9_does_321 : decode cX9_does 321 = .ok (.aload_n 0, 1) := dk_42 (dk_at dksX9_does_11 22 rfl rfl)
theorem dX9_does_322 : decode cX9_does 322 = .ok (.iload_n 1, 1) := dk_27 (dk_at dksX9_does_11 23 rfl rfl)
theorem dX9_does_323 : decode cX9_does 323 = .ok (.iconst 1, 1) := dk_4 (dk_at dksX9_does_12 0 rfl rfl)
theorem dX9_does_324 : decode cX9_does 324 = .ok (.invokevirtual 456, 3) := dk_182 1 200 (dk_at dksX9_does_12 1 rfl rfl)
theorem dX9_does_327 : decode cX9_does 327 = .ok (.invokevirtual 567, 3) := dk_182 2 55 (dk_at dksX9_does_12 4 rfl rfl)
theorem dX9_does_330 : decode cX9_does 330 = .ok (.goto 76, 3) := dk_167 0 76 (dk_at dksX9_does_12 7 rfl rfl)
theorem dX9_does_333 : decode cX9_does 333 = .ok (.aload_n 0, 1) := dk_42 (dk_at dksX9_does_12 10 rfl rfl)
theorem dX9_does_334 : decode cX9_does 334 = .ok (.aload_n 0, 1) := dk_42 (dk_at dksX9_does_12 11 rfl rfl)
theorem dX9_does_335 : decode cX9_does 335 = .ok (.iload_n 1, 1) := dk_27 (dk_at dksX9_does_12 12 rfl rfl)
theorem dX9_does_336 : decode cX9_does 336 = .ok (.iconst 1, 1) := dk_4 (dk_at dksX9_does_12 13 rfl rfl)
theorem dX9_does_337 : decode cX9_does 337 = .ok (.invokevirtual 456, 3) := dk_182 1 200 (dk_at dksX9_does_12 14 rfl rfl)
theorem dX9_does_340 : decode cX9_does 340 = .ok (.invokevirtual 533, 3) := dk_182 2 21 (dk_at dksX9_does_12 17 rfl rfl)
theorem dX9_does_343 : decode cX9_does 343 = .ok (.goto 63, 3) := dk_167 0 63 (dk_at dksX9_does_12 20 rfl rfl)
theorem dX9_does_346 : decode cX9_does 346 = .ok (.aload_n 0, 1) := dk_42 (dk_at dksX9_does_12 23 rfl rfl)
theorem dX9_does_347 : decode cX9_does 347 = .ok (.iconst 4, 1) := dk_7 (dk_at dksX9_does_13 0 rfl rfl)
theorem dX9_does_348 : decode cX9_does 348 = .ok (.aload_n 0, 1) := dk_42 (dk_at dksX9_does_13 1 rfl rfl)
theorem dX9_does_349 : decode cX9_does 349 = .ok (.aload_n 0, 1) := dk_42 (dk_at dksX9_does_13 2 rfl rfl)
theorem dX9_does_350 : decode cX9_does 350 = .ok (.iload_n 1, 1) := dk_27 (dk_at dksX9_does_13 3 rfl rfl)
theorem dX9_does_351 : decode cX9_does 351 = .ok (.iconst 1, 1) := dk_4 (dk_at dksX9_does_13 4 rfl rfl)
theorem dX9_does_352 : decode cX9_does 352 = .ok (.invokevirtual 456, 3) := dk_182 1 200 (dk_at dksX9_does_13 5 rfl rfl)
theorem dX9_does_355 : decode cX9_does 355 = .ok (.aload_n 0, 1) := dk_42 (dk_at dksX9_does_13 8 rfl rfl)
theorem dX9_does_356 : decode cX9_does 356 = .ok (.invokevirtual 576, 3) := dk_182 2 64 (dk_at dksX9_does_13 9 rfl rfl)
theorem dX9_does_359 : decode cX9_does 359 = .ok (.invokevirtual 505, 3) := dk_182 1 249 (dk_at dksX9_does_13 12 rfl rfl)
theorem dX9_does_362 : decode cX9_does 362 = .ok (.invokevirtual 567, 3) := dk_182 2 55 (dk_at dksX9_does_13 15 rfl rfl)
theorem dX9_does_365 : decode cX9_does 365 = .ok (.goto 41, 3) := dk_167 0 41 (dk_at dksX9_does_13 18 rfl rfl)
theorem dX9_does_368 : decode cX9_does 368 = .ok (.aload_n 0, 1) := dk_42 (dk_at dksX9_does_13 21 rfl rfl)
theorem dX9_does_369 : decode cX9_does 369 = .ok (.iconst 4, 1) := dk_7 (dk_at dksX9_does_13 22 rfl rfl)
theorem dX9_does_370 : decode cX9_does 370 = .ok (.aload_n 0, 1) := dk_42 (dk_at dksX9_does_13 23 rfl rfl)
theorem dX9_does_371 : decode cX9_does 371 = .ok (.invokevirtual 576, 3) := dk_182 2 64 (dk_at dksX9_does_14 0 rfl rfl)
theorem dX9_does_374 : decode cX9_does 374 = .ok (.invokevirtual 567, 3) := dk_182 2 55 (dk_at dksX9_does_14 3 rfl rfl)
theorem dX9_does_377 : decode cX9_does 377 = .ok (.goto 29, 3) := dk_167 0 29 (dk_at dksX9_does_14 6 rfl rfl)
theorem dX9_does_380 : decode cX9_does 380 = .ok (.aload_n 0, 1) := dk_42 (dk_at dksX9_does_14 9 rfl rfl)
theorem dX9_does_381 : decode cX9_does 381 = .ok (.iconst 3, 1) := dk_6 (dk_at dksX9_does_14 10 rfl rfl)
theorem dX9_does_382 : decode cX9_does 382 = .ok (.iload_n 1, 1) := dk_27 (dk_at dksX9_does_14 11 rfl rfl)
theorem dX9_does_383 : decode cX9_does 383 = .ok (.iconst 0, 1) := dk_3 (dk_at dksX9_does_14 12 rfl rfl)
theorem dX9_does_384 : decode cX9_does 384 = .ok (.invokevirtual 514, 3) := dk_182 2 2 (dk_at dksX9_does_14 13 rfl rfl)
theorem dX9_does_387 : decode cX9_does 387 = .ok (.aload_n 0, 1) := dk_42 (dk_at dksX9_does_14 16 rfl rfl)
theorem dX9_does_388 : decode cX9_does 388 = .ok (.aload_n 0, 1) := dk_42 (dk_at dksX9_does_14 17 rfl rfl)
theorem dX9_does_389 : decode cX9_does 389 = .ok (.iload_n 1, 1) := dk_27 (dk_at dksX9_does_14 18 rfl rfl)
theorem dX9_does_390 : decode cX9_does 390 = .ok (.bipush 7, 2) := dk_16 7 (dk_at dksX9_does_14 19 rfl rfl)
theorem dX9_does_392 : decode cX9_does 392 = .ok (.invokevirtual 456, 3) := dk_182 1 200 (dk_at dksX9_does_14 21 rfl rfl)
theorem dX9_does_395 : decode cX9_does 395 = .ok (.invokevirtual 536, 3) := dk_182 2 24 (dk_at dksX9_does_15 0 rfl rfl)
theorem dX9_does_398 : decode cX9_does 398 = .ok (.goto 8, 3) := dk_167 0 8 (dk_at dksX9_does_15 3 rfl rfl)
theorem dX9_does_401 : decode cX9_does 401 = .ok (.aload_n 0, 1) := dk_42 (dk_at dksX9_does_15 6 rfl rfl)
theorem dX9_does_402 : decode cX9_does 402 = .ok (.iload_n 1, 1) := dk_27 (dk_at dksX9_does_15 7 rfl rfl)
theorem dX9_does_403 : decode cX9_does 403 = .ok (.invokevirtual 579, 3) := dk_182 2 67 (dk_at dksX9_does_15 8 rfl rfl)
theorem dX9_does_406 : decode cX9_does 406 = .ok (.return_, 1) := dk_177 (dk_at dksX9_does_15 11 rfl rfl)
theorem okX9_does_0 : XOkL xms rX9_does bX9_does_0 := xcP (xok_aload_n dX9_does_0 rfl) rfl (xcP (xok_iload_n dX9_does_1 rfl) rfl (xcP (xok_iconst dX9_does_2 rfl) rfl (xcC0 (xokc_list (List.forall_mem_cons.mpr ⟨xokc_V (r := (RX9, TX9, 96)) xm153 (List.mem_of_getElem? (i := 9) rfl) (by decide) rfl dX9_does_3 q2441 q2443 qs100 q149 q2444 (by decide +kernel), fun _ h => nomatch h⟩)) rfl (xcP (xok_tsw dX9_does_6 (by decide) (by decide) (by decide)) rfl trivial))))
theorem okX9_does_88 : XOkL xms rX9_does bX9_does_88 := xcP (xok_aload_n dX9_does_88 rfl) rfl (xcP (xok_iload_n dX9_does_89 rfl) rfl (xcP (xok_iconst dX9_does_90 rfl) rfl (xcC0 (xokc_list (List.forall_mem_cons.mpr ⟨xokc_V (r := (RX9, TX9, 96)) xm167 (List.mem_of_getElem? (i := 9) rfl) (by decide) rfl dX9_does_91 q2497 q2499 qs111 q149 q2500 (by decide +kernel), fun _ h => nomatch h⟩)) rfl (xcP (xok_istore_n dX9_does_94 rfl) rfl (xcP (xok_iload_n dX9_does_95 rfl) rfl (xcP (xok_iflt dX9_does_96 (by decide)) rfl (xcP (xok_aload_n dX9_does_99 rfl) rfl (xcP (xok_iload_n dX9_does_100 rfl) rfl (xcC0 (xokc_list (List.forall_mem_cons.mpr ⟨xokc_V (r := (RX9, TX9, 96)) xm168 (List.mem_of_getElem? (i := 9) rfl) (by decide) rfl dX9_does_101 q2501 q2503 qs112 q149 q2504 (by decide +kernel), fun _ h => nomatch h⟩)) rfl (xcP (xok_goto dX9_does_104 (by decide)) rfl trivial))))))))))
theorem okX9_does_107 : XOkL xms rX9_does bX9_does_107 := xcP (xok_aload_n dX9_does_107 rfl) rfl (xcP (xok_getfield (ref := "WaysAtlasModel") (Or.inr ⟨rfl, by decide⟩) dX9_does_108 (Or.inl ⟨q1980, (Or.inl rfl)⟩) xh1087) rfl (xcP (xok_sipush dX9_does_111 rfl) rfl (xcP (xok_aload_n dX9_does_114 rfl) rfl (xcP (xok_getfield (ref := "WaysAtlasModel") (Or.inl ⟨rfl, by decide⟩) dX9_does_115 (Or.inl ⟨q1978, (Or.inl rfl)⟩) xh58) rfl (xcP (xok_imul dX9_does_118) rfl (xcP (xok_aload_n dX9_does_119 rfl) rfl (xcP (xok_iconst dX9_does_120 rfl) rfl (xcC0 (xokc_list (List.forall_mem_cons.mpr ⟨xokc_V (r := (RX9, TX9, 96)) xm162 (List.mem_of_getElem? (i := 9) rfl) (by decide) rfl dX9_does_121 q2477 q2479 qs106 q149 q2480 (by decide +kernel), fun _ h => nomatch h⟩)) rfl (xcP (xok_iadd dX9_does_124) rfl (xcP (xok_aload_n dX9_does_125 rfl) rfl (xcP (xok_iload_n dX9_does_126 rfl) rfl (xcP (xok_iconst dX9_does_127 rfl) rfl (xcC0 (xokc_list (List.forall_mem_cons.mpr ⟨xokc_V (r := (RX9, TX9, 96)) xm153 (List.mem_of_getElem? (i := 9) rfl) (by decide) rfl dX9_does_128 q2441 q2443 qs100 q149 q2444 (by decide +kernel), fun _ h => nomatch h⟩)) rfl (xcP (xok_iastore dX9_does_131) rfl (xcP (xok_aload_n dX9_does_132 rfl) rfl (xcP (xok_iconst dX9_does_133 rfl) rfl (xcC0 (xokc_list (List.forall_mem_cons.mpr ⟨xokc_V (r := (RX9, TX9, 96)) xm170 (List.mem_of_getElem? (i := 9) rfl) (by decide) rfl dX9_does_134 q2509 q2511 qs114 q149 q2512 (by decide +kernel), fun _ h => nomatch h⟩)) rfl (xcP (xok_goto dX9_does_137 (by decide)) rfl trivial))))))))))))))))))
theorem okX9_does_140 : XOkL xms rX9_does bX9_does_140 := xcP (xok_aload_n dX9_does_140 rfl) rfl (xcP (xok_iload_n dX9_does_141 rfl) rfl (xcP (xok_iconst dX9_does_142 rfl) rfl (xcP (xok_iconst dX9_does_143 rfl) rfl (xcC0 (xokc_list (List.forall_mem_cons.mpr ⟨xokc_V (r := (RX9, TX9, 96)) xm171 (List.mem_of_getElem? (i := 9) rfl) (by decide) rfl dX9_does_144 q2513 q2515 qs115 q149 q2516 (by decide +kernel), fun _ h => nomatch h⟩)) rfl (xcP (xok_istore_n dX9_does_147 rfl) rfl (xcP (xok_aload_n dX9_does_148 rfl) rfl (xcP (xok_getfield (ref := "WaysAtlasModel") (Or.inl ⟨rfl, by decide⟩) dX9_does_149 (Or.inl ⟨q1992, (Or.inl rfl)⟩) xh61) rfl (xcP (xok_iconst dX9_does_152 rfl) rfl (xcP (xok_icmpne dX9_does_153 (by decide)) rfl (xcP (xok_aload_n dX9_does_156 rfl) rfl (xcP (xok_getfield (ref := "WaysAtlasModel") (Or.inr ⟨rfl, by decide⟩) dX9_does_157 (Or.inl ⟨q2004, (Or.inl rfl)⟩) xh1105) rfl (xcP (xok_bipush dX9_does_160 rfl) rfl (xcP (xok_aload_n dX9_does_162 rfl) rfl (xcP (xok_getfield (ref := "WaysAtlasModel") (Or.inl ⟨rfl, by decide⟩) dX9_does_163 (Or.inl ⟨q2003, (Or.inl rfl)⟩) xh64) rfl (xcP (xok_iconst dX9_does_166 rfl) rfl (xcP (xok_isub dX9_does_167) rfl (xcP (xok_imul dX9_does_168) rfl (xcP (xok_aload_n dX9_does_169 rfl) rfl (xcP (xok_iload_n dX9_does_170 rfl) rfl (xcP (xok_iconst dX9_does_171 rfl) rfl (xcC0 (xokc_list (List.forall_mem_cons.mpr ⟨xokc_V (r := (RX9, TX9, 96)) xm153 (List.mem_of_getElem? (i := 9) rfl) (by decide) rfl dX9_does_172 q2441 q2443 qs100 q149 q2444 (by decide +kernel), fun _ h => nomatch h⟩)) rfl (xcP (xok_iadd dX9_does_175) rfl (xcP (xok_iload_n dX9_does_176 rfl) rfl (xcP (xok_iastore dX9_does_177) rfl (xcP (xok_goto dX9_does_178 (by decide)) rfl trivial)))))))))))))))))))))))))
theorem okX9_does_181 : XOkL xms rX9_does bX9_does_181 := xcP (xok_aload_n dX9_does_181 rfl) rfl (xcP (xok_iload_n dX9_does_182 rfl) rfl (xcC0 (xokc_list (List.forall_mem_cons.mpr ⟨xokc_V (r := (RX9, TX9, 96)) xm175 (List.mem_of_getElem? (i := 9) rfl) (by decide) rfl dX9_does_183 q2529 q2531 qs119 q149 q2532 (by decide +kernel), fun _ h => nomatch h⟩)) rfl (xcP (xok_goto dX9_does_186 (by decide)) rfl trivial)))
theorem okX9_does_189 : XOkL xms rX9_does bX9_does_189 := xcP (xok_aload_n dX9_does_189 rfl) rfl (xcP (xok_iload_n dX9_does_190 rfl) rfl (xcC0 (xokc_list (List.forall_mem_cons.mpr ⟨xokc_V (r := (RX9, TX9, 96)) xm176 (List.mem_of_getElem? (i := 9) rfl) (by decide) rfl dX9_does_191 q2533 q2535 qs120 q149 q2536 (by decide +kernel), fun _ h => nomatch h⟩)) rfl (xcP (xok_goto dX9_does_194 (by decide)) rfl trivial)))
theorem okX9_does_197 : XOkL xms rX9_does bX9_does_197 := xcP (xok_aload_n dX9_does_197 rfl) rfl (xcP (xok_getfield (ref := "WaysAtlasModel") (Or.inr ⟨rfl, by decide⟩) dX9_does_198 (Or.inl ⟨q2005, (Or.inl rfl)⟩) xh1106) rfl (xcP (xok_iconst dX9_does_201 rfl) rfl (xcP (xok_aload_n dX9_does_202 rfl) rfl (xcP (xok_getfield (ref := "WaysAtlasModel") (Or.inl ⟨rfl, by decide⟩) dX9_does_203 (Or.inl ⟨q2003, (Or.inl rfl)⟩) xh64) rfl (xcP (xok_iconst dX9_does_206 rfl) rfl (xcP (xok_isub dX9_does_207) rfl (xcP (xok_imul dX9_does_208) rfl (xcP (xok_aload_n dX9_does_209 rfl) rfl (xcP (xok_iload_n dX9_does_210 rfl) rfl (xcP (xok_iconst dX9_does_211 rfl) rfl (xcC0 (xokc_list (List.forall_mem_cons.mpr ⟨xokc_V (r := (RX9, TX9, 96)) xm153 (List.mem_of_getElem? (i := 9) rfl) (by decide) rfl dX9_does_212 q2441 q2443 qs100 q149 q2444 (by decide +kernel), fun _ h => nomatch h⟩)) rfl (xcP (xok_iadd dX9_does_215) rfl (xcP (xok_iconst dX9_does_216 rfl) rfl (xcP (xok_iastore dX9_does_217) rfl (xcP (xok_goto dX9_does_218 (by decide)) rfl trivial)))))))))))))))
theorem okX9_does_221 : XOkL xms rX9_does bX9_does_221 := xcP (xok_aload_n dX9_does_221 rfl) rfl (xcP (xok_getfield (ref := "WaysAtlasModel") (Or.inr ⟨rfl, by decide⟩) dX9_does_222 (Or.inl ⟨q2005, (Or.inl rfl)⟩) xh1106) rfl (xcP (xok_iconst dX9_does_225 rfl) rfl (xcP (xok_aload_n dX9_does_226 rfl) rfl (xcP (xok_getfield (ref := "WaysAtlasModel") (Or.inl ⟨rfl, by decide⟩) dX9_does_227 (Or.inl ⟨q2003, (Or.inl rfl)⟩) xh64) rfl (xcP (xok_iconst dX9_does_230 rfl) rfl (xcP (xok_isub dX9_does_231) rfl (xcP (xok_imul dX9_does_232) rfl (xcP (xok_aload_n dX9_does_233 rfl) rfl (xcP (xok_iload_n dX9_does_234 rfl) rfl (xcP (xok_iconst dX9_does_235 rfl) rfl (xcC0 (xokc_list (List.forall_mem_cons.mpr ⟨xokc_V (r := (RX9, TX9, 96)) xm153 (List.mem_of_getElem? (i := 9) rfl) (by decide) rfl dX9_does_236 q2441 q2443 qs100 q149 q2444 (by decide +kernel), fun _ h => nomatch h⟩)) rfl (xcP (xok_iadd dX9_does_239) rfl (xcP (xok_aload_n dX9_does_240 rfl) rfl (xcP (xok_aload_n dX9_does_241 rfl) rfl (xcP (xok_iload_n dX9_does_242 rfl) rfl (xcP (xok_iconst dX9_does_243 rfl) rfl (xcC0 (xokc_list (List.forall_mem_cons.mpr ⟨xokc_V (r := (RX9, TX9, 96)) xm153 (List.mem_of_getElem? (i := 9) rfl) (by decide) rfl dX9_does_244 q2441 q2443 qs100 q149 q2444 (by decide +kernel), fun _ h => nomatch h⟩)) rfl (xcC0 (xokc_list (List.forall_mem_cons.mpr ⟨xokc_V (r := (RX9, TX9, 96)) xm172 (List.mem_of_getElem? (i := 9) rfl) (by decide) rfl dX9_does_247 q2517 q2519 qs116 q149 q2520 (by decide +kernel), fun _ h => nomatch h⟩)) rfl (xcP (xok_iastore dX9_does_250) rfl (xcP (xok_goto dX9_does_251 (by decide)) rfl trivial))))))))))))))))))))
theorem okX9_does_254 : XOkL xms rX9_does bX9_does_254 := xcP (xok_aload_n dX9_does_254 rfl) rfl (xcP (xok_iload_n dX9_does_255 rfl) rfl (xcC0 (xokc_list (List.forall_mem_cons.mpr ⟨xokc_V (r := (RX9, TX9, 96)) xm177 (List.mem_of_getElem? (i := 9) rfl) (by decide) rfl dX9_does_256 q2537 q2539 qs121 q149 q2540 (by decide +kernel), fun _ h => nomatch h⟩)) rfl (xcP (xok_goto dX9_does_259 (by decide)) rfl trivial)))
theorem okX9_does_262 : XOkL xms rX9_does bX9_does_262 := xcP (xok_aload_n dX9_does_262 rfl) rfl (xcP (xok_iload_n dX9_does_263 rfl) rfl (xcP (xok_iconst dX9_does_264 rfl) rfl (xcP (xok_iconst dX9_does_265 rfl) rfl (xcC0 (xokc_list (List.forall_mem_cons.mpr ⟨xokc_V (r := (RX9, TX9, 96)) xm171 (List.mem_of_getElem? (i := 9) rfl) (by decide) rfl dX9_does_266 q2513 q2515 qs115 q149 q2516 (by decide +kernel), fun _ h => nomatch h⟩)) rfl (xcP (xok_istore dX9_does_269) rfl (xcP (xok_aload_n dX9_does_271 rfl) rfl (xcP (xok_getfield (ref := "WaysAtlasModel") (Or.inl ⟨rfl, by decide⟩) dX9_does_272 (Or.inl ⟨q1992, (Or.inl rfl)⟩) xh61) rfl (xcP (xok_iconst dX9_does_275 rfl) rfl (xcP (xok_icmpne dX9_does_276 (by decide)) rfl (xcP (xok_aload_n dX9_does_279 rfl) rfl (xcP (xok_iconst dX9_does_280 rfl) rfl (xcP (xok_iload dX9_does_281) rfl (xcC0 (xokc_list (List.forall_mem_cons.mpr ⟨xokc_V (r := (RX9, TX9, 96)) xm178 (List.mem_of_getElem? (i := 9) rfl) (by decide) rfl dX9_does_283 q2541 q2543 qs122 q149 q2544 (by decide +kernel), fun _ h => nomatch h⟩)) rfl (xcP (xok_goto dX9_does_286 (by decide)) rfl trivial))))))))))))))
theorem okX9_does_289 : XOkL xms rX9_does bX9_does_289 := xcP (xok_aload_n dX9_does_289 rfl) rfl (xcP (xok_iload_n dX9_does_290 rfl) rfl (xcC0 (xokc_list (List.forall_mem_cons.mpr ⟨xokc_V (r := (RX9, TX9, 96)) xm179 (List.mem_of_getElem? (i := 9) rfl) (by decide) rfl dX9_does_291 q2545 q2547 qs123 q149 q2548 (by decide +kernel), fun _ h => nomatch h⟩)) rfl (xcP (xok_goto dX9_does_294 (by decide)) rfl trivial)))
theorem okX9_does_297 : XOkL xms rX9_does bX9_does_297 := xcP (xok_aload_n dX9_does_297 rfl) rfl (xcP (xok_iload_n dX9_does_298 rfl) rfl (xcC0 (xokc_list (List.forall_mem_cons.mpr ⟨xokc_V (r := (RX9, TX9, 96)) xm180 (List.mem_of_getElem? (i := 9) rfl) (by decide) rfl dX9_does_299 q2549 q2551 qs124 q149 q2552 (by decide +kernel), fun _ h => nomatch h⟩)) rfl (xcP (xok_goto dX9_does_302 (by decide)) rfl trivial)))
theorem okX9_does_305 : XOkL xms rX9_does bX9_does_305 := xcP (xok_aload_n dX9_does_305 rfl) rfl (xcP (xok_iconst dX9_does_306 rfl) rfl (xcP (xok_aload_n dX9_does_307 rfl) rfl (xcP (xok_iload_n dX9_does_308 rfl) rfl (xcP (xok_iconst dX9_does_309 rfl) rfl (xcC0 (xokc_list (List.forall_mem_cons.mpr ⟨xokc_V (r := (RX9, TX9, 96)) xm153 (List.mem_of_getElem? (i := 9) rfl) (by decide) rfl dX9_does_310 q2441 q2443 qs100 q149 q2444 (by decide +kernel), fun _ h => nomatch h⟩)) rfl (xcC0 (xokc_list (List.forall_mem_cons.mpr ⟨xokc_V (r := (RX9, TX9, 96)) xm178 (List.mem_of_getElem? (i := 9) rfl) (by decide) rfl dX9_does_313 q2541 q2543 qs122 q149 q2544 (by decide +kernel), fun _ h => nomatch h⟩)) rfl (xcP (xok_goto dX9_does_316 (by decide)) rfl trivial)))))))
theorem okX9_does_319 : XOkL xms rX9_does bX9_does_319 := xcP (xok_aload_n dX9_does_319 rfl) rfl (xcP (xok_iconst dX9_does_320 rfl) rfl (xcP (xok_aload_n dX9_does_321 rfl) rfl (xcP (xok_iload_n dX9_does_322 rfl) rfl (xcP (xok_iconst dX9_does_323 rfl) rfl (xcC0 (xokc_list (List.forall_mem_cons.mpr ⟨xokc_V (r := (RX9, TX9, 96)) xm153 (List.mem_of_getElem? (i := 9) rfl) (by decide) rfl dX9_does_324 q2441 q2443 qs100 q149 q2444 (by decide +kernel), fun _ h => nomatch h⟩)) rfl (xcC0 (xokc_list (List.forall_mem_cons.mpr ⟨xokc_V (r := (RX9, TX9, 96)) xm178 (List.mem_of_getElem? (i := 9) rfl) (by decide) rfl dX9_does_327 q2541 q2543 qs122 q149 q2544 (by decide +kernel), fun _ h => nomatch h⟩)) rfl (xcP (xok_goto dX9_does_330 (by decide)) rfl trivial)))))))
theorem okX9_does_333 : XOkL xms rX9_does bX9_does_333 := xcP (xok_aload_n dX9_does_333 rfl) rfl (xcP (xok_aload_n dX9_does_334 rfl) rfl (xcP (xok_iload_n dX9_does_335 rfl) rfl (xcP (xok_iconst dX9_does_336 rfl) rfl (xcC0 (xokc_list (List.forall_mem_cons.mpr ⟨xokc_V (r := (RX9, TX9, 96)) xm153 (List.mem_of_getElem? (i := 9) rfl) (by decide) rfl dX9_does_337 q2441 q2443 qs100 q149 q2444 (by decide +kernel), fun _ h => nomatch h⟩)) rfl (xcC0 (xokc_list (List.forall_mem_cons.mpr ⟨xokc_V (r := (RX9, TX9, 96)) xm168 (List.mem_of_getElem? (i := 9) rfl) (by decide) rfl dX9_does_340 q2501 q2503 qs112 q149 q2504 (by decide +kernel), fun _ h => nomatch h⟩)) rfl (xcP (xok_goto dX9_does_343 (by decide)) rfl trivial))))))
theorem okX9_does_346 : XOkL xms rX9_does bX9_does_346 := xcP (xok_aload_n dX9_does_346 rfl) rfl (xcP (xok_iconst dX9_does_347 rfl) rfl (xcP (xok_aload_n dX9_does_348 rfl) rfl (xcP (xok_aload_n dX9_does_349 rfl) rfl (xcP (xok_iload_n dX9_does_350 rfl) rfl (xcP (xok_iconst dX9_does_351 rfl) rfl (xcC0 (xokc_list (List.forall_mem_cons.mpr ⟨xokc_V (r := (RX9, TX9, 96)) xm153 (List.mem_of_getElem? (i := 9) rfl) (by decide) rfl dX9_does_352 q2441 q2443 qs100 q149 q2444 (by decide +kernel), fun _ h => nomatch h⟩)) rfl (xcP (xok_aload_n dX9_does_355 rfl) rfl (xcC0 (xokc_list (List.forall_mem_cons.mpr ⟨xokc_V (r := (RX9, TX9, 96)) xm182 (List.mem_of_getElem? (i := 9) rfl) (by decide) rfl dX9_does_356 q2557 q2559 qs126 q149 q2560 (by decide +kernel), fun _ h => nomatch h⟩)) rfl (xcC0 (xokc_list (List.forall_mem_cons.mpr ⟨xokc_V (r := (RX9, TX9, 96)) xm169 (List.mem_of_getElem? (i := 9) rfl) (by decide) rfl dX9_does_359 q2505 q2507 qs113 q149 q2508 (by decide +kernel), fun _ h => nomatch h⟩)) rfl (xcC0 (xokc_list (List.forall_mem_cons.mpr ⟨xokc_V (r := (RX9, TX9, 96)) xm178 (List.mem_of_getElem? (i := 9) rfl) (by decide) rfl dX9_does_362 q2541 q2543 qs122 q149 q2544 (by decide +kernel), fun _ h => nomatch h⟩)) rfl (xcP (xok_goto dX9_does_365 (by decide)) rfl trivial)))))))))))
theorem okX9_does_368 : XOkL xms rX9_does bX9_does_368 := xcP (xok_aload_n dX9_does_368 rfl) rfl (xcP (xok_iconst dX9_does_369 rfl) rfl (xcP (xok_aload_n dX9_does_370 rfl) rfl (xcC0 (xokc_list (List.forall_mem_cons.mpr ⟨xokc_V (r := (RX9, TX9, 96)) xm182 (List.mem_of_getElem? (i := 9) rfl) (by decide) rfl dX9_does_371 q2557 q2559 qs126 q149 q2560 (by decide +kernel), fun _ h => nomatch h⟩)) rfl (xcC0 (xokc_list (List.forall_mem_cons.mpr ⟨xokc_V (r := (RX9, TX9, 96)) xm178 (List.mem_of_getElem? (i := 9) rfl) (by decide) rfl dX9_does_374 q2541 q2543 qs122 q149 q2544 (by decide +kernel), fun _ h => nomatch h⟩)) rfl (xcP (xok_goto dX9_does_377 (by decide)) rfl trivial)))))
theorem okX9_does_380 : XOkL xms rX9_does bX9_does_380 := xcP (xok_aload_n dX9_does_380 rfl) rfl (xcP (xok_iconst dX9_does_381 rfl) rfl (xcP (xok_iload_n dX9_does_382 rfl) rfl (xcP (xok_iconst dX9_does_383 rfl) rfl (xcC0 (xokc_list (List.forall_mem_cons.mpr ⟨xokc_V (r := (RX9, TX9, 96)) xm161 (List.mem_of_getElem? (i := 9) rfl) (by decide) rfl dX9_does_384 q2473 q2475 qs105 q149 q2476 (by decide +kernel), fun _ h => nomatch h⟩)) rfl (xcP (xok_aload_n dX9_does_387 rfl) rfl (xcP (xok_aload_n dX9_does_388 rfl) rfl (xcP (xok_iload_n dX9_does_389 rfl) rfl (xcP (xok_bipush dX9_does_390 rfl) rfl (xcC0 (xokc_list (List.forall_mem_cons.mpr ⟨xokc_V (r := (RX9, TX9, 96)) xm153 (List.mem_of_getElem? (i := 9) rfl) (by decide) rfl dX9_does_392 q2441 q2443 qs100 q149 q2444 (by decide +kernel), fun _ h => nomatch h⟩)) rfl (xcC0 (xokc_list (List.forall_mem_cons.mpr ⟨xokc_V (r := (RX9, TX9, 96)) xm163 (List.mem_of_getElem? (i := 9) rfl) (by decide) rfl dX9_does_395 q2481 q2483 qs107 q149 q2484 (by decide +kernel), fun _ h => nomatch h⟩)) rfl (xcP (xok_goto dX9_does_398 (by decide)) rfl trivial)))))))))))
theorem okX9_does_401 : XOkL xms rX9_does bX9_does_401 := xcP (xok_aload_n dX9_does_401 rfl) rfl (xcP (xok_iload_n dX9_does_402 rfl) rfl (xcC0 (xokc_list (List.forall_mem_cons.mpr ⟨xokc_V (r := (RX9, TX9, 96)) xm183 (List.mem_of_getElem? (i := 9) rfl) (by decide) rfl dX9_does_403 q2561 q2563 qs127 q149 q2564 (by decide +kernel), fun _ h => nomatch h⟩)) rfl (xcP xok_fal rfl trivial)))
theorem okX9_does_406 : XOkL xms rX9_does bX9_does_406 := xcR ⟨dX9_does_406, rfl⟩
theorem okM_X9_does : XOkM xms rX9_does := xokM0 (List.forall_mem_cons.mpr ⟨⟨rfl, okX9_does_0⟩, List.forall_mem_cons.mpr ⟨⟨rfl, okX9_does_88⟩, List.forall_mem_cons.mpr ⟨⟨rfl, okX9_does_107⟩, List.forall_mem_cons.mpr ⟨⟨rfl, okX9_does_140⟩, List.forall_mem_cons.mpr ⟨⟨rfl, okX9_does_181⟩, List.forall_mem_cons.mpr ⟨⟨rfl, okX9_does_189⟩, List.forall_mem_cons.mpr ⟨⟨rfl, okX9_does_197⟩, List.forall_mem_cons.mpr ⟨⟨rfl, okX9_does_221⟩, List.forall_mem_cons.mpr ⟨⟨rfl, okX9_does_254⟩, List.forall_mem_cons.mpr ⟨⟨rfl, okX9_does_262⟩, List.forall_mem_cons.mpr ⟨⟨rfl, okX9_does_289⟩, List.forall_mem_cons.mpr ⟨⟨rfl, okX9_does_297⟩, List.forall_mem_cons.mpr ⟨⟨rfl, okX9_does_305⟩, List.forall_mem_cons.mpr ⟨⟨rfl, okX9_does_319⟩, List.forall_mem_cons.mpr ⟨⟨rfl, okX9_does_333⟩, List.forall_mem_cons.mpr ⟨⟨rfl, okX9_does_346⟩, List.forall_mem_cons.mpr ⟨⟨rfl, okX9_does_368⟩, List.forall_mem_cons.mpr ⟨⟨rfl, okX9_does_380⟩, List.forall_mem_cons.mpr ⟨⟨rfl, okX9_does_401⟩, List.forall_mem_cons.mpr ⟨⟨rfl, okX9_does_406⟩, fun _ h => nomatch h⟩⟩⟩⟩⟩⟩⟩⟩⟩⟩⟩⟩⟩⟩⟩⟩⟩⟩⟩⟩) (xokH0 rfl (fun _ _ => rfl)) (by decide +kernel) (by decide)
