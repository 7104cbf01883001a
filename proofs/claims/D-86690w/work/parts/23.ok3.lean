set_option maxRecDepth 100000
abbrev cX2_branch : ByteArray := prog_21_method_23_code
def dkwX2_branch_4 : List UInt8 := [189, 0, 9, 181, 0, 254, 25, 4, 176]
abbrev dktX2_branch_4 : List UInt8 := dkwX2_branch_4 ++ []
def dkwX2_branch_3 : List UInt8 := [181, 0, 251, 25, 4, 42, 16, 9, 182, 0, 201, 153, 0, 10, 42, 182, 0, 229, 167, 0, 7, 3]
abbrev dktX2_branch_3 : List UInt8 := dkwX2_branch_3 ++ dktX2_branch_4
def dkwX2_branch_2 : List UInt8 := [187, 0, 246, 89, 27, 44, 29, 42, 182, 0, 182, 183, 0, 248, 58, 4, 25, 4, 42, 182, 0, 229]
abbrev dktX2_branch_2 : List UInt8 := dkwX2_branch_2 ++ dktX2_branch_3
def dkwX2_branch_1 : List UInt8 := [16, 62, 160, 0, 7, 4, 167, 0, 4, 3, 182, 0, 62, 42, 89, 180, 0, 33, 4, 96, 181, 0, 33]
abbrev dktX2_branch_1 : List UInt8 := dkwX2_branch_1 ++ dktX2_branch_2
def dkwX2_branch_0 : List UInt8 := [42, 182, 0, 182, 77, 42, 182, 0, 40, 62, 42, 29, 16, 61, 159, 0, 15, 29, 16, 60, 159, 0, 9, 29]
abbrev dktX2_branch_0 : List UInt8 := dkwX2_branch_0 ++ dktX2_branch_1
theorem dksX2_branch_0 : cX2_branch.data.toList.drop 0 = dktX2_branch_0 := by decide +kernel
theorem dksX2_branch_1 : cX2_branch.data.toList.drop 24 = dktX2_branch_1 := dk_seg dksX2_branch_0 24 rfl rfl
theorem dksX2_branch_2 : cX2_branch.data.toList.drop 47 = dktX2_branch_2 := dk_seg dksX2_branch_1 23 rfl rfl
theorem dksX2_branch_3 : cX2_branch.data.toList.drop 69 = dktX2_branch_3 := dk_seg dksX2_branch_2 22 rfl rfl
theorem dksX2_branch_4 : cX2_branch.data.toList.drop 91 = dktX2_branch_4 := dk_seg dksX2_branch_3 22 rfl rfl
theorem dX2_branch_0 : decode cX2_branch 0 = .ok (.aload_n 0, 1) := dk_42 (dk_at dksX2_branch_0 0 rfl rfl)
theorem dX2_branch_1 : decode cX2_branch 1 = .ok (.invokevirtual 182, 3) := dk_182 0 182 (dk_at dksX2_branch_0 1 rfl rfl)
theorem dX2_branch_4 : decode cX2_branch 4 = .ok (.astore_n 2, 1) := dk_77 (dk_at dksX2_branch_0 4 rfl rfl)
theorem dX2_branch_5 : decode cX2_branch 5 = .ok (.aload_n 0, 1) := dk_42 (dk_at dksX2_branch_0 5 rfl rfl)
theorem dX2_branch_6 : decode cX2_branch 6 = .ok (.invokevirtual 40, 3) := dk_182 0 40 (dk_at dksX2_branch_0 6 rfl rfl)
theorem dX2_branch_9 : decode cX2_branch 9 = .ok (.istore_n 3, 1) := dk_62 (dk_at dksX2_branch_0 9 rfl rfl)
theorem dX2_branch_10 : decode cX2_branch 10 = .ok (.aload_n 0, 1) := dk_42 (dk_at dksX2_branch_0 10 rfl rfl)
theorem dX2_branch_11 : decode cX2_branch 11 = .ok (.iload_n 3, 1) := dk_29 (dk_at dksX2_branch_0 11 rfl rfl)
theorem dX2_branch_12 : decode cX2_branch 12 = .ok (.bipush 61, 2) := dk_16 61 (dk_at dksX2_branch_0 12 rfl rfl)
theorem dX2_branch_14 : decode cX2_branch 14 = .ok (.if_icmp .eq 15, 3) := dk_159 0 15 (dk_at dksX2_branch_0 14 rfl rfl)
theorem dX2_branch_17 : decode cX2_branch 17 = .ok (.iload_n 3, 1) := dk_29 (dk_at dksX2_branch_0 17 rfl rfl)
theorem dX2_branch_18 : decode cX2_branch 18 = .ok (.bipush 60, 2) := dk_16 60 (dk_at dksX2_branch_0 18 rfl rfl)
theorem dX2_branch_20 : decode cX2_branch 20 = .ok (.if_icmp .eq 9, 3) := dk_159 0 9 (dk_at dksX2_branch_0 20 rfl rfl)
theorem dX2_branch_23 : decode cX2_branch 23 = .ok (.iload_n 3, 1) := dk_29 (dk_at dksX2_branch_0 23 rfl rfl)
theorem dX2_branch_24 : decode cX2_branch 24 = .ok (.bipush 62, 2) := dk_16 62 (dk_at dksX2_branch_1 0 rfl rfl)
theorem dX2_branch_26 : decode cX2_branch 26 = .ok (.if_icmp .ne 7, 3) := dk_160 0 7 (dk_at dksX2_branch_1 2 rfl rfl)
theorem dX2_branch_29 : decode cX2_branch 29 = .ok (.iconst 1, 1) := dk_4 (dk_at dksX2_branch_1 5 rfl rfl)
theorem dX2_branch_30 : decode cX2_branch 30 = .ok (.goto 4, 3) := dk_167 0 4 (dk_at dksX2_branch_1 6 rfl rfl)
theorem dX2_branch_33 : decode cX2_branch 33 = .ok (.iconst 0, 1) := dk_3 (dk_at dksX2_branch_1 9 rfl rfl)
theorem dX2_branch_34 : decode cX2_branch 34 = .ok (.invokevirtual 62, 3) := dk_182 0 62 (dk_at dksX2_branch_1 10 rfl rfl)
theorem dX2_branch_37 : decode cX2_branch 37 = .ok (.aload_n 0, 1) := dk_42 (dk_at dksX2_branch_1 13 rfl rfl)
theorem dX2_branch_38 : decode cX2_branch 38 = .ok (.dup, 1) := dk_89 (dk_at dksX2_branch_1 14 rfl rfl)
theorem dX2_branch_39 : decode cX2_branch 39 = .ok (.getfield 33, 3) := dk_180 0 33 (dk_at dksX2_branch_1 15 rfl rfl)
theorem dX2_branch_42 : decode cX2_branch 42 = .ok (.iconst 1, 1) := dk_4 (dk_at dksX2_branch_1 18 rfl rfl)
theorem dX2_branch_43 : decode cX2_branch 43 = .ok (.iadd, 1) := dk_96 (dk_at dksX2_branch_1 19 rfl rfl)
theorem dX2_branch_44 : decode cX2_branch 44 = .ok (.putfield 33, 3) := dk_181 0 33 (dk_at dksX2_branch_1 20 rfl rfl)
theorem dX2_branch_47 : decode cX2_branch 47 = .ok (.new 246, 3) := dk_187 0 246 (dk_at dksX2_branch_2 0 rfl rfl)
theorem dX2_branch_50 : decode cX2_branch 50 = .ok (.dup, 1) := dk_89 (dk_at dksX2_branch_2 3 rfl rfl)
theorem dX2_branch_51 : decode cX2_branch 51 = .ok (.iload_n 1, 1) := dk_27 (dk_at dksX2_branch_2 4 rfl rfl)
theorem dX2_branch_52 : decode cX2_branch 52 = .ok (.aload_n 2, 1) := dk_44 (dk_at dksX2_branch_2 5 rfl rfl)
theorem dX2_branch_53 : decode cX2_branch 53 = .ok (.iload_n 3, 1) := dk_29 (dk_at dksX2_branch_2 6 rfl rfl)
theorem dX2_branch_54 : decode cX2_branch 54 = .ok (.aload_n 0, 1) := dk_42 (dk_at dksX2_branch_2 7 rfl rfl)
theorem dX2_branch_55 : decode cX2_branch 55 = .ok (.invokevirtual 182, 3) := dk_182 0 182 (dk_at dksX2_branch_2 8 rfl rfl)
theorem dX2_branch_58 : decode cX2_branch 58 = .ok (.invokespecial 248, 3) := dk_183 0 248 (dk_at dksX2_branch_2 11 rfl rfl)
theorem dX2_branch_61 : decode cX2_branch 61 = .ok (.astore 4, 2) := dk_58 4 (dk_at dksX2_branch_2 14 rfl rfl)
theorem dX2_branch_63 : decode cX2_branch 63 = .ok (.aload 4, 2) := dk_25 4 (dk_at dksX2_branch_2 16 rfl rfl)
theorem dX2_branch_65 : decode cX2_branch 65 = .ok (.aload_n 0, 1) := dk_42 (dk_at dksX2_branch_2 18 rfl rfl)
theorem dX2_branch_66 : decode cX2_branch 66 = .ok (.invokevirtual 229, 3) := dk_182 0 229 (dk_at dksX2_branch_2 19 rfl rfl)
theorem dX2_branch_69 : decode cX2_branch 69 = .ok (.putfield 251, 3) := dk_181 0 251 (dk_at dksX2_branch_3 0 rfl rfl)
theorem dX2_branch_72 : decode cX2_branch 72 = .ok (.aload 4, 2) := dk_25 4 (dk_at dksX2_branch_3 3 rfl rfl)
theorem dX2_branch_74 : decode cX2_branch 74 = .ok (.aload_n 0, 1) := dk_42 (dk_at dksX2_branch_3 5 rfl rfl)
theorem dX2_branch_75 : decode cX2_branch 75 = .ok (.bipush 9, 2) := dk_16 9 (dk_at dksX2_branch_3 6 rfl rfl)
theorem dX2_branch_77 : decode cX2_branch 77 = .ok (.invokevirtual 201, 3) := dk_182 0 201 (dk_at dksX2_branch_3 8 rfl rfl)
theorem dX2_branch_80 : decode cX2_branch 80 = .ok (.ifCond .eq 10, 3) := dk_153 0 10 (dk_at dksX2_branch_3 11 rfl rfl)
theorem dX2_branch_83 : decode cX2_branch 83 = .ok (.aload_n 0, 1) := dk_42 (dk_at dksX2_branch_3 14 rfl rfl)
theorem dX2_branch_84 : decode cX2_branch 84 = .ok (.invokevirtual 229, 3) := dk_182 0 229 (dk_at dksX2_branch_3 15 rfl rfl)
theorem dX2_branch_87 : decode cX2_branch 87 = .ok (.goto 7, 3) := dk_167 0 7 (dk_at dksX2_branch_3 18 rfl rfl)
theorem dX2_branch_90 : decode cX2_branch 90 = .ok (.iconst 0, 1) := dk_3 (dk_at dksX2_branch_3 21 rfl rfl)
theorem dX2_branch_91 : decode cX2_branch 91 = .ok (.anewarray 9, 3) := dk_189 0 9 (dk_at dksX2_branch_4 0 rfl rfl)
theorem dX2_branch_94 : decode cX2_branch 94 = .ok (.putfield 254, 3) := dk_181 0 254 (dk_at dksX2_branch_4 3 rfl rfl)
theorem dX2_branch_97 : decode cX2_branch 97 = .ok (.aload 4, 2) := dk_25 4 (dk_at dksX2_branch_4 6 rfl rfl)
theorem dX2_branch_99 : decode cX2_branch 99 = .ok (.areturn, 1) := dk_176 (dk_at dksX2_branch_4 8 rfl rfl)
theorem okX2_branch_0 : XOkL xms rX2_branch bX2_branch_0 := xcP (xok_aload_n dX2_branch_0 rfl) rfl (xcC0 (xokc_list (List.forall_mem_cons.mpr ⟨xokc_V (r := (RX2, TX2, 13)) xm57 (List.mem_of_getElem? (i := 2) rfl) (by decide) rfl dX2_branch_1 q886 q888 qs23 q140 q889 (by decide +kernel), fun _ h => nomatch h⟩)) rfl (xcP (xok_astore_n dX2_branch_4 rfl) rfl (xcP (xok_aload_n dX2_branch_5 rfl) rfl (xcC0 (xokc_list (List.forall_mem_cons.mpr ⟨xokc_V (r := (RX2, TX2, 13)) xm42 (List.mem_of_getElem? (i := 2) rfl) (by decide) rfl dX2_branch_6 q778 q780 qs8 q140 q781 (by decide +kernel), fun _ h => nomatch h⟩)) rfl (xcP (xok_istore_n dX2_branch_9 rfl) rfl (xcP (xok_aload_n dX2_branch_10 rfl) rfl (xcP (xok_iload_n dX2_branch_11 rfl) rfl (xcP (xok_bipush dX2_branch_12 rfl) rfl (xcP (xok_icmpeq dX2_branch_14 (by decide)) rfl (xcP (xok_iload_n dX2_branch_17 rfl) rfl (xcP (xok_bipush dX2_branch_18 rfl) rfl (xcP (xok_icmpeq dX2_branch_20 (by decide)) rfl (xcP (xok_iload_n dX2_branch_23 rfl) rfl (xcP (xok_bipush dX2_branch_24 rfl) rfl (xcP (xok_icmpne dX2_branch_26 (by decide)) rfl (xcP xok_fal rfl trivial))))))))))))))))
theorem okX2_branch_29 : XOkL xms rX2_branch bX2_branch_29 := xcP (xok_iconst dX2_branch_29 rfl) rfl (xcP (xok_goto dX2_branch_30 (by decide)) rfl trivial)
theorem okX2_branch_33 : XOkL xms rX2_branch bX2_branch_33 := xcP (xok_iconst dX2_branch_33 rfl) rfl (xcP xok_fal rfl trivial)
theorem okX2_branch_34 : XOkL xms rX2_branch bX2_branch_34 := xcC0 (xokc_list (List.forall_mem_cons.mpr ⟨xokc_V (r := (RX2, TX2, 13)) xm46 (List.mem_of_getElem? (i := 2) rfl) (by decide) rfl dX2_branch_34 q818 q820 qs12 q140 q821 (by decide +kernel), fun _ h => nomatch h⟩)) rfl (xcP (xok_aload_n dX2_branch_37 rfl) rfl (xcP (xok_dup dX2_branch_38) rfl (xcP (xok_getfield (ref := "WaysAtlas$Reader") (Or.inl ⟨rfl, by decide⟩) dX2_branch_39 (Or.inl ⟨q233, (Or.inl rfl)⟩) xh5) rfl (xcP (xok_iconst dX2_branch_42 rfl) rfl (xcP (xok_iadd dX2_branch_43) rfl (xcP (xok_putfield (ref := "WaysAtlas$Reader") (Or.inl ⟨rfl, by decide, rfl⟩) dX2_branch_44 (Or.inl ⟨q233, (Or.inl rfl)⟩) (Or.inl rfl) xh5) rfl (xcP (xok_new (r := (RX26, TX26, 6)) (List.mem_of_getElem? (i := 23) rfl) rfl (by decide) dX2_branch_47 q1098 q1099 q171) rfl (xcP (xok_dup dX2_branch_50) rfl (xcP (xok_iload_n dX2_branch_51 rfl) rfl (xcP (xok_aload_n dX2_branch_52 rfl) rfl (xcP (xok_iload_n dX2_branch_53 rfl) rfl (xcP (xok_aload_n dX2_branch_54 rfl) rfl (xcC0 (xokc_list (List.forall_mem_cons.mpr ⟨xokc_V (r := (RX2, TX2, 13)) xm57 (List.mem_of_getElem? (i := 2) rfl) (by decide) rfl dX2_branch_55 q886 q888 qs23 q140 q889 (by decide +kernel), fun _ h => nomatch h⟩)) rfl (xcC0 (xokc_I xm239 rfl rfl dX2_branch_58 q1100 q1101 q171 q1102 rfl (by decide +kernel)) rfl (xcP (xok_astore dX2_branch_61) rfl (xcP (xok_aload dX2_branch_63) rfl (xcP (xok_aload_n dX2_branch_65 rfl) rfl (xcC0 (xokc_list (List.forall_mem_cons.mpr ⟨xokc_V (r := (RX2, TX2, 13)) xm65 (List.mem_of_getElem? (i := 2) rfl) (by decide) rfl dX2_branch_66 q1123 q1125 qs31 q140 q1126 (by decide +kernel), fun _ h => nomatch h⟩)) rfl (xcP (xok_putfield (ref := "WaysAtlas$If") (Or.inr (Or.inr ⟨rfl, by decide, rfl⟩)) dX2_branch_69 (Or.inr ⟨⟨"WaysAtlas", (List.mem_of_getElem? (i := 70) rfl)⟩, (Or.inl rfl)⟩) (Or.inl rfl) xh1130) rfl (xcP (xok_aload dX2_branch_72) rfl (xcP (xok_aload_n dX2_branch_74 rfl) rfl (xcP (xok_bipush dX2_branch_75 rfl) rfl (xcC0 (xokc_list (List.forall_mem_cons.mpr ⟨xokc_V (r := (RX2, TX2, 13)) xm62 (List.mem_of_getElem? (i := 2) rfl) (by decide) rfl dX2_branch_77 q1036 q1038 qs28 q140 q1039 (by decide +kernel), fun _ h => nomatch h⟩)) rfl (xcP (xok_ifeq dX2_branch_80 (by decide)) rfl (xcP (xok_aload_n dX2_branch_83 rfl) rfl (xcC0 (xokc_list (List.forall_mem_cons.mpr ⟨xokc_V (r := (RX2, TX2, 13)) xm65 (List.mem_of_getElem? (i := 2) rfl) (by decide) rfl dX2_branch_84 q1123 q1125 qs31 q140 q1126 (by decide +kernel), fun _ h => nomatch h⟩)) rfl (xcP (xok_goto dX2_branch_87 (by decide)) rfl trivial)))))))))))))))))))))))))))
theorem okX2_branch_90 : XOkL xms rX2_branch bX2_branch_90 := xcP (xok_iconst dX2_branch_90 rfl) rfl (xcP (xok_anewarray (by decide) (by decide) rfl dX2_branch_91 q229 (List.mem_of_getElem? (i := 4) rfl)) rfl (xcP xok_fal rfl trivial))
theorem okX2_branch_94 : XOkL xms rX2_branch bX2_branch_94 := xcP (xok_putfield (ref := "WaysAtlas$If") (Or.inr (Or.inr ⟨rfl, by decide, rfl⟩)) dX2_branch_94 (Or.inr ⟨⟨"WaysAtlas", (List.mem_of_getElem? (i := 71) rfl)⟩, (Or.inl rfl)⟩) (Or.inl rfl) xh1131) rfl (xcP (xok_aload dX2_branch_97) rfl (xcR ⟨dX2_branch_99, _, rfl, Or.inl ⟨_, rfl⟩⟩))
theorem okM_X2_branch : XOkM xms rX2_branch := xokM0 (List.forall_mem_cons.mpr ⟨⟨rfl, okX2_branch_0⟩, List.forall_mem_cons.mpr ⟨⟨rfl, okX2_branch_29⟩, List.forall_mem_cons.mpr ⟨⟨rfl, okX2_branch_33⟩, List.forall_mem_cons.mpr ⟨⟨rfl, okX2_branch_34⟩, List.forall_mem_cons.mpr ⟨⟨rfl, okX2_branch_90⟩, List.forall_mem_cons.mpr ⟨⟨rfl, okX2_branch_94⟩, fun _ h => nomatch h⟩⟩⟩⟩⟩⟩) (xokH0 rfl (fun _ _ => rfl)) (by decide +kernel) (by decide)
abbrev cX2_block : ByteArray := prog_21_method_17_code
def dkwX2_block_3 : List UInt8 := [180, 0, 86, 4, 100, 181, 0, 86, 43, 176]
abbrev dktX2_block_3 : List UInt8 := dkwX2_block_3 ++ []
def dkwX2_block_2 : List UInt8 := [89, 180, 0, 86, 4, 96, 181, 0, 86, 42, 182, 0, 135, 76, 42, 16, 125, 182, 0, 69, 87, 42, 89]
abbrev dktX2_block_2 : List UInt8 := dkwX2_block_2 ++ dktX2_block_3
def dkwX2_block_1 : List UInt8 := [16, 6, 162, 0, 7, 4, 167, 0, 4, 3, 182, 0, 66, 42, 89, 180, 0, 33, 4, 96, 181, 0, 33, 42]
abbrev dktX2_block_1 : List UInt8 := dkwX2_block_1 ++ dktX2_block_2
def dkwX2_block_0 : List UInt8 := [42, 42, 182, 0, 40, 16, 123, 160, 0, 7, 4, 167, 0, 4, 3, 182, 0, 62, 42, 42, 180, 0, 86]
abbrev dktX2_block_0 : List UInt8 := dkwX2_block_0 ++ dktX2_block_1
theorem dksX2_block_0 : cX2_block.data.toList.drop 0 = dktX2_block_0 := by decide +kernel
theorem dksX2_block_1 : cX2_block.data.toList.drop 23 = dktX2_block_1 := dk_seg dksX2_block_0 23 rfl rfl
theorem dksX2_block_2 : cX2_block.data.toList.drop 47 = dktX2_block_2 := dk_seg dksX2_block_1 24 rfl rfl
theorem dksX2_block_3 : cX2_block.data.toList.drop 70 = dktX2_block_3 := dk_seg dksX2_block_2 23 rfl rfl
theorem dX2_block_0 : decode cX2_block 0 = .ok (.aload_n 0, 1) := dk_42 (dk_at dksX2_block_0 0 rfl rfl)
theorem dX2_block_1 : decode cX2_block 1 = .ok (.aload_n 0, 1) := dk_42 (dk_at dksX2_block_0 1 rfl rfl)
theorem dX2_block_2 : decode cX2_block 2 = .ok (.invokevirtual 40, 3) := dk_182 0 40 (dk_at dksX2_block_0 2 rfl rfl)
theorem dX2_block_5 : decode cX2_block 5 = .ok (.bipush 123, 2) := dk_16 123 (dk_at dksX2_block_0 5 rfl rfl)
theorem dX2_block_7 : decode cX2_block 7 = .ok (.if_icmp .ne 7, 3) := dk_160 0 7 (dk_at dksX2_block_0 7 rfl rfl)
theorem dX2_block_10 : decode cX2_block 10 = .ok (.iconst 1, 1) := dk_4 (dk_at dksX2_block_0 10 rfl rfl)
theorem dX2_block_11 : decode cX2_block 11 = .ok (.goto 4, 3) := dk_167 0 4 (dk_at dksX2_block_0 11 rfl rfl)
theorem dX2_block_14 : decode cX2_block 14 = .ok (.iconst 0, 1) := dk_3 (dk_at dksX2_block_0 14 rfl rfl)
theorem dX2_block_15 : decode cX2_block 15 = .ok (.invokevirtual 62, 3) := dk_182 0 62 (dk_at dksX2_block_0 15 rfl rfl)
theorem dX2_block_18 : decode cX2_block 18 = .ok (.aload_n 0, 1) := dk_42 (dk_at dksX2_block_0 18 rfl rfl)
theorem dX2_block_19 : decode cX2_block 19 = .ok (.aload_n 0, 1) := dk_42 (dk_at dksX2_block_0 19 rfl rfl)
theorem dX2_block_20 : decode cX2_block 20 = .ok (.getfield 86, 3) := dk_180 0 86 (dk_at dksX2_block_0 20 rfl rfl)
theorem dX2_block_23 : decode cX2_block 23 = .ok (.bipush 6, 2) := dk_16 6 (dk_at dksX2_block_1 0 rfl rfl)
theorem dX2_block_25 : decode cX2_block 25 = .ok (.if_icmp .ge 7, 3) := dk_162 0 7 (dk_at dksX2_block_1 2 rfl rfl)
theorem dX2_block_28 : decode cX2_block 28 = .ok (.iconst 1, 1) := dk_4 (dk_at dksX2_block_1 5 rfl rfl)
theorem dX2_block_29 : decode cX2_block 29 = .ok (.goto 4, 3) := dk_167 0 4 (dk_at dksX2_block_1 6 rfl rfl)
theorem dX2_block_32 : decode cX2_block 32 = .ok (.iconst 0, 1) := dk_3 (dk_at dksX2_block_1 9 rfl rfl)
theorem dX2_block_33 : decode cX2_block 33 = .ok (.invokevirtual 66, 3) := dk_182 0 66 (dk_at dksX2_block_1 10 rfl rfl)
theorem dX2_block_36 : decode cX2_block 36 = .ok (.aload_n 0, 1) := dk_42 (dk_at dksX2_block_1 13 rfl rfl)
theorem dX2_block_37 : decode cX2_block 37 = .ok (.dup, 1) := dk_89 (dk_at dksX2_block_1 14 rfl rfl)
theorem dX2_block_38 : decode cX2_block 38 = .ok (.getfield 33, 3) := dk_180 0 33 (dk_at dksX2_block_1 15 rfl rfl)
theorem dX2_block_41 : decode cX2_block 41 = .ok (.iconst 1, 1) := dk_4 (dk_at dksX2_block_1 18 rfl rfl)
theorem dX2_block_42 : decode cX2_block 42 = .ok (.iadd, 1) := dk_96 (dk_at dksX2_block_1 19 rfl rfl)
theorem dX2_block_43 : decode cX2_block 43 = .ok (.putfield 33, 3) := dk_181 0 33 (dk_at dksX2_block_1 20 rfl rfl)
theorem dX2_block_46 : decode cX2_block 46 = .ok (.aload_n 0, 1) := dk_42 (dk_at dksX2_block_1 23 rfl rfl)
theorem dX2_block_47 : decode cX2_block 47 = .ok (.dup, 1) := dk_89 (dk_at dksX2_block_2 0 rfl rfl)
theorem dX2_block_48 : decode cX2_block 48 = .ok (.getfield 86, 3) := dk_180 0 86 (dk_at dksX2_block_2 1 rfl rfl)
theorem dX2_block_51 : decode cX2_block 51 = .ok (.iconst 1, 1) := dk_4 (dk_at dksX2_block_2 4 rfl rfl)
theorem dX2_block_52 : decode cX2_block 52 = .ok (.iadd, 1) := dk_96 (dk_at dksX2_block_2 5 rfl rfl)
theorem dX2_block_53 : decode cX2_block 53 = .ok (.putfield 86, 3) := dk_181 0 86 (dk_at dksX2_block_2 6 rfl rfl)
theorem dX2_block_56 : decode cX2_block 56 = .ok (.aload_n 0, 1) := dk_42 (dk_at dksX2_block_2 9 rfl rfl)
theorem dX2_block_57 : decode cX2_block 57 = .ok (.invokevirtual 135, 3) := dk_182 0 135 (dk_at dksX2_block_2 10 rfl rfl)
theorem dX2_block_60 : decode cX2_block 60 = .ok (.astore_n 1, 1) := dk_76 (dk_at dksX2_block_2 13 rfl rfl)
theorem dX2_block_61 : decode cX2_block 61 = .ok (.aload_n 0, 1) := dk_42 (dk_at dksX2_block_2 14 rfl rfl)
theorem dX2_block_62 : decode cX2_block 62 = .ok (.bipush 125, 2) := dk_16 125 (dk_at dksX2_block_2 15 rfl rfl)
theorem dX2_block_64 : decode cX2_block 64 = .ok (.invokevirtual 69, 3) := dk_182 0 69 (dk_at dksX2_block_2 17 rfl rfl)
theorem dX2_block_67 : decode cX2_block 67 = .ok (.pop, 1) := dk_87 (dk_at dksX2_block_2 20 rfl rfl)
theorem dX2_block_68 : decode cX2_block 68 = .ok (.aload_n 0, 1) := dk_42 (dk_at dksX2_block_2 21 rfl rfl)
theorem dX2_block_69 : decode cX2_block 69 = .ok (.dup, 1) := dk_89 (dk_at dksX2_block_2 22 rfl rfl)
theorem dX2_block_70 : decode cX2_block 70 = .ok (.getfield 86, 3) := dk_180 0 86 (dk_at dksX2_block_3 0 rfl rfl)
theorem dX2_block_73 : decode cX2_block 73 = .ok (.iconst 1, 1) := dk_4 (dk_at dksX2_block_3 3 rfl rfl)
theorem dX2_block_74 : decode cX2_block 74 = .ok (.isub, 1) := dk_100 (dk_at dksX2_block_3 4 rfl rfl)
theorem dX2_block_75 : decode cX2_block 75 = .ok (.putfield 86, 3) := dk_181 0 86 (dk_at dksX2_block_3 5 rfl rfl)
theorem dX2_block_78 : decode cX2_block 78 = .ok (.aload_n 1, 1) := dk_43 (dk_at dksX2_block_3 8 rfl rfl)
theorem dX2_block_79 : decode cX2_block 79 = .ok (.areturn, 1) := dk_176 (dk_at dksX2_block_3 9 rfl rfl)
theorem okX2_block_0 : XOkL xms rX2_block bX2_block_0 := xcP (xok_aload_n dX2_block_0 rfl) rfl (xcP (xok_aload_n dX2_block_1 rfl) rfl (xcC0 (xokc_list (List.forall_mem_cons.mpr ⟨xokc_V (r := (RX2, TX2, 13)) xm42 (List.mem_of_getElem? (i := 2) rfl) (by decide) rfl dX2_block_2 q778 q780 qs8 q140 q781 (by decide +kernel), fun _ h => nomatch h⟩)) rfl (xcP (xok_bipush dX2_block_5 rfl) rfl (xcP (xok_icmpne dX2_block_7 (by decide)) rfl (xcP (xok_iconst dX2_block_10 rfl) rfl (xcP (xok_goto dX2_block_11 (by decide)) rfl trivial))))))
theorem okX2_block_14 : XOkL xms rX2_block bX2_block_14 := xcP (xok_iconst dX2_block_14 rfl) rfl (xcP xok_fal rfl trivial)
theorem okX2_block_15 : XOkL xms rX2_block bX2_block_15 := xcC0 (xokc_list (List.forall_mem_cons.mpr ⟨xokc_V (r := (RX2, TX2, 13)) xm46 (List.mem_of_getElem? (i := 2) rfl) (by decide) rfl dX2_block_15 q818 q820 qs12 q140 q821 (by decide +kernel), fun _ h => nomatch h⟩)) rfl (xcP (xok_aload_n dX2_block_18 rfl) rfl (xcP (xok_aload_n dX2_block_19 rfl) rfl (xcP (xok_getfield (ref := "WaysAtlas$Reader") (Or.inl ⟨rfl, by decide⟩) dX2_block_20 (Or.inl ⟨q234, (Or.inl rfl)⟩) xh6) rfl (xcP (xok_bipush dX2_block_23 rfl) rfl (xcP (xok_icmpge dX2_block_25 (by decide)) rfl (xcP (xok_iconst dX2_block_28 rfl) rfl (xcP (xok_goto dX2_block_29 (by decide)) rfl trivial)))))))
theorem okX2_block_32 : XOkL xms rX2_block bX2_block_32 := xcP (xok_iconst dX2_block_32 rfl) rfl (xcP xok_fal rfl trivial)
theorem okX2_block_33 : XOkL xms rX2_block bX2_block_33 := xcC0 (xokc_list (List.forall_mem_cons.mpr ⟨xokc_V (r := (RX2, TX2, 13)) xm43 (List.mem_of_getElem? (i := 2) rfl) (by decide) rfl dX2_block_33 q782 q784 qs9 q140 q785 (by decide +kernel), fun _ h => nomatch h⟩)) rfl (xcP (xok_aload_n dX2_block_36 rfl) rfl (xcP (xok_dup dX2_block_37) rfl (xcP (xok_getfield (ref := "WaysAtlas$Reader") (Or.inl ⟨rfl, by decide⟩) dX2_block_38 (Or.inl ⟨q233, (Or.inl rfl)⟩) xh5) rfl (xcP (xok_iconst dX2_block_41 rfl) rfl (xcP (xok_iadd dX2_block_42) rfl (xcP (xok_putfield (ref := "WaysAtlas$Reader") (Or.inl ⟨rfl, by decide, rfl⟩) dX2_block_43 (Or.inl ⟨q233, (Or.inl rfl)⟩) (Or.inl rfl) xh5) rfl (xcP (xok_aload_n dX2_block_46 rfl) rfl (xcP (xok_dup dX2_block_47) rfl (xcP (xok_getfield (ref := "WaysAtlas$Reader") (Or.inl ⟨rfl, by decide⟩) dX2_block_48 (Or.inl ⟨q234, (Or.inl rfl)⟩) xh6) rfl (xcP (xok_iconst dX2_block_51 rfl) rfl (xcP (xok_iadd dX2_block_52) rfl (xcP (xok_putfield (ref := "WaysAtlas$Reader") (Or.inl ⟨rfl, by decide, rfl⟩) dX2_block_53 (Or.inl ⟨q234, (Or.inl rfl)⟩) (Or.inl rfl) xh6) rfl (xcP (xok_aload_n dX2_block_56 rfl) rfl (xcC0 (xokc_list (List.forall_mem_cons.mpr ⟨xokc_V (r := (RX2, TX2, 13)) xm51 (List.mem_of_getElem? (i := 2) rfl) (by decide) rfl dX2_block_57 q861 q863 qs17 q140 q864 (by decide +kernel), fun _ h => nomatch h⟩)) rfl (xcP (xok_astore_n dX2_block_60 rfl) rfl (xcP (xok_aload_n dX2_block_61 rfl) rfl (xcP (xok_bipush dX2_block_62 rfl) rfl (xcC0 (xokc_list (List.forall_mem_cons.mpr ⟨xokc_V (r := (RX2, TX2, 13)) xm48 (List.mem_of_getElem? (i := 2) rfl) (by decide) rfl dX2_block_64 q826 q828 qs14 q140 q829 (by decide +kernel), fun _ h => nomatch h⟩)) rfl (xcP (xok_pop dX2_block_67) rfl (xcP (xok_aload_n dX2_block_68 rfl) rfl (xcP (xok_dup dX2_block_69) rfl (xcP (xok_getfield (ref := "WaysAtlas$Reader") (Or.inl ⟨rfl, by decide⟩) dX2_block_70 (Or.inl ⟨q234, (Or.inl rfl)⟩) xh6) rfl (xcP (xok_iconst dX2_block_73 rfl) rfl (xcP (xok_isub dX2_block_74) rfl (xcP (xok_putfield (ref := "WaysAtlas$Reader") (Or.inl ⟨rfl, by decide, rfl⟩) dX2_block_75 (Or.inl ⟨q234, (Or.inl rfl)⟩) (Or.inl rfl) xh6) rfl (xcP (xok_aload_n dX2_block_78 rfl) rfl (xcR ⟨dX2_block_79, _, rfl, Or.inr ⟨_, rfl⟩⟩)))))))))))))))))))))))))))
theorem okM_X2_block : XOkM xms rX2_block := xokM0 (List.forall_mem_cons.mpr ⟨⟨rfl, okX2_block_0⟩, List.forall_mem_cons.mpr ⟨⟨rfl, okX2_block_14⟩, List.forall_mem_cons.mpr ⟨⟨rfl, okX2_block_15⟩, List.forall_mem_cons.mpr ⟨⟨rfl, okX2_block_32⟩, List.forall_mem_cons.mpr ⟨⟨rfl, okX2_block_33⟩, fun _ h => nomatch h⟩⟩⟩⟩⟩) (xokH0 rfl (fun _ _ => rfl)) (by decide +kernel) (by decide)
abbrev cX2_guard : ByteArray := prog_21_method_24_code
def dkwX2_guard_7 : List UInt8 := [182, 0, 201, 153, 0, 11, 45, 42, 182, 0, 229, 181, 1, 24, 45, 176]
abbrev dktX2_guard_7 : List UInt8 := dkwX2_guard_7 ++ []
def dkwX2_guard_6 : List UInt8 := [180, 1, 20, 21, 6, 42, 182, 0, 229, 83, 42, 25, 5, 181, 0, 95, 167, 255, 152, 42, 16, 19]
abbrev dktX2_guard_6 : List UInt8 := dkwX2_guard_6 ++ dktX2_guard_7
def dkwX2_guard_5 : List UInt8 := [180, 0, 95, 58, 5, 42, 45, 181, 0, 95, 45, 180, 1, 15, 54, 6, 45, 21, 4, 1, 182, 1, 16, 45]
abbrev dktX2_guard_5 : List UInt8 := dkwX2_guard_5 ++ dktX2_guard_6
def dkwX2_guard_4 : List UInt8 := [180, 1, 9, 45, 180, 1, 15, 79, 42, 180, 0, 73, 89, 180, 1, 9, 4, 96, 181, 1, 9, 42]
abbrev dktX2_guard_4 : List UInt8 := dkwX2_guard_4 ++ dktX2_guard_5
def dkwX2_guard_3 : List UInt8 := [180, 1, 5, 42, 180, 0, 73, 180, 1, 9, 45, 83, 42, 180, 0, 73, 180, 1, 12, 42, 180, 0, 73]
abbrev dktX2_guard_3 : List UInt8 := dkwX2_guard_3 ++ dktX2_guard_4
def dkwX2_guard_2 : List UInt8 := [182, 0, 62, 42, 16, 18, 182, 0, 201, 153, 0, 101, 42, 182, 0, 109, 54, 4, 42, 180, 0, 73]
abbrev dktX2_guard_2 : List UInt8 := dkwX2_guard_2 ++ dktX2_guard_3
def dkwX2_guard_1 : List UInt8 := [16, 18, 182, 0, 58, 154, 0, 12, 42, 16, 19, 182, 0, 58, 153, 0, 7, 4, 167, 0, 4, 3]
abbrev dktX2_guard_1 : List UInt8 := dkwX2_guard_1 ++ dktX2_guard_2
def dkwX2_guard_0 : List UInt8 := [187, 1, 1, 89, 27, 28, 183, 1, 3, 78, 45, 42, 182, 0, 229, 181, 1, 4, 42, 28, 157, 0, 21, 42]
abbrev dktX2_guard_0 : List UInt8 := dkwX2_guard_0 ++ dktX2_guard_1
theorem dksX2_guard_0 : cX2_guard.data.toList.drop 0 = dktX2_guard_0 := by decide +kernel
theorem dksX2_guard_1 : cX2_guard.data.toList.drop 24 = dktX2_guard_1 := dk_seg dksX2_guard_0 24 rfl rfl
theorem dksX2_guard_2 : cX2_guard.data.toList.drop 46 = dktX2_guard_2 := dk_seg dksX2_guard_1 22 rfl rfl
theorem dksX2_guard_3 : cX2_guard.data.toList.drop 68 = dktX2_guard_3 := dk_seg dksX2_guard_2 22 rfl rfl
theorem dksX2_guard_4 : cX2_guard.data.toList.drop 91 = dktX2_guard_4 := dk_seg dksX2_guard_3 23 rfl rfl
theorem dksX2_guard_5 : cX2_guard.data.toList.drop 113 = dktX2_guard_5 := dk_seg dksX2_guard_4 22 rfl rfl
theorem dksX2_guard_6 : cX2_guard.data.toList.drop 137 = dktX2_guard_6 := dk_seg dksX2_guard_5 24 rfl rfl
theorem dksX2_guard_7 : cX2_guard.data.toList.drop 159 = dktX2_guard_7 := dk_seg dksX2_guard_6 22 rfl rfl
theorem dX2_guard_0 : decode cX2_guard 0 = .ok (.new 257, 3) := dk_187 1 1 (dk_at dksX2_guard_0 0 rfl rfl)
theorem dX2_guard_3 : decode cX2_guard 3 = .ok (.dup, 1) := dk_89 (dk_at dksX2_guard_0 3 rfl rfl)
theorem dX2_guard_4 : decode cX2_guard 4 = .ok (.iload_n 1, 1) := dk_27 (dk_at dksX2_guard_0 4 rfl rfl)
theorem dX2_guard_5 : decode cX2_guard 5 = .ok (.iload_n 2, 1) := dk_28 (dk_at dksX2_guard_0 5 rfl rfl)
theorem dX2_guard_6 : decode cX2_guard 6 = .ok (.invokespecial 259, 3) := dk_183 1 3 (dk_at dksX2_guard_0 6 rfl rfl)
theorem dX2_guard_9 : decode cX2_guard 9 = .ok (.astore_n 3, 1) := dk_78 (dk_at dksX2_guard_0 9 rfl rfl)
theorem dX2_guard_10 : decode cX2_guard 10 = .ok (.aload_n 3, 1) := dk_45 (dk_at dksX2_guard_0 10 rfl rfl)
theorem dX2_guard_11 : decode cX2_guard 11 = .ok (.aload_n 0, 1) := dk_42 (dk_at dksX2_guard_0 11 rfl rfl)
theorem dX2_guard_12 : decode cX2_guard 12 = .ok (.invokevirtual 229, 3) := dk_182 0 229 (dk_at dksX2_guard_0 12 rfl rfl)
theorem dX2_guard_15 : decode cX2_guard 15 = .ok (.putfield 260, 3) := dk_181 1 4 (dk_at dksX2_guard_0 15 rfl rfl)
theorem dX2_guard_18 : decode cX2_guard 18 = .ok (.aload_n 0, 1) := dk_42 (dk_at dksX2_guard_0 18 rfl rfl)
theorem dX2_guard_19 : decode cX2_guard 19 = .ok (.iload_n 2, 1) := dk_28 (dk_at dksX2_guard_0 19 rfl rfl)
theorem dX2_guard_20 : decode cX2_guard 20 = .ok (.ifCond .gt 21, 3) := dk_157 0 21 (dk_at dksX2_guard_0 20 rfl rfl)
theorem dX2_guard_23 : decode cX2_guard 23 = .ok (.aload_n 0, 1) := dk_42 (dk_at dksX2_guard_0 23 rfl rfl)
theorem dX2_guard_24 : decode cX2_guard 24 = .ok (.bipush 18, 2) := dk_16 18 (dk_at dksX2_guard_1 0 rfl rfl)
theorem dX2_guard_26 : decode cX2_guard 26 = .ok (.invokevirtual 58, 3) := dk_182 0 58 (dk_at dksX2_guard_1 2 rfl rfl)
theorem dX2_guard_29 : decode cX2_guard 29 = .ok (.ifCond .ne 12, 3) := dk_154 0 12 (dk_at dksX2_guard_1 5 rfl rfl)
theorem dX2_guard_32 : decode cX2_guard 32 = .ok (.aload_n 0, 1) := dk_42 (dk_at dksX2_guard_1 8 rfl rfl)
theorem dX2_guard_33 : decode cX2_guard 33 = .ok (.bipush 19, 2) := dk_16 19 (dk_at dksX2_guard_1 9 rfl rfl)
theorem dX2_guard_35 : decode cX2_guard 35 = .ok (.invokevirtual 58, 3) := dk_182 0 58 (dk_at dksX2_guard_1 11 rfl rfl)
theorem dX2_guard_38 : decode cX2_guard 38 = .ok (.ifCond .eq 7, 3) := dk_153 0 7 (dk_at dksX2_guard_1 14 rfl rfl)
theorem dX2_guard_41 : decode cX2_guard 41 = .ok (.iconst 1, 1) := dk_4 (dk_at dksX2_guard_1 17 rfl rfl)
theorem dX2_guard_42 : decode cX2_guard 42 = .ok (.goto 4, 3) := dk_167 0 4 (dk_at dksX2_guard_1 18 rfl rfl)
theorem dX2_guard_45 : decode cX2_guard 45 = .ok (.iconst 0, 1) := dk_3 (dk_at dksX2_guard_1 21 rfl rfl)
theorem dX2_guard_46 : decode cX2_guard 46 = .ok (.invokevirtual 62, 3) := dk_182 0 62 (dk_at dksX2_guard_2 0 rfl rfl)
theorem dX2_guard_49 : decode cX2_guard 49 = .ok (.aload_n 0, 1) := dk_42 (dk_at dksX2_guard_2 3 rfl rfl)
theorem dX2_guard_50 : decode cX2_guard 50 = .ok (.bipush 18, 2) := dk_16 18 (dk_at dksX2_guard_2 4 rfl rfl)
theorem dX2_guard_52 : decode cX2_guard 52 = .ok (.invokevirtual 201, 3) := dk_182 0 201 (dk_at dksX2_guard_2 6 rfl rfl)
theorem dX2_guard_55 : decode cX2_guard 55 = .ok (.ifCond .eq 101, 3) := dk_153 0 101 (dk_at dksX2_guard_2 9 rfl rfl)
theorem dX2_guard_58 : decode cX2_guard 58 = .ok (.aload_n 0, 1) := dk_42 (dk_at dksX2_guard_2 12 rfl rfl)
theorem dX2_guard_59 : decode cX2_guard 59 = .ok (.invokevirtual 109, 3) := dk_182 0 109 (dk_at dksX2_guard_2 13 rfl rfl)
theorem dX2_guard_62 : decode cX2_guard 62 = .ok (.istore 4, 2) := dk_54 4 (dk_at dksX2_guard_2 16 rfl rfl)
theorem dX2_guard_64 : decode cX2_guard 64 = .ok (.aload_n 0, 1) := dk_42 (dk_at dksX2_guard_2 18 rfl rfl)
theorem dX2_guard_65 : decode cX2_guard 65 = .ok (.getfield 73, 3) := dk_180 0 73 (dk_at dksX2_guard_2 19 rfl rfl)
theorem dX2_guard_68 : decode cX2_guard 68 = .ok (.getfield 261, 3) := dk_180 1 5 (dk_at dksX2_guard_3 0 rfl rfl)
theorem dX2_guard_71 : decode cX2_guard 71 = .ok (.aload_n 0, 1) := dk_42 (dk_at dksX2_guard_3 3 rfl rfl)
theorem dX2_guard_72 : decode cX2_guard 72 = .ok (.getfield 73, 3) := dk_180 0 73 (dk_at dksX2_guard_3 4 rfl rfl)
theorem dX2_guard_75 : decode cX2_guard 75 = .ok (.getfield 265, 3) := dk_180 1 9 (dk_at dksX2_guard_3 7 rfl rfl)
theorem dX2_guard_78 : decode cX2_guard 78 = .ok (.aload_n 3, 1) := dk_45 (dk_at dksX2_guard_3 10 rfl rfl)
theorem dX2_guard_79 : decode cX2_guard 79 = .ok (.aastore, 1) := dk_83 (dk_at dksX2_guard_3 11 rfl rfl)
theorem dX2_guard_80 : decode cX2_guard 80 = .ok (.aload_n 0, 1) := dk_42 (dk_at dksX2_guard_3 12 rfl rfl)
theorem dX2_guard_81 : decode cX2_guard 81 = .ok (.getfield 73, 3) := dk_180 0 73 (dk_at dksX2_guard_3 13 rfl rfl)
theorem dX2_guard_84 : decode cX2_guard 84 = .ok (.getfield 268, 3) := dk_180 1 12 (dk_at dksX2_guard_3 16 rfl rfl)
theorem dX2_guard_87 : decode cX2_guard 87 = .ok (.aload_n 0, 1) := dk_42 (dk_at dksX2_guard_3 19 rfl rfl)
theorem dX2_guard_88 : decode cX2_guard 88 = .ok (.getfield 73, 3) := dk_180 0 73 (dk_at dksX2_guard_3 20 rfl rfl)
theorem dX2_guard_91 : decode cX2_guard 91 = .ok (.getfield 265, 3) := dk_180 1 9 (dk_at dksX2_guard_4 0 rfl rfl)
theorem dX2_guard_94 : decode cX2_guard 94 = .ok (.aload_n 3, 1) := dk_45 (dk_at dksX2_guard_4 3 rfl rfl)
theorem dX2_guard_95 : decode cX2_guard 95 = .ok (.getfield 271, 3) := dk_180 1 15 (dk_at dksX2_guard_4 4 rfl rfl)
theorem dX2_guard_98 : decode cX2_guard 98 = .ok (.iastore, 1) := dk_79 (dk_at dksX2_guard_4 7 rfl rfl)
theorem dX2_guard_99 : decode cX2_guard 99 = .ok (.aload_n 0, 1) := dk_42 (dk_at dksX2_guard_4 8 rfl rfl)
theorem dX2_guard_100 : decode cX2_guard 100 = .ok (.getfield 73, 3) := dk_180 0 73 (dk_at dksX2_guard_4 9 rfl rfl)
theorem dX2_guard_103 : decode cX2_guard 103 = .ok (.dup, 1) := dk_89 (dk_at dksX2_guard_4 12 rfl rfl)
theorem dX2_guard_104 : decode cX2_guard 104 = .ok (.getfield 265, 3) := dk_180 1 9 (dk_at dksX2_guard_4 13 rfl rfl)
theorem dX2_guard_107 : decode cX2_guard 107 = .ok (.iconst 1, 1) := dk_4 (dk_at dksX2_guard_4 16 rfl rfl)
theorem dX2_guard_108 : decode cX2_guard 108 = .ok (.iadd, 1) := dk_96 (dk_at dksX2_guard_4 17 rfl rfl)
theorem dX2_guard_109 : decode cX2_guard 109 = .ok (.putfield 265, 3) := dk_181 1 9 (dk_at dksX2_guard_4 18 rfl rfl)
theorem dX2_guard_112 : decode cX2_guard 112 = .ok (.aload_n 0, 1) := dk_42 (dk_at dksX2_guard_4 21 rfl rfl)
theorem dX2_guard_113 : decode cX2_guard 113 = .ok (.getfield 95, 3) := dk_180 0 95 (dk_at dksX2_guard_5 0 rfl rfl)
theorem dX2_guard_116 : decode cX2_guard 116 = .ok (.astore 5, 2) := dk_58 5 (dk_at dksX2_guard_5 3 rfl rfl)
theorem dX2_guard_118 : decode cX2_guard 118 = .ok (.aload_n 0, 1) := dk_42 (dk_at dksX2_guard_5 5 rfl rfl)
theorem dX2_guard_119 : decode cX2_guard 119 = .ok (.aload_n 3, 1) := dk_45 (dk_at dksX2_guard_5 6 rfl rfl)
theorem dX2_guard_120 : decode cX2_guard 120 = .ok (.putfield 95, 3) := dk_181 0 95 (dk_at dksX2_guard_5 7 rfl rfl)
theorem dX2_guard_123 : decode cX2_guard 123 = .ok (.aload_n 3, 1) := dk_45 (dk_at dksX2_guard_5 10 rfl rfl)
theorem dX2_guard_124 : decode cX2_guard 124 = .ok (.getfield 271, 3) := dk_180 1 15 (dk_at dksX2_guard_5 11 rfl rfl)
theorem dX2_guard_127 : decode cX2_guard 127 = .ok (.istore 6, 2) := dk_54 6 (dk_at dksX2_guard_5 14 rfl rfl)
theorem dX2_guard_129 : decode cX2_guard 129 = .ok (.aload_n 3, 1) := dk_45 (dk_at dksX2_guard_5 16 rfl rfl)
theorem dX2_guard_130 : decode cX2_guard 130 = .ok (.iload 4, 2) := dk_21 4 (dk_at dksX2_guard_5 17 rfl rfl)
theorem dX2_guard_132 : decode cX2_guard 132 = .ok (.aconst_null, 1) := dk_1 (dk_at dksX2_guard_5 19 rfl rfl)
theorem dX2_guard_133 : decode cX2_guard 133 = .ok (.invokevirtual 272, 3) := dk_182 1 16 (dk_at dksX2_guard_5 20 rfl rfl)
theorem dX2_guard_136 : decode cX2_guard 136 = .ok (.aload_n 3, 1) := dk_45 (dk_at dksX2_guard_5 23 rfl rfl)
theorem dX2_guard_137 : decode cX2_guard 137 = .ok (.getfield 276, 3) := dk_180 1 20 (dk_at dksX2_guard_6 0 rfl rfl)
theorem dX2_guard_140 : decode cX2_guard 140 = .ok (.iload 6, 2) := dk_21 6 (dk_at dksX2_guard_6 3 rfl rfl)
theorem dX2_guard_142 : decode cX2_guard 142 = .ok (.aload_n 0, 1) := dk_42 (dk_at dksX2_guard_6 5 rfl rfl)
theorem dX2_guard_143 : decode cX2_guard 143 = .ok (.invokevirtual 229, 3) := dk_182 0 229 (dk_at dksX2_guard_6 6 rfl rfl)
theorem dX2_guard_146 : decode cX2_guard 146 = .ok (.aastore, 1) := dk_83 (dk_at dksX2_guard_6 9 rfl rfl)
theorem dX2_guard_147 : decode cX2_guard 147 = .ok (.aload_n 0, 1) := dk_42 (dk_at dksX2_guard_6 10 rfl rfl)
theorem dX2_guard_148 : decode cX2_guard 148 = .ok (.aload 5, 2) := dk_25 5 (dk_at dksX2_guard_6 11 rfl rfl)
theorem dX2_guard_150 : decode cX2_guard 150 = .ok (.putfield 95, 3) := dk_181 0 95 (dk_at dksX2_guard_6 13 rfl rfl)
theorem dX2_guard_153 : decode cX2_guard 153 = .ok (.goto (-104), 3) := dk_167 255 152 (dk_at dksX2_guard_6 16 rfl rfl)
theorem dX2_guard_156 : decode cX2_guard 156 = .ok (.aload_n 0, 1) := dk_42 (dk_at dksX2_guard_6 19 rfl rfl)
theorem dX2_guard_157 : decode cX2_guard 157 = .ok (.bipush 19, 2) := dk_16 19 (dk_at dksX2_guard_6 20 rfl rfl)
theorem dX2_guard_159 : decode cX2_guard 159 = .ok (.invokevirtual 201, 3) := dk_182 0 201 (dk_at dksX2_guard_7 0 rfl rfl)
theorem dX2_guard_162 : decode cX2_guard 162 = .ok (.ifCond .eq 11, 3) := dk_153 0 11 (dk_at dksX2_guard_7 3 rfl rfl)
theorem dX2_guard_165 : decode cX2_guard 165 = .ok (.aload_n 3, 1) := dk_45 (dk_at dksX2_guard_7 6 rfl rfl)
theorem dX2_guard_166 : decode cX2_guard 166 = .ok (.aload_n 0, 1) := dk_42 (dk_at dksX2_guard_7 7 rfl rfl)
theorem dX2_guard_167 : decode cX2_guard 167 = .ok (.invokevirtual 229, 3) := dk_182 0 229 (dk_at dksX2_guard_7 8 rfl rfl)
theorem dX2_guard_170 : decode cX2_guard 170 = .ok (.putfield 280, 3) := dk_181 1 24 (dk_at dksX2_guard_7 11 rfl rfl)
theorem dX2_guard_173 : decode cX2_guard 173 = .ok (.aload_n 3, 1) := dk_45 (dk_at dksX2_guard_7 14 rfl rfl)
theorem dX2_guard_174 : decode cX2_guard 174 = .ok (.areturn, 1) := dk_176 (dk_at dksX2_guard_7 15 rfl rfl)
theorem okX2_guard_0 : XOkL xms rX2_guard bX2_guard_0 := xcP (xok_new (r := (RX31, TX31, 7)) (List.mem_of_getElem? (i := 28) rfl) rfl (by decide) dX2_guard_0 q1182 q1183 q176) rfl (xcP (xok_dup dX2_guard_3) rfl (xcP (xok_iload_n dX2_guard_4 rfl) rfl (xcP (xok_iload_n dX2_guard_5 rfl) rfl (xcC0 (xokc_I xm257 rfl rfl dX2_guard_6 q1184 q1185 q176 q1186 rfl (by decide +kernel)) rfl (xcP (xok_astore_n dX2_guard_9 rfl) rfl (xcP (xok_aload_n dX2_guard_10 rfl) rfl (xcP (xok_aload_n dX2_guard_11 rfl) rfl (xcC0 (xokc_list (List.forall_mem_cons.mpr ⟨xokc_V (r := (RX2, TX2, 13)) xm65 (List.mem_of_getElem? (i := 2) rfl) (by decide) rfl dX2_guard_12 q1123 q1125 qs31 q140 q1126 (by decide +kernel), fun _ h => nomatch h⟩)) rfl (xcP (xok_putfield (ref := "WaysAtlas$Guard") (Or.inr (Or.inr ⟨rfl, by decide, rfl⟩)) dX2_guard_15 (Or.inr ⟨⟨"WaysAtlas", (List.mem_of_getElem? (i := 72) rfl)⟩, (Or.inl rfl)⟩) (Or.inl rfl) xh1135) rfl (xcP (xok_aload_n dX2_guard_18 rfl) rfl (xcP (xok_iload_n dX2_guard_19 rfl) rfl (xcP (xok_ifgt dX2_guard_20 (by decide)) rfl (xcP (xok_aload_n dX2_guard_23 rfl) rfl (xcP (xok_bipush dX2_guard_24 rfl) rfl (xcC0 (xokc_list (List.forall_mem_cons.mpr ⟨xokc_V (r := (RX2, TX2, 13)) xm41 (List.mem_of_getElem? (i := 2) rfl) (by decide) rfl dX2_guard_26 q774 q776 qs7 q140 q777 (by decide +kernel), fun _ h => nomatch h⟩)) rfl (xcP (xok_ifne dX2_guard_29 (by decide)) rfl (xcP (xok_aload_n dX2_guard_32 rfl) rfl (xcP (xok_bipush dX2_guard_33 rfl) rfl (xcC0 (xokc_list (List.forall_mem_cons.mpr ⟨xokc_V (r := (RX2, TX2, 13)) xm41 (List.mem_of_getElem? (i := 2) rfl) (by decide) rfl dX2_guard_35 q774 q776 qs7 q140 q777 (by decide +kernel), fun _ h => nomatch h⟩)) rfl (xcP (xok_ifeq dX2_guard_38 (by decide)) rfl (xcP xok_fal rfl trivial)))))))))))))))))))))
theorem okX2_guard_41 : XOkL xms rX2_guard bX2_guard_41 := xcP (xok_iconst dX2_guard_41 rfl) rfl (xcP (xok_goto dX2_guard_42 (by decide)) rfl trivial)
theorem okX2_guard_45 : XOkL xms rX2_guard bX2_guard_45 := xcP (xok_iconst dX2_guard_45 rfl) rfl (xcP xok_fal rfl trivial)
theorem okX2_guard_46 : XOkL xms rX2_guard bX2_guard_46 := xcC0 (xokc_list (List.forall_mem_cons.mpr ⟨xokc_V (r := (RX2, TX2, 13)) xm46 (List.mem_of_getElem? (i := 2) rfl) (by decide) rfl dX2_guard_46 q818 q820 qs12 q140 q821 (by decide +kernel), fun _ h => nomatch h⟩)) rfl (xcP xok_fal rfl trivial)
theorem okX2_guard_49 : XOkL xms rX2_guard bX2_guard_49 := xcP (xok_aload_n dX2_guard_49 rfl) rfl (xcP (xok_bipush dX2_guard_50 rfl) rfl (xcC0 (xokc_list (List.forall_mem_cons.mpr ⟨xokc_V (r := (RX2, TX2, 13)) xm62 (List.mem_of_getElem? (i := 2) rfl) (by decide) rfl dX2_guard_52 q1036 q1038 qs28 q140 q1039 (by decide +kernel), fun _ h => nomatch h⟩)) rfl (xcP (xok_ifeq dX2_guard_55 (by decide)) rfl (xcP (xok_aload_n dX2_guard_58 rfl) rfl (xcC0 (xokc_list (List.forall_mem_cons.mpr ⟨xokc_V (r := (RX2, TX2, 13)) xm47 (List.mem_of_getElem? (i := 2) rfl) (by decide) rfl dX2_guard_59 q822 q824 qs13 q140 q825 (by decide +kernel), fun _ h => nomatch h⟩)) rfl (xcP (xok_istore dX2_guard_62) rfl (xcP (xok_aload_n dX2_guard_64 rfl) rfl (xcP (xok_getfield (ref := "WaysAtlas$Reader") (Or.inr ⟨rfl, by decide⟩) dX2_guard_65 (Or.inl ⟨q232, (Or.inl rfl)⟩) xh1015) rfl (xcP (xok_getfield (ref := "WaysAtlas$Program") (Or.inr ⟨rfl, by decide⟩) dX2_guard_68 (Or.inr ⟨⟨"WaysAtlas", (List.mem_of_getElem? (i := 73) rfl)⟩, (Or.inl rfl)⟩) xh1023) rfl (xcP (xok_aload_n dX2_guard_71 rfl) rfl (xcP (xok_getfield (ref := "WaysAtlas$Reader") (Or.inr ⟨rfl, by decide⟩) dX2_guard_72 (Or.inl ⟨q232, (Or.inl rfl)⟩) xh1015) rfl (xcP (xok_getfield (ref := "WaysAtlas$Program") (Or.inl ⟨rfl, by decide⟩) dX2_guard_75 (Or.inr ⟨⟨"WaysAtlas", (List.mem_of_getElem? (i := 74) rfl)⟩, (Or.inl rfl)⟩) xh15) rfl (xcP (xok_aload_n dX2_guard_78 rfl) rfl (xcP (xok_aastore (E := "WaysAtlas$Guard") (by decide) (by decide) rfl xfit_7 dX2_guard_79) rfl (xcP (xok_aload_n dX2_guard_80 rfl) rfl (xcP (xok_getfield (ref := "WaysAtlas$Reader") (Or.inr ⟨rfl, by decide⟩) dX2_guard_81 (Or.inl ⟨q232, (Or.inl rfl)⟩) xh1015) rfl (xcP (xok_getfield (ref := "WaysAtlas$Program") (Or.inr ⟨rfl, by decide⟩) dX2_guard_84 (Or.inr ⟨⟨"WaysAtlas", (List.mem_of_getElem? (i := 75) rfl)⟩, (Or.inl rfl)⟩) xh1024) rfl (xcP (xok_aload_n dX2_guard_87 rfl) rfl (xcP (xok_getfield (ref := "WaysAtlas$Reader") (Or.inr ⟨rfl, by decide⟩) dX2_guard_88 (Or.inl ⟨q232, (Or.inl rfl)⟩) xh1015) rfl (xcP (xok_getfield (ref := "WaysAtlas$Program") (Or.inl ⟨rfl, by decide⟩) dX2_guard_91 (Or.inr ⟨⟨"WaysAtlas", (List.mem_of_getElem? (i := 74) rfl)⟩, (Or.inl rfl)⟩) xh15) rfl (xcP (xok_aload_n dX2_guard_94 rfl) rfl (xcP (xok_getfield (ref := "WaysAtlas$Guard") (Or.inl ⟨rfl, by decide⟩) dX2_guard_95 (Or.inr ⟨⟨"WaysAtlas", (List.mem_of_getElem? (i := 76) rfl)⟩, (Or.inl rfl)⟩) xh95) rfl (xcP (xok_iastore dX2_guard_98) rfl (xcP (xok_aload_n dX2_guard_99 rfl) rfl (xcP (xok_getfield (ref := "WaysAtlas$Reader") (Or.inr ⟨rfl, by decide⟩) dX2_guard_100 (Or.inl ⟨q232, (Or.inl rfl)⟩) xh1015) rfl (xcP (xok_dup dX2_guard_103) rfl (xcP (xok_getfield (ref := "WaysAtlas$Program") (Or.inl ⟨rfl, by decide⟩) dX2_guard_104 (Or.inr ⟨⟨"WaysAtlas", (List.mem_of_getElem? (i := 74) rfl)⟩, (Or.inl rfl)⟩) xh15) rfl (xcP (xok_iconst dX2_guard_107 rfl) rfl (xcP (xok_iadd dX2_guard_108) rfl (xcP (xok_putfield (ref := "WaysAtlas$Program") (Or.inl ⟨rfl, by decide, rfl⟩) dX2_guard_109 (Or.inr ⟨⟨"WaysAtlas", (List.mem_of_getElem? (i := 74) rfl)⟩, (Or.inl rfl)⟩) (Or.inl rfl) xh15) rfl (xcP (xok_aload_n dX2_guard_112 rfl) rfl (xcP (xok_getfield (ref := "WaysAtlas$Reader") (Or.inr ⟨rfl, by decide⟩) dX2_guard_113 (Or.inl ⟨q237, (Or.inl rfl)⟩) xh1016) rfl (xcP (xok_astore dX2_guard_116) rfl (xcP (xok_aload_n dX2_guard_118 rfl) rfl (xcP (xok_aload_n dX2_guard_119 rfl) rfl (xcP (xok_putfield (ref := "WaysAtlas$Reader") (Or.inr (Or.inr ⟨rfl, by decide, rfl⟩)) dX2_guard_120 (Or.inl ⟨q237, (Or.inl rfl)⟩) (Or.inl rfl) xh1016) rfl (xcP (xok_aload_n dX2_guard_123 rfl) rfl (xcP (xok_getfield (ref := "WaysAtlas$Guard") (Or.inl ⟨rfl, by decide⟩) dX2_guard_124 (Or.inr ⟨⟨"WaysAtlas", (List.mem_of_getElem? (i := 76) rfl)⟩, (Or.inl rfl)⟩) xh95) rfl (xcP (xok_istore dX2_guard_127) rfl (xcP (xok_aload_n dX2_guard_129 rfl) rfl (xcP (xok_iload dX2_guard_130) rfl (xcP (xok_null dX2_guard_132) rfl (xcC0 (xokc_list (List.forall_mem_cons.mpr ⟨xokc_V (r := (RX31, TX31, 7)) xm258 (List.mem_of_getElem? (i := 28) rfl) (by decide) rfl dX2_guard_133 q1221 q1222 q1223 q176 q1224 (by decide +kernel), fun _ h => nomatch h⟩)) rfl (xcP (xok_aload_n dX2_guard_136 rfl) rfl (xcP (xok_getfield (ref := "WaysAtlas$Guard") (Or.inr ⟨rfl, by decide⟩) dX2_guard_137 (Or.inr ⟨⟨"WaysAtlas", (List.mem_of_getElem? (i := 77) rfl)⟩, (Or.inl rfl)⟩) xh1137) rfl (xcP (xok_iload dX2_guard_140) rfl (xcP (xok_aload_n dX2_guard_142 rfl) rfl (xcC0 (xokc_list (List.forall_mem_cons.mpr ⟨xokc_V (r := (RX2, TX2, 13)) xm65 (List.mem_of_getElem? (i := 2) rfl) (by decide) rfl dX2_guard_143 q1123 q1125 qs31 q140 q1126 (by decide +kernel), fun _ h => nomatch h⟩)) rfl (xcP (xok_aastoreA dX2_guard_146) rfl (xcP (xok_aload_n dX2_guard_147 rfl) rfl (xcP (xok_aload dX2_guard_148) rfl (xcP (xok_putfield (ref := "WaysAtlas$Reader") (Or.inr (Or.inr ⟨rfl, by decide, rfl⟩)) dX2_guard_150 (Or.inl ⟨q237, (Or.inl rfl)⟩) (Or.inl rfl) xh1016) rfl (xcP (xok_goto dX2_guard_153 (by decide)) rfl trivial)))))))))))))))))))))))))))))))))))))))))))))))))))))
theorem okX2_guard_156 : XOkL xms rX2_guard bX2_guard_156 := xcP (xok_aload_n dX2_guard_156 rfl) rfl (xcP (xok_bipush dX2_guard_157 rfl) rfl (xcC0 (xokc_list (List.forall_mem_cons.mpr ⟨xokc_V (r := (RX2, TX2, 13)) xm62 (List.mem_of_getElem? (i := 2) rfl) (by decide) rfl dX2_guard_159 q1036 q1038 qs28 q140 q1039 (by decide +kernel), fun _ h => nomatch h⟩)) rfl (xcP (xok_ifeq dX2_guard_162 (by decide)) rfl (xcP (xok_aload_n dX2_guard_165 rfl) rfl (xcP (xok_aload_n dX2_guard_166 rfl) rfl (xcC0 (xokc_list (List.forall_mem_cons.mpr ⟨xokc_V (r := (RX2, TX2, 13)) xm65 (List.mem_of_getElem? (i := 2) rfl) (by decide) rfl dX2_guard_167 q1123 q1125 qs31 q140 q1126 (by decide +kernel), fun _ h => nomatch h⟩)) rfl (xcP (xok_putfield (ref := "WaysAtlas$Guard") (Or.inr (Or.inr ⟨rfl, by decide, rfl⟩)) dX2_guard_170 (Or.inr ⟨⟨"WaysAtlas", (List.mem_of_getElem? (i := 79) rfl)⟩, (Or.inl rfl)⟩) (Or.inl rfl) xh1138) rfl (xcP xok_fal rfl trivial))))))))
theorem okX2_guard_173 : XOkL xms rX2_guard bX2_guard_173 := xcP (xok_aload_n dX2_guard_173 rfl) rfl (xcR ⟨dX2_guard_174, _, rfl, Or.inl ⟨_, rfl⟩⟩)
theorem okM_X2_guard : XOkM xms rX2_guard := xokM0 (List.forall_mem_cons.mpr ⟨⟨rfl, okX2_guard_0⟩, List.forall_mem_cons.mpr ⟨⟨rfl, okX2_guard_41⟩, List.forall_mem_cons.mpr ⟨⟨rfl, okX2_guard_45⟩, List.forall_mem_cons.mpr ⟨⟨rfl, okX2_guard_46⟩, List.forall_mem_cons.mpr ⟨⟨rfl, okX2_guard_49⟩, List.forall_mem_cons.mpr ⟨⟨rfl, okX2_guard_156⟩, List.forall_mem_cons.mpr ⟨⟨rfl, okX2_guard_173⟩, fun _ h => nomatch h⟩⟩⟩⟩⟩⟩⟩) (xokH0 rfl (fun _ _ => rfl)) (by decide +kernel) (by decide)
abbrev cX3_init : ByteArray := prog_19_method_1_code
def dkwX3_init_3 : List UInt8 := [60, 27, 16, 6, 163, 0, 16, 42, 180, 0, 17, 27, 4, 79, 132, 1, 1, 167, 255, 240, 177]
abbrev dktX3_init_3 : List UInt8 := dkwX3_init_3 ++ []
def dkwX3_init_2 : List UInt8 := [17, 0, 160, 188, 10, 181, 0, 37, 42, 180, 0, 17, 3, 16, 247, 79, 42, 180, 0, 17, 4, 3, 79, 5]
abbrev dktX3_init_2 : List UInt8 := dkwX3_init_2 ++ dktX3_init_3
def dkwX3_init_1 : List UInt8 := [181, 0, 21, 42, 16, 80, 189, 0, 25, 181, 0, 27, 42, 17, 0, 160, 189, 0, 31, 181, 0, 33, 42]
abbrev dktX3_init_1 : List UInt8 := dkwX3_init_1 ++ dktX3_init_2
def dkwX3_init_0 : List UInt8 := [42, 183, 0, 3, 42, 16, 8, 189, 0, 9, 181, 0, 11, 42, 16, 16, 188, 10, 181, 0, 17, 42, 16, 7]
abbrev dktX3_init_0 : List UInt8 := dkwX3_init_0 ++ dktX3_init_1
theorem dksX3_init_0 : cX3_init.data.toList.drop 0 = dktX3_init_0 := by decide +kernel
theorem dksX3_init_1 : cX3_init.data.toList.drop 24 = dktX3_init_1 := dk_seg dksX3_init_0 24 rfl rfl
theorem dksX3_init_2 : cX3_init.data.toList.drop 47 = dktX3_init_2 := dk_seg dksX3_init_1 23 rfl rfl
theorem dksX3_init_3 : cX3_init.data.toList.drop 71 = dktX3_init_3 := dk_seg dksX3_init_2 24 rfl rfl
theorem dX3_init_0 : decode cX3_init 0 = .ok (.aload_n 0, 1) := dk_42 (dk_at dksX3_init_0 0 rfl rfl)
theorem dX3_init_1 : decode cX3_init 1 = .ok (.invokespecial 3, 3) := dk_183 0 3 (dk_at dksX3_init_0 1 rfl rfl)
theorem dX3_init_4 : decode cX3_init 4 = .ok (.aload_n 0, 1) := dk_42 (dk_at dksX3_init_0 4 rfl rfl)
theorem dX3_init_5 : decode cX3_init 5 = .ok (.bipush 8, 2) := dk_16 8 (dk_at dksX3_init_0 5 rfl rfl)
theorem dX3_init_7 : decode cX3_init 7 = .ok (.anewarray 9, 3) := dk_189 0 9 (dk_at dksX3_init_0 7 rfl rfl)
theorem dX3_init_10 : decode cX3_init 10 = .ok (.putfield 11, 3) := dk_181 0 11 (dk_at dksX3_init_0 10 rfl rfl)
theorem dX3_init_13 : decode cX3_init 13 = .ok (.aload_n 0, 1) := dk_42 (dk_at dksX3_init_0 13 rfl rfl)
theorem dX3_init_14 : decode cX3_init 14 = .ok (.bipush 16, 2) := dk_16 16 (dk_at dksX3_init_0 14 rfl rfl)
theorem dX3_init_16 : decode cX3_init 16 = .ok (.newarray .int, 2) := dk_188_10 (dk_at dksX3_init_0 16 rfl rfl)
theorem dX3_init_18 : decode cX3_init 18 = .ok (.putfield 17, 3) := dk_181 0 17 (dk_at dksX3_init_0 18 rfl rfl)
theorem dX3_init_21 : decode cX3_init 21 = .ok (.aload_n 0, 1) := dk_42 (dk_at dksX3_init_0 21 rfl rfl)
theorem dX3_init_22 : decode cX3_init 22 = .ok (.bipush 7, 2) := dk_16 7 (dk_at dksX3_init_0 22 rfl rfl)
theorem dX3_init_24 : decode cX3_init 24 = .ok (.putfield 21, 3) := dk_181 0 21 (dk_at dksX3_init_1 0 rfl rfl)
theorem dX3_init_27 : decode cX3_init 27 = .ok (.aload_n 0, 1) := dk_42 (dk_at dksX3_init_1 3 rfl rfl)
theorem dX3_init_28 : decode cX3_init 28 = .ok (.bipush 80, 2) := dk_16 80 (dk_at dksX3_init_1 4 rfl rfl)
theorem dX3_init_30 : decode cX3_init 30 = .ok (.anewarray 25, 3) := dk_189 0 25 (dk_at dksX3_init_1 6 rfl rfl)
theorem dX3_init_33 : decode cX3_init 33 = .ok (.putfield 27, 3) := dk_181 0 27 (dk_at dksX3_init_1 9 rfl rfl)
theorem dX3_init_36 : decode cX3_init 36 = .ok (.aload_n 0, 1) := dk_42 (dk_at dksX3_init_1 12 rfl rfl)
theorem dX3_init_37 : decode cX3_init 37 = .ok (.sipush 160, 3) := dk_17 0 160 (dk_at dksX3_init_1 13 rfl rfl)
theorem dX3_init_40 : decode cX3_init 40 = .ok (.anewarray 31, 3) := dk_189 0 31 (dk_at dksX3_init_1 16 rfl rfl)
theorem dX3_init_43 : decode cX3_init 43 = .ok (.putfield 33, 3) := dk_181 0 33 (dk_at dksX3_init_1 19 rfl rfl)
theorem dX3_init_46 : decode cX3_init 46 = .ok (.aload_n 0, 1) := dk_42 (dk_at dksX3_init_1 22 rfl rfl)
theorem dX3_init_47 : decode cX3_init 47 = .ok (.sipush 160, 3) := dk_17 0 160 (dk_at dksX3_init_2 0 rfl rfl)
theorem dX3_init_50 : decode cX3_init 50 = .ok (.newarray .int, 2) := dk_188_10 (dk_at dksX3_init_2 3 rfl rfl)
theorem dX3_init_52 : decode cX3_init 52 = .ok (.putfield 37, 3) := dk_181 0 37 (dk_at dksX3_init_2 5 rfl rfl)
theorem dX3_init_55 : decode cX3_init 55 = .ok (.aload_n 0, 1) := dk_42 (dk_at dksX3_init_2 8 rfl rfl)
theorem dX3_init_56 : decode cX3_init 56 = .ok (.getfield 17, 3) := dk_180 0 17 (dk_at dksX3_init_2 9 rfl rfl)
theorem dX3_init_59 : decode cX3_init 59 = .ok (.iconst 0, 1) := dk_3 (dk_at dksX3_init_2 12 rfl rfl)
theorem dX3_init_60 : decode cX3_init 60 = .ok (.bipush (-9), 2) := dk_16 247 (dk_at dksX3_init_2 13 rfl rfl)
theorem dX3_init_62 : decode cX3_init 62 = .ok (.iastore, 1) := dk_79 (dk_at dksX3_init_2 15 rfl rfl)
theorem dX3_init_63 : decode cX3_init 63 = .ok (.aload_n 0, 1) := dk_42 (dk_at dksX3_init_2 16 rfl rfl)
theorem dX3_init_64 : decode cX3_init 64 = .ok (.getfield 17, 3) := dk_180 0 17 (dk_at dksX3_init_2 17 rfl rfl)
theorem dX3_init_67 : decode cX3_init 67 = .ok (.iconst 1, 1) := dk_4 (dk_at dksX3_init_2 20 rfl rfl)
theorem dX3_init_68 : decode cX3_init 68 = .ok (.iconst 0, 1) := dk_3 (dk_at dksX3_init_2 21 rfl rfl)
theorem dX3_init_69 : decode cX3_init 69 = .ok (.iastore, 1) := dk_79 (dk_at dksX3_init_2 22 rfl rfl)
theorem dX3_init_70 : decode cX3_init 70 = .ok (.iconst 2, 1) := dk_5 (dk_at dksX3_init_2 23 rfl rfl)
theorem dX3_init_71 : decode cX3_init 71 = .ok (.istore_n 1, 1) := dk_60 (dk_at dksX3_init_3 0 rfl rfl)
theorem dX3_init_72 : decode cX3_init 72 = .ok (.iload_n 1, 1) := dk_27 (dk_at dksX3_init_3 1 rfl rfl)
theorem dX3_init_73 : decode cX3_init 73 = .ok (.bipush 6, 2) := dk_16 6 (dk_at dksX3_init_3 2 rfl rfl)
theorem dX3_init_75 : decode cX3_init 75 = .ok (.if_icmp .gt 16, 3) := dk_163 0 16 (dk_at dksX3_init_3 4 rfl rfl)
theorem dX3_init_78 : decode cX3_init 78 = .ok (.aload_n 0, 1) := dk_42 (dk_at dksX3_init_3 7 rfl rfl)
theorem dX3_init_79 : decode cX3_init 79 = .ok (.getfield 17, 3) := dk_180 0 17 (dk_at dksX3_init_3 8 rfl rfl)
theorem dX3_init_82 : decode cX3_init 82 = .ok (.iload_n 1, 1) := dk_27 (dk_at dksX3_init_3 11 rfl rfl)
theorem dX3_init_83 : decode cX3_init 83 = .ok (.iconst 1, 1) := dk_4 (dk_at dksX3_init_3 12 rfl rfl)
theorem dX3_init_84 : decode cX3_init 84 = .ok (.iastore, 1) := dk_79 (dk_at dksX3_init_3 13 rfl rfl)
theorem dX3_init_85 : decode cX3_init 85 = .ok (.iinc 1 1, 3) := dk_132 1 1 (dk_at dksX3_init_3 14 rfl rfl)
theorem dX3_init_88 : decode cX3_init 88 = .ok (.goto (-16), 3) := dk_167 255 240 (dk_at dksX3_init_3 17 rfl rfl)
theorem dX3_init_91 : decode cX3_init 91 = .ok (.return_, 1) := dk_177 (dk_at dksX3_init_3 20 rfl rfl)
theorem okX3_init_0 : XOkL xms rX3_init bX3_init_0 := xcP (xok_aload_n dX3_init_0 rfl) rfl (xcP (xok_objInit dX3_init_1 q276 q186 q187) rfl (xcP (xok_aload_n dX3_init_4 rfl) rfl (xcP (xok_bipush dX3_init_5 rfl) rfl (xcP (xok_anewarray (by decide) (by decide) rfl dX3_init_7 q277 (List.mem_of_getElem? (i := 3) rfl)) rfl (xcP (xok_putfield (ref := "WaysAtlas$Program") (Or.inr (Or.inr ⟨rfl, by decide, rfl⟩)) dX3_init_10 (Or.inl ⟨q282, (Or.inl rfl)⟩) (Or.inr ⟨rfl, rfl, ⟨q282, (Or.inl rfl)⟩⟩) xh1020) rfl (xcP (xok_aload_n dX3_init_13 rfl) rfl (xcP (xok_bipush dX3_init_14 rfl) rfl (xcP (xok_newarray (atype := .int) (by decide) rfl dX3_init_16 q222) rfl (xcP (xok_putfield (ref := "WaysAtlas$Program") (Or.inr (Or.inr ⟨rfl, by decide, rfl⟩)) dX3_init_18 (Or.inl ⟨q288, (Or.inl rfl)⟩) (Or.inr ⟨rfl, rfl, ⟨q288, (Or.inl rfl)⟩⟩) xh1021) rfl (xcP (xok_aload_n dX3_init_21 rfl) rfl (xcP (xok_bipush dX3_init_22 rfl) rfl (xcP (xok_putfield (ref := "WaysAtlas$Program") (Or.inl ⟨rfl, by decide, rfl⟩) dX3_init_24 (Or.inl ⟨q290, (Or.inl rfl)⟩) (Or.inl rfl) xh13) rfl (xcP (xok_aload_n dX3_init_27 rfl) rfl (xcP (xok_bipush dX3_init_28 rfl) rfl (xcP (xok_anewarray (by decide) (by decide) rfl dX3_init_30 q279 (List.mem_of_getElem? (i := 4) rfl)) rfl (xcP (xok_putfield (ref := "WaysAtlas$Program") (Or.inr (Or.inr ⟨rfl, by decide, rfl⟩)) dX3_init_33 (Or.inl ⟨q293, (Or.inl rfl)⟩) (Or.inr ⟨rfl, rfl, ⟨q293, (Or.inl rfl)⟩⟩) xh1022) rfl (xcP (xok_aload_n dX3_init_36 rfl) rfl (xcP (xok_sipush dX3_init_37 rfl) rfl (xcP (xok_anewarray (by decide) (by decide) rfl dX3_init_40 q280 (List.mem_of_getElem? (i := 2) rfl)) rfl (xcP (xok_putfield (ref := "WaysAtlas$Program") (Or.inr (Or.inr ⟨rfl, by decide, rfl⟩)) dX3_init_43 (Or.inl ⟨q298, (Or.inl rfl)⟩) (Or.inr ⟨rfl, rfl, ⟨q298, (Or.inl rfl)⟩⟩) xh1023) rfl (xcP (xok_aload_n dX3_init_46 rfl) rfl (xcP (xok_sipush dX3_init_47 rfl) rfl (xcP (xok_newarray (atype := .int) (by decide) rfl dX3_init_50 q222) rfl (xcP (xok_putfield (ref := "WaysAtlas$Program") (Or.inr (Or.inr ⟨rfl, by decide, rfl⟩)) dX3_init_52 (Or.inl ⟨q301, (Or.inl rfl)⟩) (Or.inr ⟨rfl, rfl, ⟨q301, (Or.inl rfl)⟩⟩) xh1024) rfl (xcP (xok_aload_n dX3_init_55 rfl) rfl (xcP (xok_getfield (ref := "WaysAtlas$Program") (Or.inr ⟨rfl, by decide⟩) dX3_init_56 (Or.inl ⟨q288, (Or.inl rfl)⟩) xh1021) rfl (xcP (xok_iconst dX3_init_59 rfl) rfl (xcP (xok_bipush dX3_init_60 rfl) rfl (xcP (xok_iastore dX3_init_62) rfl (xcP (xok_aload_n dX3_init_63 rfl) rfl (xcP (xok_getfield (ref := "WaysAtlas$Program") (Or.inr ⟨rfl, by decide⟩) dX3_init_64 (Or.inl ⟨q288, (Or.inl rfl)⟩) xh1021) rfl (xcP (xok_iconst dX3_init_67 rfl) rfl (xcP (xok_iconst dX3_init_68 rfl) rfl (xcP (xok_iastore dX3_init_69) rfl (xcP (xok_iconst dX3_init_70 rfl) rfl (xcP (xok_istore_n dX3_init_71 rfl) rfl (xcP xok_fal rfl trivial)))))))))))))))))))))))))))))))))))))
theorem okX3_init_72 : XOkL xms rX3_init bX3_init_72 := xcP (xok_iload_n dX3_init_72 rfl) rfl (xcP (xok_bipush dX3_init_73 rfl) rfl (xcP (xok_icmpgt dX3_init_75 (by decide)) rfl (xcP (xok_aload_n dX3_init_78 rfl) rfl (xcP (xok_getfield (ref := "WaysAtlas$Program") (Or.inr ⟨rfl, by decide⟩) dX3_init_79 (Or.inl ⟨q288, (Or.inl rfl)⟩) xh1021) rfl (xcP (xok_iload_n dX3_init_82 rfl) rfl (xcP (xok_iconst dX3_init_83 rfl) rfl (xcP (xok_iastore dX3_init_84) rfl (xcP (xok_iinc dX3_init_85 rfl) rfl (xcP (xok_goto dX3_init_88 (by decide)) rfl trivial)))))))))
theorem okX3_init_91 : XOkL xms rX3_init bX3_init_91 := xcR ⟨dX3_init_91, rfl⟩
theorem okM_X3_init : XOkM xms rX3_init := xokM0 (List.forall_mem_cons.mpr ⟨⟨rfl, okX3_init_0⟩, List.forall_mem_cons.mpr ⟨⟨rfl, okX3_init_72⟩, List.forall_mem_cons.mpr ⟨⟨rfl, okX3_init_91⟩, fun _ h => nomatch h⟩⟩⟩) (xokH0 rfl (fun _ _ => rfl)) (by decide +kernel) (by decide)
abbrev cX3_walk : ByteArray := prog_19_method_4_code
def dkwX3_walk_2 : List UInt8 := [180, 0, 80, 181, 0, 83, 167, 0, 10, 58, 6, 43, 5, 181, 0, 75, 177]
abbrev dktX3_walk_2 : List UInt8 := dkwX3_walk_2 ++ []
def dkwX3_walk_1 : List UInt8 := [182, 0, 69, 181, 0, 72, 43, 3, 181, 0, 75, 167, 0, 29, 58, 6, 43, 4, 181, 0, 75, 43, 25, 6]
abbrev dktX3_walk_1 : List UInt8 := dkwX3_walk_1 ++ dktX3_walk_2
def dkwX3_walk_0 : List UInt8 := [43, 21, 5, 182, 0, 61, 43, 42, 43, 43, 42, 180, 0, 11, 28, 50, 29, 21, 4, 182, 0, 65]
abbrev dktX3_walk_0 : List UInt8 := dkwX3_walk_0 ++ dktX3_walk_1
theorem dksX3_walk_0 : cX3_walk.data.toList.drop 0 = dktX3_walk_0 := by decide +kernel
theorem dksX3_walk_1 : cX3_walk.data.toList.drop 22 = dktX3_walk_1 := dk_seg dksX3_walk_0 22 rfl rfl
theorem dksX3_walk_2 : cX3_walk.data.toList.drop 46 = dktX3_walk_2 := dk_seg dksX3_walk_1 24 rfl rfl
theorem dX3_walk_0 : decode cX3_walk 0 = .ok (.aload_n 1, 1) := dk_43 (dk_at dksX3_walk_0 0 rfl rfl)
theorem dX3_walk_1 : decode cX3_walk 1 = .ok (.iload 5, 2) := dk_21 5 (dk_at dksX3_walk_0 1 rfl rfl)
theorem dX3_walk_3 : decode cX3_walk 3 = .ok (.invokevirtual 61, 3) := dk_182 0 61 (dk_at dksX3_walk_0 3 rfl rfl)
theorem dX3_walk_6 : decode cX3_walk 6 = .ok (.aload_n 1, 1) := dk_43 (dk_at dksX3_walk_0 6 rfl rfl)
theorem dX3_walk_7 : decode cX3_walk 7 = .ok (.aload_n 0, 1) := dk_42 (dk_at dksX3_walk_0 7 rfl rfl)
theorem dX3_walk_8 : decode cX3_walk 8 = .ok (.aload_n 1, 1) := dk_43 (dk_at dksX3_walk_0 8 rfl rfl)
theorem dX3_walk_9 : decode cX3_walk 9 = .ok (.aload_n 1, 1) := dk_43 (dk_at dksX3_walk_0 9 rfl rfl)
theorem dX3_walk_10 : decode cX3_walk 10 = .ok (.aload_n 0, 1) := dk_42 (dk_at dksX3_walk_0 10 rfl rfl)
theorem dX3_walk_11 : decode cX3_walk 11 = .ok (.getfield 11, 3) := dk_180 0 11 (dk_at dksX3_walk_0 11 rfl rfl)
theorem dX3_walk_14 : decode cX3_walk 14 = .ok (.iload_n 2, 1) := dk_28 (dk_at dksX3_walk_0 14 rfl rfl)
theorem dX3_walk_15 : decode cX3_walk 15 = .ok (.aaload, 1) := dk_50 (dk_at dksX3_walk_0 15 rfl rfl)
theorem dX3_walk_16 : decode cX3_walk 16 = .ok (.iload_n 3, 1) := dk_29 (dk_at dksX3_walk_0 16 rfl rfl)
theorem dX3_walk_17 : decode cX3_walk 17 = .ok (.iload 4, 2) := dk_21 4 (dk_at dksX3_walk_0 17 rfl rfl)
theorem dX3_walk_19 : decode cX3_walk 19 = .ok (.invokevirtual 65, 3) := dk_182 0 65 (dk_at dksX3_walk_0 19 rfl rfl)
theorem dX3_walk_22 : decode cX3_walk 22 = .ok (.invokevirtual 69, 3) := dk_182 0 69 (dk_at dksX3_walk_1 0 rfl rfl)
theorem dX3_walk_25 : decode cX3_walk 25 = .ok (.putfield 72, 3) := dk_181 0 72 (dk_at dksX3_walk_1 3 rfl rfl)
theorem dX3_walk_28 : decode cX3_walk 28 = .ok (.aload_n 1, 1) := dk_43 (dk_at dksX3_walk_1 6 rfl rfl)
theorem dX3_walk_29 : decode cX3_walk 29 = .ok (.iconst 0, 1) := dk_3 (dk_at dksX3_walk_1 7 rfl rfl)
theorem dX3_walk_30 : decode cX3_walk 30 = .ok (.putfield 75, 3) := dk_181 0 75 (dk_at dksX3_walk_1 8 rfl rfl)
theorem dX3_walk_33 : decode cX3_walk 33 = .ok (.goto 29, 3) := dk_167 0 29 (dk_at dksX3_walk_1 11 rfl rfl)
theorem dX3_walk_36 : decode cX3_walk 36 = .ok (.astore 6, 2) := dk_58 6 (dk_at dksX3_walk_1 14 rfl rfl)
theorem dX3_walk_38 : decode cX3_walk 38 = .ok (.aload_n 1, 1) := dk_43 (dk_at dksX3_walk_1 16 rfl rfl)
theorem dX3_walk_39 : decode cX3_walk 39 = .ok (.iconst 1, 1) := dk_4 (dk_at dksX3_walk_1 17 rfl rfl)
theorem dX3_walk_40 : decode cX3_walk 40 = .ok (.putfield 75, 3) := dk_181 0 75 (dk_at dksX3_walk_1 18 rfl rfl)
theorem dX3_walk_43 : decode cX3_walk 43 = .ok (.aload_n 1, 1) := dk_43 (dk_at dksX3_walk_1 21 rfl rfl)
theorem dX3_walk_44 : decode cX3_walk 44 = .ok (.aload 6, 2) := dk_25 6 (dk_at dksX3_walk_1 22 rfl rfl)
theorem dX3_walk_46 : decode cX3_walk 46 = .ok (.getfield 80, 3) := dk_180 0 80 (dk_at dksX3_walk_2 0 rfl rfl)
theorem dX3_walk_49 : decode cX3_walk 49 = .ok (.putfield 83, 3) := dk_181 0 83 (dk_at dksX3_walk_2 3 rfl rfl)
theorem dX3_walk_52 : decode cX3_walk 52 = .ok (.goto 10, 3) := dk_167 0 10 (dk_at dksX3_walk_2 6 rfl rfl)
theorem dX3_walk_55 : decode cX3_walk 55 = .ok (.astore 6, 2) := dk_58 6 (dk_at dksX3_walk_2 9 rfl rfl)
theorem dX3_walk_57 : decode cX3_walk 57 = .ok (.aload_n 1, 1) := dk_43 (dk_at dksX3_walk_2 11 rfl rfl)
theorem dX3_walk_58 : decode cX3_walk 58 = .ok (.iconst 2, 1) := dk_5 (dk_at dksX3_walk_2 12 rfl rfl)
theorem dX3_walk_59 : decode cX3_walk 59 = .ok (.putfield 75, 3) := dk_181 0 75 (dk_at dksX3_walk_2 13 rfl rfl)
theorem dX3_walk_62 : decode cX3_walk 62 = .ok (.return_, 1) := dk_177 (dk_at dksX3_walk_2 16 rfl rfl)
theorem okX3_walk_0 : XOkL xms rX3_walk bX3_walk_0 := xcP (xok_aload_n dX3_walk_0 rfl) rfl (xcP (xok_iload dX3_walk_1) rfl (xcC0 (xokc_list (List.forall_mem_cons.mpr ⟨xokc_V (r := (RX5, TX5, 34)) xm80 (List.mem_of_getElem? (i := 5) rfl) (by decide) rfl dX3_walk_3 q1555 q1556 q1557 q143 q1558 (by decide +kernel), fun _ h => nomatch h⟩)) rfl (xcP (xok_aload_n dX3_walk_6 rfl) rfl (xcP (xok_aload_n dX3_walk_7 rfl) rfl (xcP (xok_aload_n dX3_walk_8 rfl) rfl (xcP (xok_aload_n dX3_walk_9 rfl) rfl (xcP (xok_aload_n dX3_walk_10 rfl) rfl (xcP (xok_getfield (ref := "WaysAtlas$Program") (Or.inr ⟨rfl, by decide⟩) dX3_walk_11 (Or.inl ⟨q282, (Or.inl rfl)⟩) xh1020) rfl (xcP (xok_iload_n dX3_walk_14 rfl) rfl (xcP (xok_aaload (by decide) rfl dX3_walk_15) rfl (xcP (xok_iload_n dX3_walk_16 rfl) rfl (xcP (xok_iload dX3_walk_17) rfl (xcC0 (xokc_list (List.forall_mem_cons.mpr ⟨xokc_V (r := (RX5, TX5, 34)) xm81 (List.mem_of_getElem? (i := 5) rfl) (by decide) rfl dX3_walk_19 q1559 q1560 q1561 q143 q1562 (by decide +kernel), fun _ h => nomatch h⟩)) rfl (xcC0 (xokc_list (List.forall_mem_cons.mpr ⟨xokc_VX (r := (RX3, TX3, 10)) xm69 (List.mem_of_getElem? (i := 3) rfl) (by decide) (by decide) dX3_walk_22 q1586 q1587 q1588 q141 q1589 (by decide +kernel), fun _ h => nomatch h⟩)) rfl (xcP (xok_putfield (ref := "WaysAtlas$Run") (Or.inl ⟨rfl, by decide, rfl⟩) dX3_walk_25 (Or.inr ⟨⟨"WaysAtlas", (List.mem_of_getElem? (i := 56) rfl)⟩, (Or.inl rfl)⟩) (Or.inl rfl) xh29) rfl (xcP (xok_aload_n dX3_walk_28 rfl) rfl (xcP (xok_iconst dX3_walk_29 rfl) rfl (xcP (xok_putfield (ref := "WaysAtlas$Run") (Or.inl ⟨rfl, by decide, rfl⟩) dX3_walk_30 (Or.inr ⟨⟨"WaysAtlas", (List.mem_of_getElem? (i := 57) rfl)⟩, (Or.inl rfl)⟩) (Or.inl rfl) xh28) rfl (xcP (xok_goto dX3_walk_33 (by decide)) rfl trivial)))))))))))))))))))
theorem okX3_walk_36 : XOkL xms rX3_walk bX3_walk_36 := xcP (xok_astore dX3_walk_36) rfl (xcP (xok_aload_n dX3_walk_38 rfl) rfl (xcP (xok_iconst dX3_walk_39 rfl) rfl (xcP (xok_putfield (ref := "WaysAtlas$Run") (Or.inl ⟨rfl, by decide, rfl⟩) dX3_walk_40 (Or.inr ⟨⟨"WaysAtlas", (List.mem_of_getElem? (i := 57) rfl)⟩, (Or.inl rfl)⟩) (Or.inl rfl) xh28) rfl (xcP (xok_aload_n dX3_walk_43 rfl) rfl (xcP (xok_aload dX3_walk_44) rfl (xcP (xok_getfield (ref := "WaysAtlas$Thrown") (Or.inl ⟨rfl, by decide⟩) dX3_walk_46 (Or.inr ⟨⟨"WaysAtlas", (List.mem_of_getElem? (i := 58) rfl)⟩, (Or.inl rfl)⟩) xh33) rfl (xcP (xok_putfield (ref := "WaysAtlas$Run") (Or.inl ⟨rfl, by decide, rfl⟩) dX3_walk_49 (Or.inr ⟨⟨"WaysAtlas", (List.mem_of_getElem? (i := 59) rfl)⟩, (Or.inl rfl)⟩) (Or.inl rfl) xh30) rfl (xcP (xok_goto dX3_walk_52 (by decide)) rfl trivial))))))))
theorem okX3_walk_55 : XOkL xms rX3_walk bX3_walk_55 := xcP (xok_astore dX3_walk_55) rfl (xcP (xok_aload_n dX3_walk_57 rfl) rfl (xcP (xok_iconst dX3_walk_58 rfl) rfl (xcP (xok_putfield (ref := "WaysAtlas$Run") (Or.inl ⟨rfl, by decide, rfl⟩) dX3_walk_59 (Or.inr ⟨⟨"WaysAtlas", (List.mem_of_getElem? (i := 57) rfl)⟩, (Or.inl rfl)⟩) (Or.inl rfl) xh28) rfl (xcP xok_fal rfl trivial))))
theorem okX3_walk_62 : XOkL xms rX3_walk bX3_walk_62 := xcR ⟨dX3_walk_62, rfl⟩
theorem okH_X3_walk : XOkH rX3_walk := xhand (hs := [((6, 33, 36, 78), 7, "WaysAtlas$Thrown"), ((6, 33, 55, 84), 8, "WaysAtlas$Spent")]) rfl (List.forall_mem_cons.mpr ⟨Or.inr ⟨by decide, q1553, Or.inl ⟨rfl, rfl⟩⟩, List.forall_mem_cons.mpr ⟨Or.inr ⟨by decide, q1554, Or.inr (Or.inl ⟨rfl, rfl⟩)⟩, fun _ h => nomatch h⟩⟩) (fun pc kd => by show hX3_walk pc kd = _; simp only [hX3_walk, xhf]; grind)
theorem okM_X3_walk : XOkM xms rX3_walk := xokM0 (List.forall_mem_cons.mpr ⟨⟨rfl, okX3_walk_0⟩, List.forall_mem_cons.mpr ⟨⟨rfl, okX3_walk_36⟩, List.forall_mem_cons.mpr ⟨⟨rfl, okX3_walk_55⟩, List.forall_mem_cons.mpr ⟨⟨rfl, okX3_walk_62⟩, fun _ h => nomatch h⟩⟩⟩⟩) okH_X3_walk (by decide +kernel) (by decide)
abbrev cX3_walks : ByteArray := prog_19_method_3_code
def dkwX3_walks_2 : List UInt8 := [180, 0, 56, 4, 100, 181, 0, 56, 25, 5, 191]
abbrev dktX3_walks_2 : List UInt8 := dkwX3_walks_2 ++ []
def dkwX3_walks_1 : List UInt8 := [167, 0, 4, 3, 54, 4, 43, 89, 180, 0, 56, 4, 100, 181, 0, 56, 21, 4, 172, 58, 5, 43, 89]
abbrev dktX3_walks_1 : List UInt8 := dkwX3_walks_1 ++ dktX3_walks_2
def dkwX3_walks_0 : List UInt8 := [44, 180, 0, 40, 180, 0, 46, 43, 44, 184, 0, 49, 62, 29, 4, 160, 0, 10, 44, 180, 0, 53]
abbrev dktX3_walks_0 : List UInt8 := dkwX3_walks_0 ++ dktX3_walks_1
theorem dksX3_walks_0 : cX3_walks.data.toList.drop 0 = dktX3_walks_0 := by decide +kernel
theorem dksX3_walks_1 : cX3_walks.data.toList.drop 22 = dktX3_walks_1 := dk_seg dksX3_walks_0 22 rfl rfl
theorem dksX3_walks_2 : cX3_walks.data.toList.drop 45 = dktX3_walks_2 := dk_seg dksX3_walks_1 23 rfl rfl
theorem dX3_walks_0 : decode cX3_walks 0 = .ok (.aload_n 2, 1) := dk_44 (dk_at dksX3_walks_0 0 rfl rfl)
theorem dX3_walks_1 : decode cX3_walks 1 = .ok (.getfield 40, 3) := dk_180 0 40 (dk_at dksX3_walks_0 1 rfl rfl)
theorem dX3_walks_4 : decode cX3_walks 4 = .ok (.getfield 46, 3) := dk_180 0 46 (dk_at dksX3_walks_0 4 rfl rfl)
theorem dX3_walks_7 : decode cX3_walks 7 = .ok (.aload_n 1, 1) := dk_43 (dk_at dksX3_walks_0 7 rfl rfl)
theorem dX3_walks_8 : decode cX3_walks 8 = .ok (.aload_n 2, 1) := dk_44 (dk_at dksX3_walks_0 8 rfl rfl)
theorem dX3_walks_9 : decode cX3_walks 9 = .ok (.invokestatic 49, 3) := dk_184 0 49 (dk_at dksX3_walks_0 9 rfl rfl)
theorem dX3_walks_12 : decode cX3_walks 12 = .ok (.istore_n 3, 1) := dk_62 (dk_at dksX3_walks_0 12 rfl rfl)
theorem dX3_walks_13 : decode cX3_walks 13 = .ok (.iload_n 3, 1) := dk_29 (dk_at dksX3_walks_0 13 rfl rfl)
theorem dX3_walks_14 : decode cX3_walks 14 = .ok (.iconst 1, 1) := dk_4 (dk_at dksX3_walks_0 14 rfl rfl)
theorem dX3_walks_15 : decode cX3_walks 15 = .ok (.if_icmp .ne 10, 3) := dk_160 0 10 (dk_at dksX3_walks_0 15 rfl rfl)
theorem dX3_walks_18 : decode cX3_walks 18 = .ok (.aload_n 2, 1) := dk_44 (dk_at dksX3_walks_0 18 rfl rfl)
theorem dX3_walks_19 : decode cX3_walks 19 = .ok (.getfield 53, 3) := dk_180 0 53 (dk_at dksX3_walks_0 19 rfl rfl)
theorem dX3_walks_22 : decode cX3_walks 22 = .ok (.goto 4, 3) := dk_167 0 4 (dk_at dksX3_walks_1 0 rfl rfl)
theorem dX3_walks_25 : decode cX3_walks 25 = .ok (.iconst 0, 1) := dk_3 (dk_at dksX3_walks_1 3 rfl rfl)
theorem dX3_walks_26 : decode cX3_walks 26 = .ok (.istore 4, 2) := dk_54 4 (dk_at dksX3_walks_1 4 rfl rfl)
theorem dX3_walks_28 : decode cX3_walks 28 = .ok (.aload_n 1, 1) := dk_43 (dk_at dksX3_walks_1 6 rfl rfl)
theorem dX3_walks_29 : decode cX3_walks 29 = .ok (.dup, 1) := dk_89 (dk_at dksX3_walks_1 7 rfl rfl)
theorem dX3_walks_30 : decode cX3_walks 30 = .ok (.getfield 56, 3) := dk_180 0 56 (dk_at dksX3_walks_1 8 rfl rfl)
theorem dX3_walks_33 : decode cX3_walks 33 = .ok (.iconst 1, 1) := dk_4 (dk_at dksX3_walks_1 11 rfl rfl)
theorem dX3_walks_34 : decode cX3_walks 34 = .ok (.isub, 1) := dk_100 (dk_at dksX3_walks_1 12 rfl rfl)
theorem dX3_walks_35 : decode cX3_walks 35 = .ok (.putfield 56, 3) := dk_181 0 56 (dk_at dksX3_walks_1 13 rfl rfl)
theorem dX3_walks_38 : decode cX3_walks 38 = .ok (.iload 4, 2) := dk_21 4 (dk_at dksX3_walks_1 16 rfl rfl)
theorem dX3_walks_40 : decode cX3_walks 40 = .ok (.ireturn, 1) := dk_172 (dk_at dksX3_walks_1 18 rfl rfl)
theorem dX3_walks_41 : decode cX3_walks 41 = .ok (.astore 5, 2) := dk_58 5 (dk_at dksX3_walks_1 19 rfl rfl)
theorem dX3_walks_43 : decode cX3_walks 43 = .ok (.aload_n 1, 1) := dk_43 (dk_at dksX3_walks_1 21 rfl rfl)
theorem dX3_walks_44 : decode cX3_walks 44 = .ok (.dup, 1) := dk_89 (dk_at dksX3_walks_1 22 rfl rfl)
theorem dX3_walks_45 : decode cX3_walks 45 = .ok (.getfield 56, 3) := dk_180 0 56 (dk_at dksX3_walks_2 0 rfl rfl)
theorem dX3_walks_48 : decode cX3_walks 48 = .ok (.iconst 1, 1) := dk_4 (dk_at dksX3_walks_2 3 rfl rfl)
theorem dX3_walks_49 : decode cX3_walks 49 = .ok (.isub, 1) := dk_100 (dk_at dksX3_walks_2 4 rfl rfl)
theorem dX3_walks_50 : decode cX3_walks 50 = .ok (.putfield 56, 3) := dk_181 0 56 (dk_at dksX3_walks_2 5 rfl rfl)
theorem dX3_walks_53 : decode cX3_walks 53 = .ok (.aload 5, 2) := dk_25 5 (dk_at dksX3_walks_2 8 rfl rfl)
theorem dX3_walks_55 : decode cX3_walks 55 = .ok (.athrow, 1) := dk_191 (dk_at dksX3_walks_2 10 rfl rfl)
theorem okX3_walks_0 : XOkL xms rX3_walks bX3_walks_0 := xcP (xok_aload_n dX3_walks_0 rfl) rfl (xcP (xok_getfield (ref := "WaysAtlas$Frame") (Or.inr ⟨rfl, by decide⟩) dX3_walks_1 (Or.inr ⟨⟨"WaysAtlas", (List.mem_of_getElem? (i := 52) rfl)⟩, (Or.inl rfl)⟩) xh1056) rfl (xcP (xok_getfield (ref := "WaysAtlas$Method") (Or.inr ⟨rfl, by decide⟩) dX3_walks_4 (Or.inr ⟨⟨"WaysAtlas", (List.mem_of_getElem? (i := 53) rfl)⟩, (Or.inl rfl)⟩) xh1117) rfl (xcP (xok_aload_n dX3_walks_7 rfl) rfl (xcP (xok_aload_n dX3_walks_8 rfl) rfl (xcC0 (xokc_SN (host := "WaysAtlas") xm14 rfl dX3_walks_9 (List.mem_of_getElem? (i := 9) rfl) q1591 q138 q1592 (by decide +kernel)) rfl (xcP (xok_istore_n dX3_walks_12 rfl) rfl (xcP (xok_iload_n dX3_walks_13 rfl) rfl (xcP (xok_iconst dX3_walks_14 rfl) rfl (xcP (xok_icmpne dX3_walks_15 (by decide)) rfl (xcP (xok_aload_n dX3_walks_18 rfl) rfl (xcP (xok_getfield (ref := "WaysAtlas$Frame") (Or.inl ⟨rfl, by decide⟩) dX3_walks_19 (Or.inr ⟨⟨"WaysAtlas", (List.mem_of_getElem? (i := 54) rfl)⟩, (Or.inl rfl)⟩) xh34) rfl (xcP (xok_goto dX3_walks_22 (by decide)) rfl trivial))))))))))))
theorem okX3_walks_25 : XOkL xms rX3_walks bX3_walks_25 := xcP (xok_iconst dX3_walks_25 rfl) rfl (xcP xok_fal rfl trivial)
theorem okX3_walks_26 : XOkL xms rX3_walks bX3_walks_26 := xcP (xok_istore dX3_walks_26) rfl (xcP (xok_aload_n dX3_walks_28 rfl) rfl (xcP (xok_dup dX3_walks_29) rfl (xcP (xok_getfield (ref := "WaysAtlas$Run") (Or.inl ⟨rfl, by decide⟩) dX3_walks_30 (Or.inr ⟨⟨"WaysAtlas", (List.mem_of_getElem? (i := 55) rfl)⟩, (Or.inl rfl)⟩) xh17) rfl (xcP (xok_iconst dX3_walks_33 rfl) rfl (xcP (xok_isub dX3_walks_34) rfl (xcP (xok_putfield (ref := "WaysAtlas$Run") (Or.inl ⟨rfl, by decide, rfl⟩) dX3_walks_35 (Or.inr ⟨⟨"WaysAtlas", (List.mem_of_getElem? (i := 55) rfl)⟩, (Or.inl rfl)⟩) (Or.inl rfl) xh17) rfl (xcP (xok_iload dX3_walks_38) rfl (xcR ⟨dX3_walks_40, rfl⟩))))))))
theorem okX3_walks_41 : XOkL xms rX3_walks bX3_walks_41 := xcP (xok_astore dX3_walks_41) rfl (xcP (xok_aload_n dX3_walks_43 rfl) rfl (xcP (xok_dup dX3_walks_44) rfl (xcP (xok_getfield (ref := "WaysAtlas$Run") (Or.inl ⟨rfl, by decide⟩) dX3_walks_45 (Or.inr ⟨⟨"WaysAtlas", (List.mem_of_getElem? (i := 55) rfl)⟩, (Or.inl rfl)⟩) xh17) rfl (xcP (xok_iconst dX3_walks_48 rfl) rfl (xcP (xok_isub dX3_walks_49) rfl (xcP (xok_putfield (ref := "WaysAtlas$Run") (Or.inl ⟨rfl, by decide, rfl⟩) dX3_walks_50 (Or.inr ⟨⟨"WaysAtlas", (List.mem_of_getElem? (i := 55) rfl)⟩, (Or.inl rfl)⟩) (Or.inl rfl) xh17) rfl (xcP (xok_aload dX3_walks_53) rfl (xcT dX3_walks_55))))))))
theorem okH_X3_walks : XOkH rX3_walks := xhand (hs := [((0, 28, 41, 0), 0, ""), ((41, 43, 41, 0), 0, "")]) rfl (List.forall_mem_cons.mpr ⟨Or.inl ⟨rfl, rfl⟩, List.forall_mem_cons.mpr ⟨Or.inl ⟨rfl, rfl⟩, fun _ h => nomatch h⟩⟩) (fun pc kd => by show hX3_walks pc kd = _; simp only [hX3_walks, xhf]; grind)
theorem okM_X3_walks : XOkM xms rX3_walks := xokM0 (List.forall_mem_cons.mpr ⟨⟨rfl, okX3_walks_0⟩, List.forall_mem_cons.mpr ⟨⟨rfl, okX3_walks_25⟩, List.forall_mem_cons.mpr ⟨⟨rfl, okX3_walks_26⟩, List.forall_mem_cons.mpr ⟨⟨rfl, okX3_walks_41⟩, fun _ h => nomatch h⟩⟩⟩⟩) okH_X3_walks (by decide +kernel) (by decide)
abbrev cX3_isUnder : ByteArray := prog_19_method_2_code
def dkwX3_isUnder_1 : List UInt8 := [28, 160, 0, 7, 4, 167, 0, 4, 3, 172]
abbrev dktX3_isUnder_1 : List UInt8 := dkwX3_isUnder_1 ++ []
def dkwX3_isUnder_0 : List UInt8 := [27, 62, 29, 16, 247, 159, 0, 18, 29, 28, 159, 0, 13, 42, 180, 0, 17, 29, 46, 62, 167, 255, 238, 29]
abbrev dktX3_isUnder_0 : List UInt8 := dkwX3_isUnder_0 ++ dktX3_isUnder_1
theorem dksX3_isUnder_0 : cX3_isUnder.data.toList.drop 0 = dktX3_isUnder_0 := by decide +kernel
theorem dksX3_isUnder_1 : cX3_isUnder.data.toList.drop 24 = dktX3_isUnder_1 := dk_seg dksX3_isUnder_0 24 rfl rfl
theorem dX3_isUnder_0 : decode cX3_isUnder 0 = .ok (.iload_n 1, 1) := dk_27 (dk_at dksX3_isUnder_0 0 rfl rfl)
theorem dX3_isUnder_1 : decode cX3_isUnder 1 = .ok (.istore_n 3, 1) := dk_62 (dk_at dksX3_isUnder_0 1 rfl rfl)
theorem dX3_isUnder_2 : decode cX3_isUnder 2 = .ok (.iload_n 3, 1) := dk_29 (dk_at dksX3_isUnder_0 2 rfl rfl)
theorem dX3_isUnder_3 : decode cX3_isUnder 3 = .ok (.bipush (-9), 2) := dk_16 247 (dk_at dksX3_isUnder_0 3 rfl rfl)
theorem dX3_isUnder_5 : decode cX3_isUnder 5 = .ok (.if_icmp .eq 18, 3) := dk_159 0 18 (dk_at dksX3_isUnder_0 5 rfl rfl)
theorem dX3_isUnder_8 : decode cX3_isUnder 8 = .ok (.iload_n 3, 1) := dk_29 (dk_at dksX3_isUnder_0 8 rfl rfl)
theorem dX3_isUnder_9 : decode cX3_isUnder 9 = .ok (.iload_n 2, 1) := dk_28 (dk_at dksX3_isUnder_0 9 rfl rfl)
theorem dX3_isUnder_10 : decode cX3_isUnder 10 = .ok (.if_icmp .eq 13, 3) := dk_159 0 13 (dk_at dksX3_isUnder_0 10 rfl rfl)
theorem dX3_isUnder_13 : decode cX3_isUnder 13 = .ok (.aload_n 0, 1) := dk_42 (dk_at dksX3_isUnder_0 13 rfl rfl)
theorem dX3_isUnder_14 : decode cX3_isUnder 14 = .ok (.getfield 17, 3) := dk_180 0 17 (dk_at dksX3_isUnder_0 14 rfl rfl)
theorem dX3_isUnder_17 : decode cX3_isUnder 17 = .ok (.iload_n 3, 1) := dk_29 (dk_at dksX3_isUnder_0 17 rfl rfl)
theorem dX3_isUnder_18 : decode cX3_isUnder 18 = .ok (.iaload, 1) := dk_46 (dk_at dksX3_isUnder_0 18 rfl rfl)
theorem dX3_isUnder_19 : decode cX3_isUnder 19 = .ok (.istore_n 3, 1) := dk_62 (dk_at dksX3_isUnder_0 19 rfl rfl)
theorem dX3_isUnder_20 : decode cX3_isUnder 20 = .ok (.goto (-18), 3) := dk_167 255 238 (dk_at dksX3_isUnder_0 20 rfl rfl)
theorem dX3_isUnder_23 : decode cX3_isUnder 23 = .ok (.iload_n 3, 1) := dk_29 (dk_at dksX3_isUnder_0 23 rfl rfl)
theorem dX3_isUnder_24 : decode cX3_isUnder 24 = .ok (.iload_n 2, 1) := dk_28 (dk_at dksX3_isUnder_1 0 rfl rfl)
theorem dX3_isUnder_25 : decode cX3_isUnder 25 = .ok (.if_icmp .ne 7, 3) := dk_160 0 7 (dk_at dksX3_isUnder_1 1 rfl rfl)
theorem dX3_isUnder_28 : decode cX3_isUnder 28 = .ok (.iconst 1, 1) := dk_4 (dk_at dksX3_isUnder_1 4 rfl rfl)
theorem dX3_isUnder_29 : decode cX3_isUnder 29 = .ok (.goto 4, 3) := dk_167 0 4 (dk_at dksX3_isUnder_1 5 rfl rfl)
theorem dX3_isUnder_32 : decode cX3_isUnder 32 = .ok (.iconst 0, 1) := dk_3 (dk_at dksX3_isUnder_1 8 rfl rfl)
theorem dX3_isUnder_33 : decode cX3_isUnder 33 = .ok (.ireturn, 1) := dk_172 (dk_at dksX3_isUnder_1 9 rfl rfl)
theorem okX3_isUnder_0 : XOkL xms rX3_isUnder bX3_isUnder_0 := xcP (xok_iload_n dX3_isUnder_0 rfl) rfl (xcP (xok_istore_n dX3_isUnder_1 rfl) rfl (xcP xok_fal rfl trivial))
theorem okX3_isUnder_2 : XOkL xms rX3_isUnder bX3_isUnder_2 := xcP (xok_iload_n dX3_isUnder_2 rfl) rfl (xcP (xok_bipush dX3_isUnder_3 rfl) rfl (xcP (xok_icmpeq dX3_isUnder_5 (by decide)) rfl (xcP (xok_iload_n dX3_isUnder_8 rfl) rfl (xcP (xok_iload_n dX3_isUnder_9 rfl) rfl (xcP (xok_icmpeq dX3_isUnder_10 (by decide)) rfl (xcP (xok_aload_n dX3_isUnder_13 rfl) rfl (xcP (xok_getfield (ref := "WaysAtlas$Program") (Or.inr ⟨rfl, by decide⟩) dX3_isUnder_14 (Or.inl ⟨q288, (Or.inl rfl)⟩) xh1021) rfl (xcP (xok_iload_n dX3_isUnder_17 rfl) rfl (xcP (xok_iaload dX3_isUnder_18) rfl (xcP (xok_istore_n dX3_isUnder_19 rfl) rfl (xcP (xok_goto dX3_isUnder_20 (by decide)) rfl trivial)))))))))))
theorem okX3_isUnder_23 : XOkL xms rX3_isUnder bX3_isUnder_23 := xcP (xok_iload_n dX3_isUnder_23 rfl) rfl (xcP (xok_iload_n dX3_isUnder_24 rfl) rfl (xcP (xok_icmpne dX3_isUnder_25 (by decide)) rfl (xcP (xok_iconst dX3_isUnder_28 rfl) rfl (xcP (xok_goto dX3_isUnder_29 (by decide)) rfl trivial))))
theorem okX3_isUnder_32 : XOkL xms rX3_isUnder bX3_isUnder_32 := xcP (xok_iconst dX3_isUnder_32 rfl) rfl (xcP xok_fal rfl trivial)
theorem okX3_isUnder_33 : XOkL xms rX3_isUnder bX3_isUnder_33 := xcR ⟨dX3_isUnder_33, rfl⟩
theorem okM_X3_isUnder : XOkM xms rX3_isUnder := xokM0 (List.forall_mem_cons.mpr ⟨⟨rfl, okX3_isUnder_0⟩, List.forall_mem_cons.mpr ⟨⟨rfl, okX3_isUnder_2⟩, List.forall_mem_cons.mpr ⟨⟨rfl, okX3_isUnder_23⟩, List.forall_mem_cons.mpr ⟨⟨rfl, okX3_isUnder_32⟩, List.forall_mem_cons.mpr ⟨⟨rfl, okX3_isUnder_33⟩, fun _ h => nomatch h⟩⟩⟩⟩⟩) (xokH0 rfl (fun _ _ => rfl)) (by decide +kernel) (by decide)
abbrev cX3_run : ByteArray := prog_19_method_5_code
def dkwX3_run_3 : List UInt8 := [167, 0, 10, 58, 6, 43, 5, 181, 0, 75, 177]
abbrev dktX3_run_3 : List UInt8 := dkwX3_run_3 ++ []
def dkwX3_run_2 : List UInt8 := [167, 255, 238, 167, 0, 29, 58, 6, 43, 4, 181, 0, 75, 43, 25, 6, 180, 0, 80, 181, 0, 83]
abbrev dktX3_run_2 : List UInt8 := dkwX3_run_2 ++ dktX3_run_3
def dkwX3_run_1 : List UInt8 := [182, 0, 65, 58, 6, 43, 180, 0, 75, 16, 247, 160, 0, 15, 42, 43, 43, 182, 0, 86, 182, 0, 90]
abbrev dktX3_run_1 : List UInt8 := dkwX3_run_1 ++ dktX3_run_2
def dkwX3_run_0 : List UInt8 := [43, 21, 5, 182, 0, 61, 43, 16, 247, 181, 0, 75, 43, 42, 180, 0, 11, 28, 50, 29, 21, 4]
abbrev dktX3_run_0 : List UInt8 := dkwX3_run_0 ++ dktX3_run_1
theorem dksX3_run_0 : cX3_run.data.toList.drop 0 = dktX3_run_0 := by decide +kernel
theorem dksX3_run_1 : cX3_run.data.toList.drop 22 = dktX3_run_1 := dk_seg dksX3_run_0 22 rfl rfl
theorem dksX3_run_2 : cX3_run.data.toList.drop 45 = dktX3_run_2 := dk_seg dksX3_run_1 23 rfl rfl
theorem dksX3_run_3 : cX3_run.data.toList.drop 67 = dktX3_run_3 := dk_seg dksX3_run_2 22 rfl rfl
theorem dX3_run_0 : decode cX3_run 0 = .ok (.aload_n 1, 1) := dk_43 (dk_at dksX3_run_0 0 rfl rfl)
theorem dX3_run_1 : decode cX3_run 1 = .ok (.iload 5, 2) := dk_21 5 (dk_at dksX3_run_0 1 rfl rfl)
theorem dX3_run_3 : decode cX3_run 3 = .ok (.invokevirtual 61, 3) := dk_182 0 61 (dk_at dksX3_run_0 3 rfl rfl)
theorem dX3_run_6 : decode cX3_run 6 = .ok (.aload_n 1, 1) := dk_43 (dk_at dksX3_run_0 6 rfl rfl)
theorem dX3_run_7 : decode cX3_run 7 = .ok (.bipush (-9), 2) := dk_16 247 (dk_at dksX3_run_0 7 rfl rfl)
theorem dX3_run_9 : decode cX3_run 9 = .ok (.putfield 75, 3) := dk_181 0 75 (dk_at dksX3_run_0 9 rfl rfl)
theorem dX3_run_12 : decode cX3_run 12 = .ok (.aload_n 1, 1) := dk_43 (dk_at dksX3_run_0 12 rfl rfl)
theorem dX3_run_13 : decode cX3_run 13 = .ok (.aload_n 0, 1) := dk_42 (dk_at dksX3_run_0 13 rfl rfl)
theorem dX3_run_14 : decode cX3_run 14 = .ok (.getfield 11, 3) := dk_180 0 11 (dk_at dksX3_run_0 14 rfl rfl)
theorem dX3_run_17 : decode cX3_run 17 = .ok (.iload_n 2, 1) := dk_28 (dk_at dksX3_run_0 17 rfl rfl)
theorem dX3_run_18 : decode cX3_run 18 = .ok (.aaload, 1) := dk_50 (dk_at dksX3_run_0 18 rfl rfl)
theorem dX3_run_19 : decode cX3_run 19 = .ok (.iload_n 3, 1) := dk_29 (dk_at dksX3_run_0 19 rfl rfl)
theorem dX3_run_20 : decode cX3_run 20 = .ok (.iload 4, 2) := dk_21 4 (dk_at dksX3_run_0 20 rfl rfl)
theorem dX3_run_22 : decode cX3_run 22 = .ok (.invokevirtual 65, 3) := dk_182 0 65 (dk_at dksX3_run_1 0 rfl rfl)
theorem dX3_run_25 : decode cX3_run 25 = .ok (.astore 6, 2) := dk_58 6 (dk_at dksX3_run_1 3 rfl rfl)
theorem dX3_run_27 : decode cX3_run 27 = .ok (.aload_n 1, 1) := dk_43 (dk_at dksX3_run_1 5 rfl rfl)
theorem dX3_run_28 : decode cX3_run 28 = .ok (.getfield 75, 3) := dk_180 0 75 (dk_at dksX3_run_1 6 rfl rfl)
theorem dX3_run_31 : decode cX3_run 31 = .ok (.bipush (-9), 2) := dk_16 247 (dk_at dksX3_run_1 9 rfl rfl)
theorem dX3_run_33 : decode cX3_run 33 = .ok (.if_icmp .ne 15, 3) := dk_160 0 15 (dk_at dksX3_run_1 11 rfl rfl)
theorem dX3_run_36 : decode cX3_run 36 = .ok (.aload_n 0, 1) := dk_42 (dk_at dksX3_run_1 14 rfl rfl)
theorem dX3_run_37 : decode cX3_run 37 = .ok (.aload_n 1, 1) := dk_43 (dk_at dksX3_run_1 15 rfl rfl)
theorem dX3_run_38 : decode cX3_run 38 = .ok (.aload_n 1, 1) := dk_43 (dk_at dksX3_run_1 16 rfl rfl)
theorem dX3_run_39 : decode cX3_run 39 = .ok (.invokevirtual 86, 3) := dk_182 0 86 (dk_at dksX3_run_1 17 rfl rfl)
theorem dX3_run_42 : decode cX3_run 42 = .ok (.invokevirtual 90, 3) := dk_182 0 90 (dk_at dksX3_run_1 20 rfl rfl)
theorem dX3_run_45 : decode cX3_run 45 = .ok (.goto (-18), 3) := dk_167 255 238 (dk_at dksX3_run_2 0 rfl rfl)
theorem dX3_run_48 : decode cX3_run 48 = .ok (.goto 29, 3) := dk_167 0 29 (dk_at dksX3_run_2 3 rfl rfl)
theorem dX3_run_51 : decode cX3_run 51 = .ok (.astore 6, 2) := dk_58 6 (dk_at dksX3_run_2 6 rfl rfl)
theorem dX3_run_53 : decode cX3_run 53 = .ok (.aload_n 1, 1) := dk_43 (dk_at dksX3_run_2 8 rfl rfl)
theorem dX3_run_54 : decode cX3_run 54 = .ok (.iconst 1, 1) := dk_4 (dk_at dksX3_run_2 9 rfl rfl)
theorem dX3_run_55 : decode cX3_run 55 = .ok (.putfield 75, 3) := dk_181 0 75 (dk_at dksX3_run_2 10 rfl rfl)
theorem dX3_run_58 : decode cX3_run 58 = .ok (.aload_n 1, 1) := dk_43 (dk_at dksX3_run_2 13 rfl rfl)
theorem dX3_run_59 : decode cX3_run 59 = .ok (.aload 6, 2) := dk_25 6 (dk_at dksX3_run_2 14 rfl rfl)
theorem dX3_run_61 : decode cX3_run 61 = .ok (.getfield 80, 3) := dk_180 0 80 (dk_at dksX3_run_2 16 rfl rfl)
theorem dX3_run_64 : decode cX3_run 64 = .ok (.putfield 83, 3) := dk_181 0 83 (dk_at dksX3_run_2 19 rfl rfl)
theorem dX3_run_67 : decode cX3_run 67 = .ok (.goto 10, 3) := dk_167 0 10 (dk_at dksX3_run_3 0 rfl rfl)
theorem dX3_run_70 : decode cX3_run 70 = .ok (.astore 6, 2) := dk_58 6 (dk_at dksX3_run_3 3 rfl rfl)
theorem dX3_run_72 : decode cX3_run 72 = .ok (.aload_n 1, 1) := dk_43 (dk_at dksX3_run_3 5 rfl rfl)
theorem dX3_run_73 : decode cX3_run 73 = .ok (.iconst 2, 1) := dk_5 (dk_at dksX3_run_3 6 rfl rfl)
theorem dX3_run_74 : decode cX3_run 74 = .ok (.putfield 75, 3) := dk_181 0 75 (dk_at dksX3_run_3 7 rfl rfl)
theorem dX3_run_77 : decode cX3_run 77 = .ok (.return_, 1) := dk_177 (dk_at dksX3_run_3 10 rfl rfl)
theorem okX3_run_0 : XOkL xms rX3_run bX3_run_0 := xcP (xok_aload_n dX3_run_0 rfl) rfl (xcP (xok_iload dX3_run_1) rfl (xcC0 (xokc_list (List.forall_mem_cons.mpr ⟨xokc_V (r := (RX5, TX5, 34)) xm80 (List.mem_of_getElem? (i := 5) rfl) (by decide) rfl dX3_run_3 q1555 q1556 q1557 q143 q1558 (by decide +kernel), fun _ h => nomatch h⟩)) rfl (xcP (xok_aload_n dX3_run_6 rfl) rfl (xcP (xok_bipush dX3_run_7 rfl) rfl (xcP (xok_putfield (ref := "WaysAtlas$Run") (Or.inl ⟨rfl, by decide, rfl⟩) dX3_run_9 (Or.inr ⟨⟨"WaysAtlas", (List.mem_of_getElem? (i := 57) rfl)⟩, (Or.inl rfl)⟩) (Or.inl rfl) xh28) rfl (xcP (xok_aload_n dX3_run_12 rfl) rfl (xcP (xok_aload_n dX3_run_13 rfl) rfl (xcP (xok_getfield (ref := "WaysAtlas$Program") (Or.inr ⟨rfl, by decide⟩) dX3_run_14 (Or.inl ⟨q282, (Or.inl rfl)⟩) xh1020) rfl (xcP (xok_iload_n dX3_run_17 rfl) rfl (xcP (xok_aaload (by decide) rfl dX3_run_18) rfl (xcP (xok_iload_n dX3_run_19 rfl) rfl (xcP (xok_iload dX3_run_20) rfl (xcC0 (xokc_list (List.forall_mem_cons.mpr ⟨xokc_V (r := (RX5, TX5, 34)) xm81 (List.mem_of_getElem? (i := 5) rfl) (by decide) rfl dX3_run_22 q1559 q1560 q1561 q143 q1562 (by decide +kernel), fun _ h => nomatch h⟩)) rfl (xcP (xok_astore dX3_run_25) rfl (xcP xok_fal rfl trivial)))))))))))))))
theorem okX3_run_27 : XOkL xms rX3_run bX3_run_27 := xcP (xok_aload_n dX3_run_27 rfl) rfl (xcP (xok_getfield (ref := "WaysAtlas$Run") (Or.inl ⟨rfl, by decide⟩) dX3_run_28 (Or.inr ⟨⟨"WaysAtlas", (List.mem_of_getElem? (i := 57) rfl)⟩, (Or.inl rfl)⟩) xh28) rfl (xcP (xok_bipush dX3_run_31 rfl) rfl (xcP (xok_icmpne dX3_run_33 (by decide)) rfl (xcP (xok_aload_n dX3_run_36 rfl) rfl (xcP (xok_aload_n dX3_run_37 rfl) rfl (xcP (xok_aload_n dX3_run_38 rfl) rfl (xcC0 (xokc_list (List.forall_mem_cons.mpr ⟨xokc_V (r := (RX5, TX5, 34)) xm84 (List.mem_of_getElem? (i := 5) rfl) (by decide) rfl dX3_run_39 q1783 q1572 q1573 q143 q1574 (by decide +kernel), fun _ h => nomatch h⟩)) rfl (xcC0 (xokc_list (List.forall_mem_cons.mpr ⟨xokc_VX (r := (RX3, TX3, 10)) xm72 (List.mem_of_getElem? (i := 3) rfl) (by decide) (by decide) dX3_run_42 q1784 q1786 qs46 q141 q1787 (by decide +kernel), fun _ h => nomatch h⟩)) rfl (xcP (xok_goto dX3_run_45 (by decide)) rfl trivial)))))))))
theorem okX3_run_48 : XOkL xms rX3_run bX3_run_48 := xcP (xok_goto dX3_run_48 (by decide)) rfl trivial
theorem okX3_run_51 : XOkL xms rX3_run bX3_run_51 := xcP (xok_astore dX3_run_51) rfl (xcP (xok_aload_n dX3_run_53 rfl) rfl (xcP (xok_iconst dX3_run_54 rfl) rfl (xcP (xok_putfield (ref := "WaysAtlas$Run") (Or.inl ⟨rfl, by decide, rfl⟩) dX3_run_55 (Or.inr ⟨⟨"WaysAtlas", (List.mem_of_getElem? (i := 57) rfl)⟩, (Or.inl rfl)⟩) (Or.inl rfl) xh28) rfl (xcP (xok_aload_n dX3_run_58 rfl) rfl (xcP (xok_aload dX3_run_59) rfl (xcP (xok_getfield (ref := "WaysAtlas$Thrown") (Or.inl ⟨rfl, by decide⟩) dX3_run_61 (Or.inr ⟨⟨"WaysAtlas", (List.mem_of_getElem? (i := 58) rfl)⟩, (Or.inl rfl)⟩) xh33) rfl (xcP (xok_putfield (ref := "WaysAtlas$Run") (Or.inl ⟨rfl, by decide, rfl⟩) dX3_run_64 (Or.inr ⟨⟨"WaysAtlas", (List.mem_of_getElem? (i := 59) rfl)⟩, (Or.inl rfl)⟩) (Or.inl rfl) xh30) rfl (xcP (xok_goto dX3_run_67 (by decide)) rfl trivial))))))))
theorem okX3_run_70 : XOkL xms rX3_run bX3_run_70 := xcP (xok_astore dX3_run_70) rfl (xcP (xok_aload_n dX3_run_72 rfl) rfl (xcP (xok_iconst dX3_run_73 rfl) rfl (xcP (xok_putfield (ref := "WaysAtlas$Run") (Or.inl ⟨rfl, by decide, rfl⟩) dX3_run_74 (Or.inr ⟨⟨"WaysAtlas", (List.mem_of_getElem? (i := 57) rfl)⟩, (Or.inl rfl)⟩) (Or.inl rfl) xh28) rfl (xcP xok_fal rfl trivial))))
theorem okX3_run_77 : XOkL xms rX3_run bX3_run_77 := xcR ⟨dX3_run_77, rfl⟩
theorem okH_X3_run : XOkH rX3_run := xhand (hs := [((12, 48, 51, 78), 7, "WaysAtlas$Thrown"), ((12, 48, 70, 84), 8, "WaysAtlas$Spent")]) rfl (List.forall_mem_cons.mpr ⟨Or.inr ⟨by decide, q1553, Or.inl ⟨rfl, rfl⟩⟩, List.forall_mem_cons.mpr ⟨Or.inr ⟨by decide, q1554, Or.inr (Or.inl ⟨rfl, rfl⟩)⟩, fun _ h => nomatch h⟩⟩) (fun pc kd => by show hX3_run pc kd = _; simp only [hX3_run, xhf]; grind)
theorem okM_X3_run : XOkM xms rX3_run := xokM0 (List.forall_mem_cons.mpr ⟨⟨rfl, okX3_run_0⟩, List.forall_mem_cons.mpr ⟨⟨rfl, okX3_run_27⟩, List.forall_mem_cons.mpr ⟨⟨rfl, okX3_run_48⟩, List.forall_mem_cons.mpr ⟨⟨rfl, okX3_run_51⟩, List.forall_mem_cons.mpr ⟨⟨rfl, okX3_run_70⟩, List.forall_mem_cons.mpr ⟨⟨rfl, okX3_run_77⟩, fun _ h => nomatch h⟩⟩⟩⟩⟩⟩) okH_X3_run (by decide +kernel) (by decide)
abbrev cX3_goes : ByteArray := prog_19_method_6_code
def dkwX3_goes_2 : List UInt8 := [5, 96, 46, 182, 0, 106, 167, 0, 12, 58, 4, 42, 43, 25, 4, 182, 0, 110, 177]
abbrev dktX3_goes_2 : List UInt8 := dkwX3_goes_2 ++ []
def dkwX3_goes_1 : List UInt8 := [180, 0, 101, 29, 46, 42, 180, 0, 97, 180, 0, 101, 29, 4, 96, 46, 42, 180, 0, 97, 180, 0, 101, 29]
abbrev dktX3_goes_1 : List UInt8 := dkwX3_goes_1 ++ dktX3_goes_2
def dkwX3_goes_0 : List UInt8 := [6, 44, 180, 0, 94, 104, 62, 44, 89, 180, 0, 94, 4, 96, 181, 0, 94, 42, 43, 44, 42, 180, 0, 97]
abbrev dktX3_goes_0 : List UInt8 := dkwX3_goes_0 ++ dktX3_goes_1
theorem dksX3_goes_0 : cX3_goes.data.toList.drop 0 = dktX3_goes_0 := by decide +kernel
theorem dksX3_goes_1 : cX3_goes.data.toList.drop 24 = dktX3_goes_1 := dk_seg dksX3_goes_0 24 rfl rfl
theorem dksX3_goes_2 : cX3_goes.data.toList.drop 48 = dktX3_goes_2 := dk_seg dksX3_goes_1 24 rfl rfl
theorem dX3_goes_0 : decode cX3_goes 0 = .ok (.iconst 3, 1) := dk_6 (dk_at dksX3_goes_0 0 rfl rfl)
theorem dX3_goes_1 : decode cX3_goes 1 = .ok (.aload_n 2, 1) := dk_44 (dk_at dksX3_goes_0 1 rfl rfl)
theorem dX3_goes_2 : decode cX3_goes 2 = .ok (.getfield 94, 3) := dk_180 0 94 (dk_at dksX3_goes_0 2 rfl rfl)
theorem dX3_goes_5 : decode cX3_goes 5 = .ok (.imul, 1) := dk_104 (dk_at dksX3_goes_0 5 rfl rfl)
theorem dX3_goes_6 : decode cX3_goes 6 = .ok (.istore_n 3, 1) := dk_62 (dk_at dksX3_goes_0 6 rfl rfl)
theorem dX3_goes_7 : decode cX3_goes 7 = .ok (.aload_n 2, 1) := dk_44 (dk_at dksX3_goes_0 7 rfl rfl)
theorem dX3_goes_8 : decode cX3_goes 8 = .ok (.dup, 1) := dk_89 (dk_at dksX3_goes_0 8 rfl rfl)
theorem dX3_goes_9 : decode cX3_goes 9 = .ok (.getfield 94, 3) := dk_180 0 94 (dk_at dksX3_goes_0 9 rfl rfl)
theorem dX3_goes_12 : decode cX3_goes 12 = .ok (.iconst 1, 1) := dk_4 (dk_at dksX3_goes_0 12 rfl rfl)
theorem dX3_goes_13 : decode cX3_goes 13 = .ok (.iadd, 1) := dk_96 (dk_at dksX3_goes_0 13 rfl rfl)
theorem dX3_goes_14 : decode cX3_goes 14 = .ok (.putfield 94, 3) := dk_181 0 94 (dk_at dksX3_goes_0 14 rfl rfl)
theorem dX3_goes_17 : decode cX3_goes 17 = .ok (.aload_n 0, 1) := dk_42 (dk_at dksX3_goes_0 17 rfl rfl)
theorem dX3_goes_18 : decode cX3_goes 18 = .ok (.aload_n 1, 1) := dk_43 (dk_at dksX3_goes_0 18 rfl rfl)
theorem dX3_goes_19 : decode cX3_goes 19 = .ok (.aload_n 2, 1) := dk_44 (dk_at dksX3_goes_0 19 rfl rfl)
theorem dX3_goes_20 : decode cX3_goes 20 = .ok (.aload_n 0, 1) := dk_42 (dk_at dksX3_goes_0 20 rfl rfl)
theorem dX3_goes_21 : decode cX3_goes 21 = .ok (.getfield 97, 3) := dk_180 0 97 (dk_at dksX3_goes_0 21 rfl rfl)
theorem dX3_goes_24 : decode cX3_goes 24 = .ok (.getfield 101, 3) := dk_180 0 101 (dk_at dksX3_goes_1 0 rfl rfl)
theorem dX3_goes_27 : decode cX3_goes 27 = .ok (.iload_n 3, 1) := dk_29 (dk_at dksX3_goes_1 3 rfl rfl)
theorem dX3_goes_28 : decode cX3_goes 28 = .ok (.iaload, 1) := dk_46 (dk_at dksX3_goes_1 4 rfl rfl)
theorem dX3_goes_29 : decode cX3_goes 29 = .ok (.aload_n 0, 1) := dk_42 (dk_at dksX3_goes_1 5 rfl rfl)
theorem dX3_goes_30 : decode cX3_goes 30 = .ok (.getfield 97, 3) := dk_180 0 97 (dk_at dksX3_goes_1 6 rfl rfl)
theorem dX3_goes_33 : decode cX3_goes 33 = .ok (.getfield 101, 3) := dk_180 0 101 (dk_at dksX3_goes_1 9 rfl rfl)
theorem dX3_goes_36 : decode cX3_goes 36 = .ok (.iload_n 3, 1) := dk_29 (dk_at dksX3_goes_1 12 rfl rfl)
theorem dX3_goes_37 : decode cX3_goes 37 = .ok (.iconst 1, 1) := dk_4 (dk_at dksX3_goes_1 13 rfl rfl)
theorem dX3_goes_38 : decode cX3_goes 38 = .ok (.iadd, 1) := dk_96 (dk_at dksX3_goes_1 14 rfl rfl)
theorem dX3_goes_39 : decode cX3_goes 39 = .ok (.iaload, 1) := dk_46 (dk_at dksX3_goes_1 15 rfl rfl)
theorem dX3_goes_40 : decode cX3_goes 40 = .ok (.aload_n 0, 1) := dk_42 (dk_at dksX3_goes_1 16 rfl rfl)
theorem dX3_goes_41 : decode cX3_goes 41 = .ok (.getfield 97, 3) := dk_180 0 97 (dk_at dksX3_goes_1 17 rfl rfl)
theorem dX3_goes_44 : decode cX3_goes 44 = .ok (.getfield 101, 3) := dk_180 0 101 (dk_at dksX3_goes_1 20 rfl rfl)
theorem dX3_goes_47 : decode cX3_goes 47 = .ok (.iload_n 3, 1) := dk_29 (dk_at dksX3_goes_1 23 rfl rfl)
theorem dX3_goes_48 : decode cX3_goes 48 = .ok (.iconst 2, 1) := dk_5 (dk_at dksX3_goes_2 0 rfl rfl)
theorem dX3_goes_49 : decode cX3_goes 49 = .ok (.iadd, 1) := dk_96 (dk_at dksX3_goes_2 1 rfl rfl)
theorem dX3_goes_50 : decode cX3_goes 50 = .ok (.iaload, 1) := dk_46 (dk_at dksX3_goes_2 2 rfl rfl)
theorem dX3_goes_51 : decode cX3_goes 51 = .ok (.invokevirtual 106, 3) := dk_182 0 106 (dk_at dksX3_goes_2 3 rfl rfl)
theorem dX3_goes_54 : decode cX3_goes 54 = .ok (.goto 12, 3) := dk_167 0 12 (dk_at dksX3_goes_2 6 rfl rfl)
theorem dX3_goes_57 : decode cX3_goes 57 = .ok (.astore 4, 2) := dk_58 4 (dk_at dksX3_goes_2 9 rfl rfl)
theorem dX3_goes_59 : decode cX3_goes 59 = .ok (.aload_n 0, 1) := dk_42 (dk_at dksX3_goes_2 11 rfl rfl)
theorem dX3_goes_60 : decode cX3_goes 60 = .ok (.aload_n 1, 1) := dk_43 (dk_at dksX3_goes_2 12 rfl rfl)
theorem dX3_goes_61 : decode cX3_goes 61 = .ok (.aload 4, 2) := dk_25 4 (dk_at dksX3_goes_2 13 rfl rfl)
theorem dX3_goes_63 : decode cX3_goes 63 = .ok (.invokevirtual 110, 3) := dk_182 0 110 (dk_at dksX3_goes_2 15 rfl rfl)
theorem dX3_goes_66 : decode cX3_goes 66 = .ok (.return_, 1) := dk_177 (dk_at dksX3_goes_2 18 rfl rfl)
theorem okX3_goes_0 : XOkL xms rX3_goes bX3_goes_0 := xcP (xok_iconst dX3_goes_0 rfl) rfl (xcP (xok_aload_n dX3_goes_1 rfl) rfl (xcP (xok_getfield (ref := "WaysAtlas$Frame") (Or.inl ⟨rfl, by decide⟩) dX3_goes_2 (Or.inr ⟨⟨"WaysAtlas", (List.mem_of_getElem? (i := 60) rfl)⟩, (Or.inl rfl)⟩) xh36) rfl (xcP (xok_imul dX3_goes_5) rfl (xcP (xok_istore_n dX3_goes_6 rfl) rfl (xcP (xok_aload_n dX3_goes_7 rfl) rfl (xcP (xok_dup dX3_goes_8) rfl (xcP (xok_getfield (ref := "WaysAtlas$Frame") (Or.inl ⟨rfl, by decide⟩) dX3_goes_9 (Or.inr ⟨⟨"WaysAtlas", (List.mem_of_getElem? (i := 60) rfl)⟩, (Or.inl rfl)⟩) xh36) rfl (xcP (xok_iconst dX3_goes_12 rfl) rfl (xcP (xok_iadd dX3_goes_13) rfl (xcP (xok_putfield (ref := "WaysAtlas$Frame") (Or.inl ⟨rfl, by decide, rfl⟩) dX3_goes_14 (Or.inr ⟨⟨"WaysAtlas", (List.mem_of_getElem? (i := 60) rfl)⟩, (Or.inl rfl)⟩) (Or.inl rfl) xh36) rfl (xcP (xok_aload_n dX3_goes_17 rfl) rfl (xcP (xok_aload_n dX3_goes_18 rfl) rfl (xcP (xok_aload_n dX3_goes_19 rfl) rfl (xcP (xok_aload_n dX3_goes_20 rfl) rfl (xcP (xok_getfield (ref := "WaysAtlas$Program") (Or.inr ⟨rfl, by decide⟩) dX3_goes_21 (Or.inl ⟨q306, (Or.inl rfl)⟩) xh1025) rfl (xcP (xok_getfield (ref := "WaysAtlas$Lower") (Or.inr ⟨rfl, by decide⟩) dX3_goes_24 (Or.inr ⟨⟨"WaysAtlas", (List.mem_of_getElem? (i := 39) rfl)⟩, (Or.inl rfl)⟩) xh1143) rfl (xcP (xok_iload_n dX3_goes_27 rfl) rfl (xcP (xok_iaload dX3_goes_28) rfl (xcP (xok_aload_n dX3_goes_29 rfl) rfl (xcP (xok_getfield (ref := "WaysAtlas$Program") (Or.inr ⟨rfl, by decide⟩) dX3_goes_30 (Or.inl ⟨q306, (Or.inl rfl)⟩) xh1025) rfl (xcP (xok_getfield (ref := "WaysAtlas$Lower") (Or.inr ⟨rfl, by decide⟩) dX3_goes_33 (Or.inr ⟨⟨"WaysAtlas", (List.mem_of_getElem? (i := 39) rfl)⟩, (Or.inl rfl)⟩) xh1143) rfl (xcP (xok_iload_n dX3_goes_36 rfl) rfl (xcP (xok_iconst dX3_goes_37 rfl) rfl (xcP (xok_iadd dX3_goes_38) rfl (xcP (xok_iaload dX3_goes_39) rfl (xcP (xok_aload_n dX3_goes_40 rfl) rfl (xcP (xok_getfield (ref := "WaysAtlas$Program") (Or.inr ⟨rfl, by decide⟩) dX3_goes_41 (Or.inl ⟨q306, (Or.inl rfl)⟩) xh1025) rfl (xcP (xok_getfield (ref := "WaysAtlas$Lower") (Or.inr ⟨rfl, by decide⟩) dX3_goes_44 (Or.inr ⟨⟨"WaysAtlas", (List.mem_of_getElem? (i := 39) rfl)⟩, (Or.inl rfl)⟩) xh1143) rfl (xcP (xok_iload_n dX3_goes_47 rfl) rfl (xcP (xok_iconst dX3_goes_48 rfl) rfl (xcP (xok_iadd dX3_goes_49) rfl (xcP (xok_iaload dX3_goes_50) rfl (xcC0 (xokc_list (List.forall_mem_cons.mpr ⟨xokc_V (r := (RX3, TX3, 10)) xm73 (List.mem_of_getElem? (i := 3) rfl) (by decide) rfl dX3_goes_51 q1788 q1790 qs47 q141 q1791 (by decide +kernel), fun _ h => nomatch h⟩)) rfl (xcP (xok_goto dX3_goes_54 (by decide)) rfl trivial))))))))))))))))))))))))))))))))))
theorem okX3_goes_57 : XOkL xms rX3_goes bX3_goes_57 := xcP (xok_astore dX3_goes_57) rfl (xcP (xok_aload_n dX3_goes_59 rfl) rfl (xcP (xok_aload_n dX3_goes_60 rfl) rfl (xcP (xok_aload dX3_goes_61) rfl (xcC0 (xokc_list (List.forall_mem_cons.mpr ⟨xokc_V (r := (RX3, TX3, 10)) xm76 (List.mem_of_getElem? (i := 3) rfl) (by decide) rfl dX3_goes_63 q1818 q1820 qs50 q141 q1821 (by decide +kernel), fun _ h => nomatch h⟩)) rfl (xcP xok_fal rfl trivial)))))
theorem okX3_goes_66 : XOkL xms rX3_goes bX3_goes_66 := xcR ⟨dX3_goes_66, rfl⟩
theorem okH_X3_goes : XOkH rX3_goes := xhand (hs := [((17, 54, 57, 78), 7, "WaysAtlas$Thrown")]) rfl (List.forall_mem_cons.mpr ⟨Or.inr ⟨by decide, q1553, Or.inl ⟨rfl, rfl⟩⟩, fun _ h => nomatch h⟩) (fun pc kd => by show hX3_goes pc kd = _; simp only [hX3_goes, xhf]; grind)
theorem okM_X3_goes : XOkM xms rX3_goes := xokM0 (List.forall_mem_cons.mpr ⟨⟨rfl, okX3_goes_0⟩, List.forall_mem_cons.mpr ⟨⟨rfl, okX3_goes_57⟩, List.forall_mem_cons.mpr ⟨⟨rfl, okX3_goes_66⟩, fun _ h => nomatch h⟩⟩⟩) okH_X3_goes (by decide +kernel) (by decide)
abbrev cX3_does : ByteArray := prog_19_method_9_code
def dkwX3_does_11 : List UInt8 := [167, 0, 22, 44, 3, 181, 0, 53, 167, 0, 14, 42, 43, 44, 29, 21, 4, 21, 5, 182, 0, 175, 177]
abbrev dktX3_does_11 : List UInt8 := dkwX3_does_11 ++ []
def dkwX3_does_10 : List UInt8 := [42, 180, 0, 27, 21, 4, 50, 192, 0, 169, 43, 44, 182, 0, 171, 167, 0, 31, 42, 43, 44, 182, 0, 172]
abbrev dktX3_does_10 : List UInt8 := dkwX3_does_10 ++ dktX3_does_11
def dkwX3_does_9 : List UInt8 := [181, 0, 94, 167, 0, 67, 43, 182, 0, 138, 44, 180, 0, 127, 21, 6, 92, 46, 4, 100, 79, 167, 0, 49]
abbrev dktX3_does_9 : List UInt8 := dkwX3_does_9 ++ dktX3_does_10
def dkwX3_does_8 : List UInt8 := [50, 192, 0, 160, 182, 0, 165, 54, 6, 44, 180, 0, 127, 21, 6, 46, 4, 162, 0, 12, 44, 21, 5]
abbrev dktX3_does_8 : List UInt8 := dkwX3_does_8 ++ dktX3_does_9
def dkwX3_does_7 : List UInt8 := [180, 0, 27, 21, 4, 50, 192, 0, 160, 43, 44, 182, 0, 162, 79, 167, 0, 102, 42, 180, 0, 27, 21, 4]
abbrev dktX3_does_7 : List UInt8 := dkwX3_does_7 ++ dktX3_does_8
def dkwX3_does_6 : List UInt8 := [21, 5, 181, 0, 94, 167, 0, 136, 44, 21, 5, 181, 0, 94, 167, 0, 127, 44, 180, 0, 127, 21, 5, 42]
abbrev dktX3_does_6 : List UInt8 := dkwX3_does_6 ++ dktX3_does_7
def dkwX3_does_5 : List UInt8 := [180, 0, 27, 21, 4, 50, 192, 0, 154, 43, 44, 182, 0, 156, 153, 0, 10, 44, 180, 0, 94, 167, 0, 5]
abbrev dktX3_does_5 : List UInt8 := dkwX3_does_5 ++ dktX3_does_6
def dkwX3_does_4 : List UInt8 := [167, 0, 188, 42, 180, 0, 27, 21, 4, 50, 192, 0, 151, 43, 44, 182, 0, 153, 167, 0, 170, 44, 42]
abbrev dktX3_does_4 : List UInt8 := dkwX3_does_4 ++ dktX3_does_5
def dkwX3_does_3 : List UInt8 := [44, 182, 0, 146, 167, 0, 208, 42, 180, 0, 27, 21, 4, 50, 192, 0, 130, 43, 44, 182, 0, 148, 58, 6]
abbrev dktX3_does_3 : List UInt8 := dkwX3_does_3 ++ dktX3_does_4
def dkwX3_does_2 : List UInt8 := [43, 182, 0, 138, 44, 21, 4, 181, 0, 141, 167, 0, 226, 42, 180, 0, 27, 21, 4, 50, 192, 0, 144, 43]
abbrev dktX3_does_2 : List UInt8 := dkwX3_does_2 ++ dktX3_does_3
def dkwX3_does_1 : List UInt8 := [170, 0, 0, 0, 0, 1, 76, 0, 0, 0, 0, 0, 0, 0, 22, 0, 0, 0, 107, 0, 0, 0, 120, 0, 0, 0, 138, 0, 0, 0, 158, 0, 0, 0, 176, 0, 0, 0, 210, 0, 0, 0, 219, 0, 0, 0, 244, 0, 0, 1, 41, 0, 0, 1, 76, 0, 0, 1, 76, 0, 0, 1, 76, 0, 0, 1, 76, 0, 0, 1, 76, 0, 0, 1, 76, 0, 0, 1, 76, 0, 0, 1, 76, 0, 0, 1, 76, 0, 0, 1, 76, 0, 0, 1, 76, 0, 0, 1, 76, 0, 0, 1, 68, 0, 0, 1, 59]
abbrev dktX3_does_1 : List UInt8 := dkwX3_does_1 ++ dktX3_does_2
def dkwX3_does_0 : List UInt8 := [29]
abbrev dktX3_does_0 : List UInt8 := dkwX3_does_0 ++ dktX3_does_1
theorem dksX3_does_0 : cX3_does.data.toList.drop 0 = dktX3_does_0 := by decide +kernel
theorem dksX3_does_1 : cX3_does.data.toList.drop 1 = dktX3_does_1 := dk_seg dksX3_does_0 1 rfl rfl
theorem dksX3_does_2 : cX3_does.data.toList.drop 108 = dktX3_does_2 := dk_seg dksX3_does_1 107 rfl rfl
theorem dksX3_does_3 : cX3_does.data.toList.drop 132 = dktX3_does_3 := dk_seg dksX3_does_2 24 rfl rfl
theorem dksX3_does_4 : cX3_does.data.toList.drop 156 = dktX3_does_4 := dk_seg dksX3_does_3 24 rfl rfl
theorem dksX3_does_5 : cX3_does.data.toList.drop 179 = dktX3_does_5 := dk_seg dksX3_does_4 23 rfl rfl
theorem dksX3_does_6 : cX3_does.data.toList.drop 203 = dktX3_does_6 := dk_seg dksX3_does_5 24 rfl rfl
theorem dksX3_does_7 : cX3_does.data.toList.drop 227 = dktX3_does_7 := dk_seg dksX3_does_6 24 rfl rfl
theorem dksX3_does_8 : cX3_does.data.toList.drop 251 = dktX3_does_8 := dk_seg dksX3_does_7 24 rfl rfl
theorem dksX3_does_9 : cX3_does.data.toList.drop 274 = dktX3_does_9 := dk_seg dksX3_does_8 23 rfl rfl
theorem dksX3_does_10 : cX3_does.data.toList.drop 298 = dktX3_does_10 := dk_seg dksX3_does_9 24 rfl rfl
theorem dksX3_does_11 : cX3_does.data.toList.drop 322 = dktX3_does_11 := dk_seg dksX3_does_10 24 rfl rfl
theorem dX3_does_0 : decode cX3_does 0 = .ok (.iload_n 3, 1) := dk_29 (dk_at dksX3_does_0 0 rfl rfl)
theorem dX3_does_1 : decode cX3_does 1 = .ok (.tableswitch 332 0 22 #[107, 120, 138, 158, 176, 210, 219, 244, 297, 332, 332, 332, 332, 332, 332, 332, 332, 332, 332, 332, 332, 324, 315], 107) := by decide +kernel
theorem dX3_does_108 : decode cX3_does 108 = .ok (.aload_n 1, 1) := dk_43 (dk_at dksX3_does_2 0 rfl rfl)
theorem dX3_does_109 : decode cX3_does 109 = .ok (.invokevirtual 138, 3) := dk_182 0 138 (dk_at dksX3_does_2 1 rfl rfl)
theorem dX3_does_112 : decode cX3_does 112 = .ok (.aload_n 2, 1) := dk_44 (dk_at dksX3_does_2 4 rfl rfl)
theorem dX3_does_113 : decode cX3_does 113 = .ok (.iload 4, 2) := dk_21 4 (dk_at dksX3_does_2 5 rfl rfl)
theorem dX3_does_115 : decode cX3_does 115 = .ok (.putfield 141, 3) := dk_181 0 141 (dk_at dksX3_does_2 7 rfl rfl)
theorem dX3_does_118 : decode cX3_does 118 = .ok (.goto 226, 3) := dk_167 0 226 (dk_at dksX3_does_2 10 rfl rfl)
theorem dX3_does_121 : decode cX3_does 121 = .ok (.aload_n 0, 1) := dk_42 (dk_at dksX3_does_2 13 rfl rfl)
theorem dX3_does_122 : decode cX3_does 122 = .ok (.getfield 27, 3) := dk_180 0 27 (dk_at dksX3_does_2 14 rfl rfl)
theorem dX3_does_125 : decode cX3_does 125 = .ok (.iload 4, 2) := dk_21 4 (dk_at dksX3_does_2 17 rfl rfl)
theorem dX3_does_127 : decode cX3_does 127 = .ok (.aaload, 1) := dk_50 (dk_at dksX3_does_2 19 rfl rfl)
theorem dX3_does_128 : decode cX3_does 128 = .ok (.checkcast 144, 3) := dk_192 0 144 (dk_at dksX3_does_2 20 rfl rfl)
theorem dX3_does_131 : decode cX3_does 131 = .ok (.aload_n 1, 1) := dk_43 (dk_at dksX3_does_2 23 rfl rfl)
theorem dX3_does_132 : decode cX3_does 132 = .ok (.aload_n 2, 1) := dk_44 (dk_at dksX3_does_3 0 rfl rfl)
theorem dX3_does_133 : decode cX3_does 133 = .ok (.invokevirtual 146, 3) := dk_182 0 146 (dk_at dksX3_does_3 1 rfl rfl)
theorem dX3_does_136 : decode cX3_does 136 = .ok (.goto 208, 3) := dk_167 0 208 (dk_at dksX3_does_3 4 rfl rfl)
theorem dX3_does_139 : decode cX3_does 139 = .ok (.aload_n 0, 1) := dk_42 (dk_at dksX3_does_3 7 rfl rfl)
theorem dX3_does_140 : decode cX3_does 140 = .ok (.getfield 27, 3) := dk_180 0 27 (dk_at dksX3_does_3 8 rfl rfl)
theorem dX3_does_143 : decode cX3_does 143 = .ok (.iload 4, 2) := dk_21 4 (dk_at dksX3_does_3 11 rfl rfl)
theorem dX3_does_145 : decode cX3_does 145 = .ok (.aaload, 1) := dk_50 (dk_at dksX3_does_3 13 rfl rfl)
theorem dX3_does_146 : decode cX3_does 146 = .ok (.checkcast 130, 3) := dk_192 0 130 (dk_at dksX3_does_3 14 rfl rfl)
theorem dX3_does_149 : decode cX3_does 149 = .ok (.aload_n 1, 1) := dk_43 (dk_at dksX3_does_3 17 rfl rfl)
theorem dX3_does_150 : decode cX3_does 150 = .ok (.aload_n 2, 1) := dk_44 (dk_at dksX3_does_3 18 rfl rfl)
theorem dX3_does_151 : decode cX3_does 151 = .ok (.invokevirtual 148, 3) := dk_182 0 148 (dk_at dksX3_does_3 19 rfl rfl)
theorem dX3_does_154 : decode cX3_does 154 = .ok (.astore 6, 2) := dk_58 6 (dk_at dksX3_does_3 22 rfl rfl)
theorem dX3_does_156 : decode cX3_does 156 = .ok (.goto 188, 3) := dk_167 0 188 (dk_at dksX3_does_4 0 rfl rfl)
theorem dX3_does_159 : decode cX3_does 159 = .ok (.aload_n 0, 1) := dk_42 (dk_at dksX3_does_4 3 rfl rfl)
theorem dX3_does_160 : decode cX3_does 160 = .ok (.getfield 27, 3) := dk_180 0 27 (dk_at dksX3_does_4 4 rfl rfl)
theorem dX3_does_163 : decode cX3_does 163 = .ok (.iload 4, 2) := dk_21 4 (dk_at dksX3_does_4 7 rfl rfl)
theorem dX3_does_165 : decode cX3_does 165 = .ok (.aaload, 1) := dk_50 (dk_at dksX3_does_4 9 rfl rfl)
theorem dX3_does_166 : decode cX3_does 166 = .ok (.checkcast 151, 3) := dk_192 0 151 (dk_at dksX3_does_4 10 rfl rfl)
theorem dX3_does_169 : decode cX3_does 169 = .ok (.aload_n 1, 1) := dk_43 (dk_at dksX3_does_4 13 rfl rfl)
theorem dX3_does_170 : decode cX3_does 170 = .ok (.aload_n 2, 1) := dk_44 (dk_at dksX3_does_4 14 rfl rfl)
theorem dX3_does_171 : decode cX3_does 171 = .ok (.invokevirtual 153, 3) := dk_182 0 153 (dk_at dksX3_does_4 15 rfl rfl)
theorem dX3_does_174 : decode cX3_does 174 = .ok (.goto 170, 3) := dk_167 0 170 (dk_at dksX3_does_4 18 rfl rfl)
theorem dX3_does_177 : decode cX3_does 177 = .ok (.aload_n 2, 1) := dk_44 (dk_at dksX3_does_4 21 rfl rfl)
theorem dX3_does_178 : decode cX3_does 178 = .ok (.aload_n 0, 1) := dk_42 (dk_at dksX3_does_4 22 rfl rfl)
theorem dX3_does_179 : decode cX3_does 179 = .ok (.getfield 27, 3) := dk_180 0 27 (dk_at dksX3_does_5 0 rfl rfl)
theorem dX3_does_182 : decode cX3_does 182 = .ok (.iload 4, 2) := dk_21 4 (dk_at dksX3_does_5 3 rfl rfl)
theorem dX3_does_184 : decode cX3_does 184 = .ok (.aaload, 1) := dk_50 (dk_at dksX3_does_5 5 rfl rfl)
theorem dX3_does_185 : decode cX3_does 185 = .ok (.checkcast 154, 3) := dk_192 0 154 (dk_at dksX3_does_5 6 rfl rfl)
theorem dX3_does_188 : decode cX3_does 188 = .ok (.aload_n 1, 1) := dk_43 (dk_at dksX3_does_5 9 rfl rfl)
theorem dX3_does_189 : decode cX3_does 189 = .ok (.aload_n 2, 1) := dk_44 (dk_at dksX3_does_5 10 rfl rfl)
theorem dX3_does_190 : decode cX3_does 190 = .ok (.invokevirtual 156, 3) := dk_182 0 156 (dk_at dksX3_does_5 11 rfl rfl)
theorem dX3_does_193 : decode cX3_does 193 = .ok (.ifCond .eq 10, 3) := dk_153 0 10 (dk_at dksX3_does_5 14 rfl rfl)
theorem dX3_does_196 : decode cX3_does 196 = .ok (.aload_n 2, 1) := dk_44 (dk_at dksX3_does_5 17 rfl rfl)
theorem dX3_does_197 : decode cX3_does 197 = .ok (.getfield 94, 3) := dk_180 0 94 (dk_at dksX3_does_5 18 rfl rfl)
theorem dX3_does_200 : decode cX3_does 200 = .ok (.goto 5, 3) := dk_167 0 5 (dk_at dksX3_does_5 21 rfl rfl)
theorem dX3_does_203 : decode cX3_does 203 = .ok (.iload 5, 2) := dk_21 5 (dk_at dksX3_does_6 0 rfl rfl)
theorem dX3_does_205 : decode cX3_does 205 = .ok (.putfield 94, 3) := dk_181 0 94 (dk_at dksX3_does_6 2 rfl rfl)
theorem dX3_does_208 : decode cX3_does 208 = .ok (.goto 136, 3) := dk_167 0 136 (dk_at dksX3_does_6 5 rfl rfl)
theorem dX3_does_211 : decode cX3_does 211 = .ok (.aload_n 2, 1) := dk_44 (dk_at dksX3_does_6 8 rfl rfl)
theorem dX3_does_212 : decode cX3_does 212 = .ok (.iload 5, 2) := dk_21 5 (dk_at dksX3_does_6 9 rfl rfl)
theorem dX3_does_214 : decode cX3_does 214 = .ok (.putfield 94, 3) := dk_181 0 94 (dk_at dksX3_does_6 11 rfl rfl)
theorem dX3_does_217 : decode cX3_does 217 = .ok (.goto 127, 3) := dk_167 0 127 (dk_at dksX3_does_6 14 rfl rfl)
theorem dX3_does_220 : decode cX3_does 220 = .ok (.aload_n 2, 1) := dk_44 (dk_at dksX3_does_6 17 rfl rfl)
theorem dX3_does_221 : decode cX3_does 221 = .ok (.getfield 127, 3) := dk_180 0 127 (dk_at dksX3_does_6 18 rfl rfl)
theorem dX3_does_224 : decode cX3_does 224 = .ok (.iload 5, 2) := dk_21 5 (dk_at dksX3_does_6 21 rfl rfl)
theorem dX3_does_226 : decode cX3_does 226 = .ok (.aload_n 0, 1) := dk_42 (dk_at dksX3_does_6 23 rfl rfl)
theorem dX3_does_227 : decode cX3_does 227 = .ok (.getfield 27, 3) := dk_180 0 27 (dk_at dksX3_does_7 0 rfl rfl)
theorem dX3_does_230 : decode cX3_does 230 = .ok (.iload 4, 2) := dk_21 4 (dk_at dksX3_does_7 3 rfl rfl)
theorem dX3_does_232 : decode cX3_does 232 = .ok (.aaload, 1) := dk_50 (dk_at dksX3_does_7 5 rfl rfl)
theorem dX3_does_233 : decode cX3_does 233 = .ok (.checkcast 160, 3) := dk_192 0 160 (dk_at dksX3_does_7 6 rfl rfl)
theorem dX3_does_236 : decode cX3_does 236 = .ok (.aload_n 1, 1) := dk_43 (dk_at dksX3_does_7 9 rfl rfl)
theorem dX3_does_237 : decode cX3_does 237 = .ok (.aload_n 2, 1) := dk_44 (dk_at dksX3_does_7 10 rfl rfl)
theorem dX3_does_238 : decode cX3_does 238 = .ok (.invokevirtual 162, 3) := dk_182 0 162 (dk_at dksX3_does_7 11 rfl rfl)
theorem dX3_does_241 : decode cX3_does 241 = .ok (.iastore, 1) := dk_79 (dk_at dksX3_does_7 14 rfl rfl)
theorem dX3_does_242 : decode cX3_does 242 = .ok (.goto 102, 3) := dk_167 0 102 (dk_at dksX3_does_7 15 rfl rfl)
theorem dX3_does_245 : decode cX3_does 245 = .ok (.aload_n 0, 1) := dk_42 (dk_at dksX3_does_7 18 rfl rfl)
theorem dX3_does_246 : decode cX3_does 246 = .ok (.getfield 27, 3) := dk_180 0 27 (dk_at dksX3_does_7 19 rfl rfl)
theorem dX3_does_249 : decode cX3_does 249 = .ok (.iload 4, 2) := dk_21 4 (dk_at dksX3_does_7 22 rfl rfl)
theorem dX3_does_251 : decode cX3_does 251 = .ok (.aaload, 1) := dk_50 (dk_at dksX3_does_8 0 rfl rfl)
theorem dX3_does_252 : decode cX3_does 252 = .ok (.checkcast 160, 3) := dk_192 0 160 (dk_at dksX3_does_8 1 rfl rfl)
theorem dX3_does_255 : decode cX3_does 255 = .ok (.invokevirtual 165, 3) := dk_182 0 165 (dk_at dksX3_does_8 4 rfl rfl)
theorem dX3_does_258 : decode cX3_does 258 = .ok (.istore 6, 2) := dk_54 6 (dk_at dksX3_does_8 7 rfl rfl)
theorem dX3_does_260 : decode cX3_does 260 = .ok (.aload_n 2, 1) := dk_44 (dk_at dksX3_does_8 9 rfl rfl)
theorem dX3_does_261 : decode cX3_does 261 = .ok (.getfield 127, 3) := dk_180 0 127 (dk_at dksX3_does_8 10 rfl rfl)
theorem dX3_does_264 : decode cX3_does 264 = .ok (.iload 6, 2) := dk_21 6 (dk_at dksX3_does_8 13 rfl rfl)
theorem dX3_does_266 : decode cX3_does 266 = .ok (.iaload, 1) := dk_46 (dk_at dksX3_does_8 15 rfl rfl)
theorem dX3_does_267 : decode cX3_does 267 = .ok (.iconst 1, 1) := dk_4 (dk_at dksX3_does_8 16 rfl rfl)
theorem dX3_does_268 : decode cX3_does 268 = .ok (.if_icmp .ge 12, 3) := dk_162 0 12 (dk_at dksX3_does_8 17 rfl rfl)
theorem dX3_does_271 : decode cX3_does 271 = .ok (.aload_n 2, 1) := dk_44 (dk_at dksX3_does_8 20 rfl rfl)
theorem dX3_does_272 : decode cX3_does 272 = .ok (.iload 5, 2) := dk_21 5 (dk_at dksX3_does_8 21 rfl rfl)
theorem dX3_does_274 : decode cX3_does 274 = .ok (.putfield 94, 3) := dk_181 0 94 (dk_at dksX3_does_9 0 rfl rfl)
theorem dX3_does_277 : decode cX3_does 277 = .ok (.goto 67, 3) := dk_167 0 67 (dk_at dksX3_does_9 3 rfl rfl)
theorem dX3_does_280 : decode cX3_does 280 = .ok (.aload_n 1, 1) := dk_43 (dk_at dksX3_does_9 6 rfl rfl)
theorem dX3_does_281 : decode cX3_does 281 = .ok (.invokevirtual 138, 3) := dk_182 0 138 (dk_at dksX3_does_9 7 rfl rfl)
theorem dX3_does_284 : decode cX3_does 284 = .ok (.aload_n 2, 1) := dk_44 (dk_at dksX3_does_9 10 rfl rfl)
theorem dX3_does_285 : decode cX3_does 285 = .ok (.getfield 127, 3) := dk_180 0 127 (dk_at dksX3_does_9 11 rfl rfl)
theorem dX3_does_288 : decode cX3_does 288 = .ok (.iload 6, 2) := dk_21 6 (dk_at dksX3_does_9 14 rfl rfl)
theorem dX3_does_290 : decode cX3_does 290 = .ok (.dup2, 1) := dk_92 (dk_at dksX3_does_9 16 rfl rfl)
theorem dX3_does_291 : decode cX3_does 291 = .ok (.iaload, 1) := dk_46 (dk_at dksX3_does_9 17 rfl rfl)
theorem dX3_does_292 : decode cX3_does 292 = .ok (.iconst 1, 1) := dk_4 (dk_at dksX3_does_9 18 rfl rfl)
theorem dX3_does_293 : decode cX3_does 293 = .ok (.isub, 1) := dk_100 (dk_at dksX3_does_9 19 rfl rfl)
theorem dX3_does_294 : decode cX3_does 294 = .ok (.iastore, 1) := dk_79 (dk_at dksX3_does_9 20 rfl rfl)
theorem dX3_does_295 : decode cX3_does 295 = .ok (.goto 49, 3) := dk_167 0 49 (dk_at dksX3_does_9 21 rfl rfl)
theorem dX3_does_298 : decode cX3_does 298 = .ok (.aload_n 0, 1) := dk_42 (dk_at dksX3_does_10 0 rfl rfl)
theorem dX3_does_299 : decode cX3_does 299 = .ok (.getfield 27, 3) := dk_180 0 27 (dk_at dksX3_does_10 1 rfl rfl)
theorem dX3_does_302 : decode cX3_does 302 = .ok (.iload 4, 2) := dk_21 4 (dk_at dksX3_does_10 4 rfl rfl)
theorem dX3_does_304 : decode cX3_does 304 = .ok (.aaload, 1) := dk_50 (dk_at dksX3_does_10 6 rfl rfl)
theorem dX3_does_305 : decode cX3_does 305 = .ok (.checkcast 169, 3) := dk_192 0 169 (dk_at dksX3_does_10 7 rfl rfl)
theorem dX3_does_308 : decode cX3_does 308 = .ok (.aload_n 1, 1) := dk_43 (dk_at dksX3_does_10 10 rfl rfl)
theorem dX3_does_309 : decode cX3_does 309 = .ok (.aload_n 2, 1) := dk_44 (dk_at dksX3_does_10 11 rfl rfl)
theorem dX3_does_310 : decode cX3_does 310 = .ok (.invokevirtual 171, 3) := dk_182 0 171 (dk_at dksX3_does_10 12 rfl rfl)
theorem dX3_does_313 : decode cX3_does 313 = .ok (.goto 31, 3) := dk_167 0 31 (dk_at dksX3_does_10 15 rfl rfl)
theorem dX3_does_316 : decode cX3_does 316 = .ok (.aload_n 0, 1) := dk_42 (dk_at dksX3_does_10 18 rfl rfl)
theorem dX3_does_317 : decode cX3_does 317 = .ok (.aload_n 1, 1) := dk_43 (dk_at dksX3_does_10 19 rfl rfl)
theorem dX3_does_318 : decode cX3_does 318 = .ok (.aload_n 2, 1) := dk_44 (dk_at dksX3_does_10 20 rfl rfl)
theorem dX3_does_319 : decode cX3_does 319 = .ok (.invokevirtual 172, 3) := dk_182 0 172 (dk_at dksX3_does_10 21 rfl rfl)
theorem dX3_does_322 : decode cX3_does 322 = .ok (.goto 22, 3) := dk_167 0 22 (dk_at dksX3_does_11 0 rfl rfl)
theorem dX3_does_325 : decode cX3_does 325 = .ok (.aload_n 2, 1) := dk_44 (dk_at dksX3_does_11 3 rfl rfl)
theorem dX3_does_326 : decode cX3_does 326 = .ok (.iconst 0, 1) := dk_3 (dk_at dksX3_does_11 4 rfl rfl)
theorem dX3_does_327 : decode cX3_does 327 = .ok (.putfield 53, 3) := dk_181 0 53 (dk_at dksX3_does_11 5 rfl rfl)
theorem dX3_does_330 : decode cX3_does 330 = .ok (.goto 14, 3) := dk_167 0 14 (dk_at dksX3_does_11 8 rfl rfl)
theorem dX3_does_333 : decode cX3_does 333 = .ok (.aload_n 0, 1) := dk_42 (dk_at dksX3_does_11 11 rfl rfl)
theorem dX3_does_334 : decode cX3_does 334 = .ok (.aload_n 1, 1) := dk_43 (dk_at dksX3_does_11 12 rfl rfl)
theorem dX3_does_335 : decode cX3_does 335 = .ok (.aload_n 2, 1) := dk_44 (dk_at dksX3_does_11 13 rfl rfl)
theorem dX3_does_336 : decode cX3_does 336 = .ok (.iload_n 3, 1) := dk_29 (dk_at dksX3_does_11 14 rfl rfl)
theorem dX3_does_337 : decode cX3_does 337 = .ok (.iload 4, 2) := dk_21 4 (dk_at dksX3_does_11 15 rfl rfl)
theorem dX3_does_339 : decode cX3_does 339 = .ok (.iload 5, 2) := dk_21 5 (dk_at dksX3_does_11 17 rfl rfl)
theorem dX3_does_341 : decode cX3_does 341 = .ok (.invokevirtual 175, 3) := dk_182 0 175 (dk_at dksX3_does_11 19 rfl rfl)
theorem dX3_does_344 : decode cX3_does 344 = .ok (.return_, 1) := dk_177 (dk_at dksX3_does_11 22 rfl rfl)
theorem okX3_does_0 : XOkL xms rX3_does bX3_does_0 := xcP (xok_iload_n dX3_does_0 rfl) rfl (xcP (xok_tsw dX3_does_1 (by decide) (by decide) (by decide)) rfl trivial)
theorem okX3_does_108 : XOkL xms rX3_does bX3_does_108 := xcP (xok_aload_n dX3_does_108 rfl) rfl (xcC0 (xokc_list (List.forall_mem_cons.mpr ⟨xokc_V (r := (RX5, TX5, 34)) xm85 (List.mem_of_getElem? (i := 5) rfl) (by decide) rfl dX3_does_109 q1792 q1594 q1595 q143 q1596 (by decide +kernel), fun _ h => nomatch h⟩)) rfl (xcP (xok_aload_n dX3_does_112 rfl) rfl (xcP (xok_iload dX3_does_113) rfl (xcP (xok_putfield (ref := "WaysAtlas$Frame") (Or.inl ⟨rfl, by decide, rfl⟩) dX3_does_115 (Or.inr ⟨⟨"WaysAtlas", (List.mem_of_getElem? (i := 46) rfl)⟩, (Or.inl rfl)⟩) (Or.inl rfl) xh35) rfl (xcP (xok_goto dX3_does_118 (by decide)) rfl trivial)))))
theorem okX3_does_121 : XOkL xms rX3_does bX3_does_121 := xcP (xok_aload_n dX3_does_121 rfl) rfl (xcP (xok_getfield (ref := "WaysAtlas$Program") (Or.inr ⟨rfl, by decide⟩) dX3_does_122 (Or.inl ⟨q293, (Or.inl rfl)⟩) xh1022) rfl (xcP (xok_iload dX3_does_125) rfl (xcP (xok_aaload (by decide) rfl dX3_does_127) rfl (xcP (xok_checkcast (E := "WaysAtlas$Plain") dX3_does_128 q1793 xfc_Plain) rfl (xcP (xok_aload_n dX3_does_131 rfl) rfl (xcP (xok_aload_n dX3_does_132 rfl) rfl (xcC0 (xokc_list (List.forall_mem_cons.mpr ⟨xokc_A (owner := "WaysAtlas$Plain") (r := (RX20, TX20, 3)) xm225 (List.mem_of_getElem? (i := 17) rfl) (by decide) rfl dX3_does_133 q1794 q1729 (List.mem_of_getElem? (i := 1) rfl) q1751 q1752 q165 q1753 (by decide +kernel), List.forall_mem_cons.mpr ⟨xokc_A (owner := "WaysAtlas$Plain") (r := (RX21, TX21, 3)) xm227 (List.mem_of_getElem? (i := 18) rfl) (by decide) rfl dX3_does_133 q1794 q1729 (List.mem_of_getElem? (i := 1) rfl) q1743 q1744 q166 q1745 (by decide +kernel), List.forall_mem_cons.mpr ⟨xokc_A (owner := "WaysAtlas$Plain") (r := (RX22, TX22, 3)) xm229 (List.mem_of_getElem? (i := 19) rfl) (by decide) rfl dX3_does_133 q1794 q1729 (List.mem_of_getElem? (i := 1) rfl) q1737 q1738 q167 q1739 (by decide +kernel), List.forall_mem_cons.mpr ⟨xokc_A (owner := "WaysAtlas$Plain") (r := (RX23, TX23, 3)) xm231 (List.mem_of_getElem? (i := 20) rfl) (by decide) rfl dX3_does_133 q1794 q1729 (List.mem_of_getElem? (i := 1) rfl) q1748 q1749 q168 q1750 (by decide +kernel), List.forall_mem_cons.mpr ⟨xokc_A (owner := "WaysAtlas$Plain") (r := (RX24, TX24, 2)) xm234 (List.mem_of_getElem? (i := 21) rfl) (by decide) rfl dX3_does_133 q1794 q1729 (List.mem_of_getElem? (i := 1) rfl) q1730 q1731 q169 q1732 (by decide +kernel), List.forall_mem_cons.mpr ⟨xokc_A (owner := "WaysAtlas$Plain") (r := (RX29, TX29, 2)) xm252 (List.mem_of_getElem? (i := 26) rfl) (by decide) rfl dX3_does_133 q1794 q1729 (List.mem_of_getElem? (i := 1) rfl) q1755 q1756 q174 q1757 (by decide +kernel), fun _ h => nomatch h⟩⟩⟩⟩⟩⟩)) rfl (xcP (xok_goto dX3_does_136 (by decide)) rfl trivial))))))))
theorem okX3_does_139 : XOkL xms rX3_does bX3_does_139 := xcP (xok_aload_n dX3_does_139 rfl) rfl (xcP (xok_getfield (ref := "WaysAtlas$Program") (Or.inr ⟨rfl, by decide⟩) dX3_does_140 (Or.inl ⟨q293, (Or.inl rfl)⟩) xh1022) rfl (xcP (xok_iload dX3_does_143) rfl (xcP (xok_aaload (by decide) rfl dX3_does_145) rfl (xcP (xok_checkcast (E := "WaysAtlas$Call") dX3_does_146 q1795 xfc_Call) rfl (xcP (xok_aload_n dX3_does_149 rfl) rfl (xcP (xok_aload_n dX3_does_150 rfl) rfl (xcC0 (xokc_list (List.forall_mem_cons.mpr ⟨xokc_V (r := (RX18, TX18, 5)) xm220 (List.mem_of_getElem? (i := 16) rfl) (by decide) rfl dX3_does_151 q1796 q1619 q1620 q163 q1621 (by decide +kernel), fun _ h => nomatch h⟩)) rfl (xcP (xok_astore dX3_does_154) rfl (xcP (xok_goto dX3_does_156 (by decide)) rfl trivial)))))))))
theorem okX3_does_159 : XOkL xms rX3_does bX3_does_159 := xcP (xok_aload_n dX3_does_159 rfl) rfl (xcP (xok_getfield (ref := "WaysAtlas$Program") (Or.inr ⟨rfl, by decide⟩) dX3_does_160 (Or.inl ⟨q293, (Or.inl rfl)⟩) xh1022) rfl (xcP (xok_iload dX3_does_163) rfl (xcP (xok_aaload (by decide) rfl dX3_does_165) rfl (xcP (xok_checkcast (E := "WaysAtlas$Return") dX3_does_166 q1797 xfc_Return) rfl (xcP (xok_aload_n dX3_does_169 rfl) rfl (xcP (xok_aload_n dX3_does_170 rfl) rfl (xcC0 (xokc_list (List.forall_mem_cons.mpr ⟨xokc_V (r := (RX25, TX25, 2)) xm238 (List.mem_of_getElem? (i := 22) rfl) (by decide) rfl dX3_does_171 q1798 q1769 q1770 q170 q1771 (by decide +kernel), fun _ h => nomatch h⟩)) rfl (xcP (xok_goto dX3_does_174 (by decide)) rfl trivial))))))))
theorem okX3_does_177 : XOkL xms rX3_does bX3_does_177 := xcP (xok_aload_n dX3_does_177 rfl) rfl (xcP (xok_aload_n dX3_does_178 rfl) rfl (xcP (xok_getfield (ref := "WaysAtlas$Program") (Or.inr ⟨rfl, by decide⟩) dX3_does_179 (Or.inl ⟨q293, (Or.inl rfl)⟩) xh1022) rfl (xcP (xok_iload dX3_does_182) rfl (xcP (xok_aaload (by decide) rfl dX3_does_184) rfl (xcP (xok_checkcast (E := "WaysAtlas$If") dX3_does_185 q1799 xfc_If) rfl (xcP (xok_aload_n dX3_does_188 rfl) rfl (xcP (xok_aload_n dX3_does_189 rfl) rfl (xcC0 (xokc_list (List.forall_mem_cons.mpr ⟨xokc_V (r := (RX26, TX26, 6)) xm242 (List.mem_of_getElem? (i := 23) rfl) (by decide) rfl dX3_does_190 q1800 q1700 q1701 q171 q1702 (by decide +kernel), fun _ h => nomatch h⟩)) rfl (xcP (xok_ifeq dX3_does_193 (by decide)) rfl (xcP (xok_aload_n dX3_does_196 rfl) rfl (xcP (xok_getfield (ref := "WaysAtlas$Frame") (Or.inl ⟨rfl, by decide⟩) dX3_does_197 (Or.inr ⟨⟨"WaysAtlas", (List.mem_of_getElem? (i := 60) rfl)⟩, (Or.inl rfl)⟩) xh36) rfl (xcP (xok_goto dX3_does_200 (by decide)) rfl trivial))))))))))))
theorem okX3_does_203 : XOkL xms rX3_does bX3_does_203 := xcP (xok_iload dX3_does_203) rfl (xcP xok_fal rfl trivial)
theorem okX3_does_205 : XOkL xms rX3_does bX3_does_205 := xcP (xok_putfield (ref := "WaysAtlas$Frame") (Or.inl ⟨rfl, by decide, rfl⟩) dX3_does_205 (Or.inr ⟨⟨"WaysAtlas", (List.mem_of_getElem? (i := 60) rfl)⟩, (Or.inl rfl)⟩) (Or.inl rfl) xh36) rfl (xcP (xok_goto dX3_does_208 (by decide)) rfl trivial)
theorem okX3_does_211 : XOkL xms rX3_does bX3_does_211 := xcP (xok_aload_n dX3_does_211 rfl) rfl (xcP (xok_iload dX3_does_212) rfl (xcP (xok_putfield (ref := "WaysAtlas$Frame") (Or.inl ⟨rfl, by decide, rfl⟩) dX3_does_214 (Or.inr ⟨⟨"WaysAtlas", (List.mem_of_getElem? (i := 60) rfl)⟩, (Or.inl rfl)⟩) (Or.inl rfl) xh36) rfl (xcP (xok_goto dX3_does_217 (by decide)) rfl trivial)))
theorem okX3_does_220 : XOkL xms rX3_does bX3_does_220 := xcP (xok_aload_n dX3_does_220 rfl) rfl (xcP (xok_getfield (ref := "WaysAtlas$Frame") (Or.inr ⟨rfl, by decide⟩) dX3_does_221 (Or.inr ⟨⟨"WaysAtlas", (List.mem_of_getElem? (i := 43) rfl)⟩, (Or.inl rfl)⟩) xh1055) rfl (xcP (xok_iload dX3_does_224) rfl (xcP (xok_aload_n dX3_does_226 rfl) rfl (xcP (xok_getfield (ref := "WaysAtlas$Program") (Or.inr ⟨rfl, by decide⟩) dX3_does_227 (Or.inl ⟨q293, (Or.inl rfl)⟩) xh1022) rfl (xcP (xok_iload dX3_does_230) rfl (xcP (xok_aaload (by decide) rfl dX3_does_232) rfl (xcP (xok_checkcast (E := "WaysAtlas$Loop") dX3_does_233 q1801 xfc_Loop) rfl (xcP (xok_aload_n dX3_does_236 rfl) rfl (xcP (xok_aload_n dX3_does_237 rfl) rfl (xcC0 (xokc_list (List.forall_mem_cons.mpr ⟨xokc_V (r := (RX27, TX27, 3)) xm247 (List.mem_of_getElem? (i := 24) rfl) (by decide) rfl dX3_does_238 q1802 q1716 q1717 q172 q1718 (by decide +kernel), fun _ h => nomatch h⟩)) rfl (xcP (xok_iastore dX3_does_241) rfl (xcP (xok_goto dX3_does_242 (by decide)) rfl trivial))))))))))))
theorem okX3_does_245 : XOkL xms rX3_does bX3_does_245 := xcP (xok_aload_n dX3_does_245 rfl) rfl (xcP (xok_getfield (ref := "WaysAtlas$Program") (Or.inr ⟨rfl, by decide⟩) dX3_does_246 (Or.inl ⟨q293, (Or.inl rfl)⟩) xh1022) rfl (xcP (xok_iload dX3_does_249) rfl (xcP (xok_aaload (by decide) rfl dX3_does_251) rfl (xcP (xok_checkcast (E := "WaysAtlas$Loop") dX3_does_252 q1801 xfc_Loop) rfl (xcC0 (xokc_list (List.forall_mem_cons.mpr ⟨xokc_V (r := (RX27, TX27, 3)) xm245 (List.mem_of_getElem? (i := 24) rfl) (by decide) rfl dX3_does_255 q1803 q1442 q1443 q172 q1444 (by decide +kernel), fun _ h => nomatch h⟩)) rfl (xcP (xok_istore dX3_does_258) rfl (xcP (xok_aload_n dX3_does_260 rfl) rfl (xcP (xok_getfield (ref := "WaysAtlas$Frame") (Or.inr ⟨rfl, by decide⟩) dX3_does_261 (Or.inr ⟨⟨"WaysAtlas", (List.mem_of_getElem? (i := 43) rfl)⟩, (Or.inl rfl)⟩) xh1055) rfl (xcP (xok_iload dX3_does_264) rfl (xcP (xok_iaload dX3_does_266) rfl (xcP (xok_iconst dX3_does_267 rfl) rfl (xcP (xok_icmpge dX3_does_268 (by decide)) rfl (xcP (xok_aload_n dX3_does_271 rfl) rfl (xcP (xok_iload dX3_does_272) rfl (xcP (xok_putfield (ref := "WaysAtlas$Frame") (Or.inl ⟨rfl, by decide, rfl⟩) dX3_does_274 (Or.inr ⟨⟨"WaysAtlas", (List.mem_of_getElem? (i := 60) rfl)⟩, (Or.inl rfl)⟩) (Or.inl rfl) xh36) rfl (xcP (xok_goto dX3_does_277 (by decide)) rfl trivial))))))))))))))))
theorem okX3_does_280 : XOkL xms rX3_does bX3_does_280 := xcP (xok_aload_n dX3_does_280 rfl) rfl (xcC0 (xokc_list (List.forall_mem_cons.mpr ⟨xokc_V (r := (RX5, TX5, 34)) xm85 (List.mem_of_getElem? (i := 5) rfl) (by decide) rfl dX3_does_281 q1792 q1594 q1595 q143 q1596 (by decide +kernel), fun _ h => nomatch h⟩)) rfl (xcP (xok_aload_n dX3_does_284 rfl) rfl (xcP (xok_getfield (ref := "WaysAtlas$Frame") (Or.inr ⟨rfl, by decide⟩) dX3_does_285 (Or.inr ⟨⟨"WaysAtlas", (List.mem_of_getElem? (i := 43) rfl)⟩, (Or.inl rfl)⟩) xh1055) rfl (xcP (xok_iload dX3_does_288) rfl (xcP (xok_dup2 dX3_does_290) rfl (xcP (xok_iaload dX3_does_291) rfl (xcP (xok_iconst dX3_does_292 rfl) rfl (xcP (xok_isub dX3_does_293) rfl (xcP (xok_iastore dX3_does_294) rfl (xcP (xok_goto dX3_does_295 (by decide)) rfl trivial))))))))))
theorem okX3_does_298 : XOkL xms rX3_does bX3_does_298 := xcP (xok_aload_n dX3_does_298 rfl) rfl (xcP (xok_getfield (ref := "WaysAtlas$Program") (Or.inr ⟨rfl, by decide⟩) dX3_does_299 (Or.inl ⟨q293, (Or.inl rfl)⟩) xh1022) rfl (xcP (xok_iload dX3_does_302) rfl (xcP (xok_aaload (by decide) rfl dX3_does_304) rfl (xcP (xok_checkcast (E := "WaysAtlas$Again") dX3_does_305 q1804 xfc_Again) rfl (xcP (xok_aload_n dX3_does_308 rfl) rfl (xcP (xok_aload_n dX3_does_309 rfl) rfl (xcC0 (xokc_list (List.forall_mem_cons.mpr ⟨xokc_V (r := (RX30, TX30, 3)) xm256 (List.mem_of_getElem? (i := 27) rfl) (by decide) rfl dX3_does_310 q1805 q1607 q1608 q175 q1609 (by decide +kernel), fun _ h => nomatch h⟩)) rfl (xcP (xok_goto dX3_does_313 (by decide)) rfl trivial))))))))
theorem okX3_does_316 : XOkL xms rX3_does bX3_does_316 := xcP (xok_aload_n dX3_does_316 rfl) rfl (xcP (xok_aload_n dX3_does_317 rfl) rfl (xcP (xok_aload_n dX3_does_318 rfl) rfl (xcC0 (xokc_list (List.forall_mem_cons.mpr ⟨xokc_V (r := (RX3, TX3, 10)) xm74 (List.mem_of_getElem? (i := 3) rfl) (by decide) rfl dX3_does_319 q1806 q1808 qs48 q141 q1809 (by decide +kernel), fun _ h => nomatch h⟩)) rfl (xcP (xok_goto dX3_does_322 (by decide)) rfl trivial))))
theorem okX3_does_325 : XOkL xms rX3_does bX3_does_325 := xcP (xok_aload_n dX3_does_325 rfl) rfl (xcP (xok_iconst dX3_does_326 rfl) rfl (xcP (xok_putfield (ref := "WaysAtlas$Frame") (Or.inl ⟨rfl, by decide, rfl⟩) dX3_does_327 (Or.inr ⟨⟨"WaysAtlas", (List.mem_of_getElem? (i := 54) rfl)⟩, (Or.inl rfl)⟩) (Or.inl rfl) xh34) rfl (xcP (xok_goto dX3_does_330 (by decide)) rfl trivial)))
theorem okX3_does_333 : XOkL xms rX3_does bX3_does_333 := xcP (xok_aload_n dX3_does_333 rfl) rfl (xcP (xok_aload_n dX3_does_334 rfl) rfl (xcP (xok_aload_n dX3_does_335 rfl) rfl (xcP (xok_iload_n dX3_does_336 rfl) rfl (xcP (xok_iload dX3_does_337) rfl (xcP (xok_iload dX3_does_339) rfl (xcC0 (xokc_list (List.forall_mem_cons.mpr ⟨xokc_V (r := (RX3, TX3, 10)) xm75 (List.mem_of_getElem? (i := 3) rfl) (by decide) rfl dX3_does_341 q1810 q1812 qs49 q141 q1813 (by decide +kernel), fun _ h => nomatch h⟩)) rfl (xcP xok_fal rfl trivial)))))))
theorem okX3_does_344 : XOkL xms rX3_does bX3_does_344 := xcR ⟨dX3_does_344, rfl⟩
theorem okM_X3_does : XOkM xms rX3_does := xokM0 (List.forall_mem_cons.mpr ⟨⟨rfl, okX3_does_0⟩, List.forall_mem_cons.mpr ⟨⟨rfl, okX3_does_108⟩, List.forall_mem_cons.mpr ⟨⟨rfl, okX3_does_121⟩, List.forall_mem_cons.mpr ⟨⟨rfl, okX3_does_139⟩, List.forall_mem_cons.mpr ⟨⟨rfl, okX3_does_159⟩, List.forall_mem_cons.mpr ⟨⟨rfl, okX3_does_177⟩, List.forall_mem_cons.mpr ⟨⟨rfl, okX3_does_203⟩, List.forall_mem_cons.mpr ⟨⟨rfl, okX3_does_205⟩, List.forall_mem_cons.mpr ⟨⟨rfl, okX3_does_211⟩, List.forall_mem_cons.mpr ⟨⟨rfl, okX3_does_220⟩, List.forall_mem_cons.mpr ⟨⟨rfl, okX3_does_245⟩, List.forall_mem_cons.mpr ⟨⟨rfl, okX3_does_280⟩, List.forall_mem_cons.mpr ⟨⟨rfl, okX3_does_298⟩, List.forall_mem_cons.mpr ⟨⟨rfl, okX3_does_316⟩, List.forall_mem_cons.mpr ⟨⟨rfl, okX3_does_325⟩, List.forall_mem_cons.mpr ⟨⟨rfl, okX3_does_333⟩, List.forall_mem_cons.mpr ⟨⟨rfl, okX3_does_344⟩, fun _ h => nomatch h⟩⟩⟩⟩⟩⟩⟩⟩⟩⟩⟩⟩⟩⟩⟩⟩⟩) (xokH0 rfl (fun _ _ => rfl)) (by decide +kernel) (by decide)
abbrev cX3_gives : ByteArray := prog_19_method_8_code
def dkwX3_gives_3 : List UInt8 := [180, 0, 132, 16, 247, 159, 0, 15, 25, 4, 180, 0, 135, 25, 5, 180, 0, 132, 29, 79, 177]
abbrev dktX3_gives_3 : List UInt8 := dkwX3_gives_3 ++ []
def dkwX3_gives_2 : List UInt8 := [180, 0, 101, 6, 25, 4, 180, 0, 94, 4, 100, 104, 4, 96, 46, 50, 192, 0, 130, 58, 5, 25, 5]
abbrev dktX3_gives_2 : List UInt8 := dkwX3_gives_2 ++ dktX3_gives_3
def dkwX3_gives_1 : List UInt8 := [181, 0, 75, 43, 29, 181, 0, 72, 177, 43, 182, 0, 86, 58, 4, 42, 180, 0, 27, 42, 180, 0, 97]
abbrev dktX3_gives_1 : List UInt8 := dkwX3_gives_1 ++ dktX3_gives_2
def dkwX3_gives_0 : List UInt8 := [44, 180, 0, 53, 62, 43, 89, 180, 0, 56, 4, 100, 181, 0, 56, 43, 180, 0, 56, 154, 0, 14, 43, 3]
abbrev dktX3_gives_0 : List UInt8 := dkwX3_gives_0 ++ dktX3_gives_1
theorem dksX3_gives_0 : cX3_gives.data.toList.drop 0 = dktX3_gives_0 := by decide +kernel
theorem dksX3_gives_1 : cX3_gives.data.toList.drop 24 = dktX3_gives_1 := dk_seg dksX3_gives_0 24 rfl rfl
theorem dksX3_gives_2 : cX3_gives.data.toList.drop 47 = dktX3_gives_2 := dk_seg dksX3_gives_1 23 rfl rfl
theorem dksX3_gives_3 : cX3_gives.data.toList.drop 70 = dktX3_gives_3 := dk_seg dksX3_gives_2 23 rfl rfl
theorem dX3_gives_0 : decode cX3_gives 0 = .ok (.aload_n 2, 1) := dk_44 (dk_at dksX3_gives_0 0 rfl rfl)
theorem dX3_gives_1 : decode cX3_gives 1 = .ok (.getfield 53, 3) := dk_180 0 53 (dk_at dksX3_gives_0 1 rfl rfl)
theorem dX3_gives_4 : decode cX3_gives 4 = .ok (.istore_n 3, 1) := dk_62 (dk_at dksX3_gives_0 4 rfl rfl)
theorem dX3_gives_5 : decode cX3_gives 5 = .ok (.aload_n 1, 1) := dk_43 (dk_at dksX3_gives_0 5 rfl rfl)
theorem dX3_gives_6 : decode cX3_gives 6 = .ok (.dup, 1) := dk_89 (dk_at dksX3_gives_0 6 rfl rfl)
theorem dX3_gives_7 : decode cX3_gives 7 = .ok (.getfield 56, 3) := dk_180 0 56 (dk_at dksX3_gives_0 7 rfl rfl)
theorem dX3_gives_10 : decode cX3_gives 10 = .ok (.iconst 1, 1) := dk_4 (dk_at dksX3_gives_0 10 rfl rfl)
theorem dX3_gives_11 : decode cX3_gives 11 = .ok (.isub, 1) := dk_100 (dk_at dksX3_gives_0 11 rfl rfl)
theorem dX3_gives_12 : decode cX3_gives 12 = .ok (.putfield 56, 3) := dk_181 0 56 (dk_at dksX3_gives_0 12 rfl rfl)
theorem dX3_gives_15 : decode cX3_gives 15 = .ok (.aload_n 1, 1) := dk_43 (dk_at dksX3_gives_0 15 rfl rfl)
theorem dX3_gives_16 : decode cX3_gives 16 = .ok (.getfield 56, 3) := dk_180 0 56 (dk_at dksX3_gives_0 16 rfl rfl)
theorem dX3_gives_19 : decode cX3_gives 19 = .ok (.ifCond .ne 14, 3) := dk_154 0 14 (dk_at dksX3_gives_0 19 rfl rfl)
theorem dX3_gives_22 : decode cX3_gives 22 = .ok (.aload_n 1, 1) := dk_43 (dk_at dksX3_gives_0 22 rfl rfl)
theorem dX3_gives_23 : decode cX3_gives 23 = .ok (.iconst 0, 1) := dk_3 (dk_at dksX3_gives_0 23 rfl rfl)
theorem dX3_gives_24 : decode cX3_gives 24 = .ok (.putfield 75, 3) := dk_181 0 75 (dk_at dksX3_gives_1 0 rfl rfl)
theorem dX3_gives_27 : decode cX3_gives 27 = .ok (.aload_n 1, 1) := dk_43 (dk_at dksX3_gives_1 3 rfl rfl)
theorem dX3_gives_28 : decode cX3_gives 28 = .ok (.iload_n 3, 1) := dk_29 (dk_at dksX3_gives_1 4 rfl rfl)
theorem dX3_gives_29 : decode cX3_gives 29 = .ok (.putfield 72, 3) := dk_181 0 72 (dk_at dksX3_gives_1 5 rfl rfl)
theorem dX3_gives_32 : decode cX3_gives 32 = .ok (.return_, 1) := dk_177 (dk_at dksX3_gives_1 8 rfl rfl)
theorem dX3_gives_33 : decode cX3_gives 33 = .ok (.aload_n 1, 1) := dk_43 (dk_at dksX3_gives_1 9 rfl rfl)
theorem dX3_gives_34 : decode cX3_gives 34 = .ok (.invokevirtual 86, 3) := dk_182 0 86 (dk_at dksX3_gives_1 10 rfl rfl)
theorem dX3_gives_37 : decode cX3_gives 37 = .ok (.astore 4, 2) := dk_58 4 (dk_at dksX3_gives_1 13 rfl rfl)
theorem dX3_gives_39 : decode cX3_gives 39 = .ok (.aload_n 0, 1) := dk_42 (dk_at dksX3_gives_1 15 rfl rfl)
theorem dX3_gives_40 : decode cX3_gives 40 = .ok (.getfield 27, 3) := dk_180 0 27 (dk_at dksX3_gives_1 16 rfl rfl)
theorem dX3_gives_43 : decode cX3_gives 43 = .ok (.aload_n 0, 1) := dk_42 (dk_at dksX3_gives_1 19 rfl rfl)
theorem dX3_gives_44 : decode cX3_gives 44 = .ok (.getfield 97, 3) := dk_180 0 97 (dk_at dksX3_gives_1 20 rfl rfl)
theorem dX3_gives_47 : decode cX3_gives 47 = .ok (.getfield 101, 3) := dk_180 0 101 (dk_at dksX3_gives_2 0 rfl rfl)
theorem dX3_gives_50 : decode cX3_gives 50 = .ok (.iconst 3, 1) := dk_6 (dk_at dksX3_gives_2 3 rfl rfl)
theorem dX3_gives_51 : decode cX3_gives 51 = .ok (.aload 4, 2) := dk_25 4 (dk_at dksX3_gives_2 4 rfl rfl)
theorem dX3_gives_53 : decode cX3_gives 53 = .ok (.getfield 94, 3) := dk_180 0 94 (dk_at dksX3_gives_2 6 rfl rfl)
theorem dX3_gives_56 : decode cX3_gives 56 = .ok (.iconst 1, 1) := dk_4 (dk_at dksX3_gives_2 9 rfl rfl)
theorem dX3_gives_57 : decode cX3_gives 57 = .ok (.isub, 1) := dk_100 (dk_at dksX3_gives_2 10 rfl rfl)
theorem dX3_gives_58 : decode cX3_gives 58 = .ok (.imul, 1) := dk_104 (dk_at dksX3_gives_2 11 rfl rfl)
theorem dX3_gives_59 : decode cX3_gives 59 = .ok (.iconst 1, 1) := dk_4 (dk_at dksX3_gives_2 12 rfl rfl)
theorem dX3_gives_60 : decode cX3_gives 60 = .ok (.iadd, 1) := dk_96 (dk_at dksX3_gives_2 13 rfl rfl)
theorem dX3_gives_61 : decode cX3_gives 61 = .ok (.iaload, 1) := dk_46 (dk_at dksX3_gives_2 14 rfl rfl)
theorem dX3_gives_62 : decode cX3_gives 62 = .ok (.aaload, 1) := dk_50 (dk_at dksX3_gives_2 15 rfl rfl)
theorem dX3_gives_63 : decode cX3_gives 63 = .ok (.checkcast 130, 3) := dk_192 0 130 (dk_at dksX3_gives_2 16 rfl rfl)
theorem dX3_gives_66 : decode cX3_gives 66 = .ok (.astore 5, 2) := dk_58 5 (dk_at dksX3_gives_2 19 rfl rfl)
theorem dX3_gives_68 : decode cX3_gives 68 = .ok (.aload 5, 2) := dk_25 5 (dk_at dksX3_gives_2 21 rfl rfl)
theorem dX3_gives_70 : decode cX3_gives 70 = .ok (.getfield 132, 3) := dk_180 0 132 (dk_at dksX3_gives_3 0 rfl rfl)
theorem dX3_gives_73 : decode cX3_gives 73 = .ok (.bipush (-9), 2) := dk_16 247 (dk_at dksX3_gives_3 3 rfl rfl)
theorem dX3_gives_75 : decode cX3_gives 75 = .ok (.if_icmp .eq 15, 3) := dk_159 0 15 (dk_at dksX3_gives_3 5 rfl rfl)
theorem dX3_gives_78 : decode cX3_gives 78 = .ok (.aload 4, 2) := dk_25 4 (dk_at dksX3_gives_3 8 rfl rfl)
theorem dX3_gives_80 : decode cX3_gives 80 = .ok (.getfield 135, 3) := dk_180 0 135 (dk_at dksX3_gives_3 10 rfl rfl)
theorem dX3_gives_83 : decode cX3_gives 83 = .ok (.aload 5, 2) := dk_25 5 (dk_at dksX3_gives_3 13 rfl rfl)
theorem dX3_gives_85 : decode cX3_gives 85 = .ok (.getfield 132, 3) := dk_180 0 132 (dk_at dksX3_gives_3 15 rfl rfl)
theorem dX3_gives_88 : decode cX3_gives 88 = .ok (.iload_n 3, 1) := dk_29 (dk_at dksX3_gives_3 18 rfl rfl)
theorem dX3_gives_89 : decode cX3_gives 89 = .ok (.iastore, 1) := dk_79 (dk_at dksX3_gives_3 19 rfl rfl)
theorem dX3_gives_90 : decode cX3_gives 90 = .ok (.return_, 1) := dk_177 (dk_at dksX3_gives_3 20 rfl rfl)
theorem okX3_gives_0 : XOkL xms rX3_gives bX3_gives_0 := xcP (xok_aload_n dX3_gives_0 rfl) rfl (xcP (xok_getfield (ref := "WaysAtlas$Frame") (Or.inl ⟨rfl, by decide⟩) dX3_gives_1 (Or.inr ⟨⟨"WaysAtlas", (List.mem_of_getElem? (i := 54) rfl)⟩, (Or.inl rfl)⟩) xh34) rfl (xcP (xok_istore_n dX3_gives_4 rfl) rfl (xcP (xok_aload_n dX3_gives_5 rfl) rfl (xcP (xok_dup dX3_gives_6) rfl (xcP (xok_getfield (ref := "WaysAtlas$Run") (Or.inl ⟨rfl, by decide⟩) dX3_gives_7 (Or.inr ⟨⟨"WaysAtlas", (List.mem_of_getElem? (i := 55) rfl)⟩, (Or.inl rfl)⟩) xh17) rfl (xcP (xok_iconst dX3_gives_10 rfl) rfl (xcP (xok_isub dX3_gives_11) rfl (xcP (xok_putfield (ref := "WaysAtlas$Run") (Or.inl ⟨rfl, by decide, rfl⟩) dX3_gives_12 (Or.inr ⟨⟨"WaysAtlas", (List.mem_of_getElem? (i := 55) rfl)⟩, (Or.inl rfl)⟩) (Or.inl rfl) xh17) rfl (xcP (xok_aload_n dX3_gives_15 rfl) rfl (xcP (xok_getfield (ref := "WaysAtlas$Run") (Or.inl ⟨rfl, by decide⟩) dX3_gives_16 (Or.inr ⟨⟨"WaysAtlas", (List.mem_of_getElem? (i := 55) rfl)⟩, (Or.inl rfl)⟩) xh17) rfl (xcP (xok_ifne dX3_gives_19 (by decide)) rfl (xcP (xok_aload_n dX3_gives_22 rfl) rfl (xcP (xok_iconst dX3_gives_23 rfl) rfl (xcP (xok_putfield (ref := "WaysAtlas$Run") (Or.inl ⟨rfl, by decide, rfl⟩) dX3_gives_24 (Or.inr ⟨⟨"WaysAtlas", (List.mem_of_getElem? (i := 57) rfl)⟩, (Or.inl rfl)⟩) (Or.inl rfl) xh28) rfl (xcP (xok_aload_n dX3_gives_27 rfl) rfl (xcP (xok_iload_n dX3_gives_28 rfl) rfl (xcP (xok_putfield (ref := "WaysAtlas$Run") (Or.inl ⟨rfl, by decide, rfl⟩) dX3_gives_29 (Or.inr ⟨⟨"WaysAtlas", (List.mem_of_getElem? (i := 56) rfl)⟩, (Or.inl rfl)⟩) (Or.inl rfl) xh29) rfl (xcR ⟨dX3_gives_32, rfl⟩))))))))))))))))))
theorem okX3_gives_33 : XOkL xms rX3_gives bX3_gives_33 := xcP (xok_aload_n dX3_gives_33 rfl) rfl (xcC0 (xokc_list (List.forall_mem_cons.mpr ⟨xokc_V (r := (RX5, TX5, 34)) xm84 (List.mem_of_getElem? (i := 5) rfl) (by decide) rfl dX3_gives_34 q1783 q1572 q1573 q143 q1574 (by decide +kernel), fun _ h => nomatch h⟩)) rfl (xcP (xok_astore dX3_gives_37) rfl (xcP (xok_aload_n dX3_gives_39 rfl) rfl (xcP (xok_getfield (ref := "WaysAtlas$Program") (Or.inr ⟨rfl, by decide⟩) dX3_gives_40 (Or.inl ⟨q293, (Or.inl rfl)⟩) xh1022) rfl (xcP (xok_aload_n dX3_gives_43 rfl) rfl (xcP (xok_getfield (ref := "WaysAtlas$Program") (Or.inr ⟨rfl, by decide⟩) dX3_gives_44 (Or.inl ⟨q306, (Or.inl rfl)⟩) xh1025) rfl (xcP (xok_getfield (ref := "WaysAtlas$Lower") (Or.inr ⟨rfl, by decide⟩) dX3_gives_47 (Or.inr ⟨⟨"WaysAtlas", (List.mem_of_getElem? (i := 39) rfl)⟩, (Or.inl rfl)⟩) xh1143) rfl (xcP (xok_iconst dX3_gives_50 rfl) rfl (xcP (xok_aload dX3_gives_51) rfl (xcP (xok_getfield (ref := "WaysAtlas$Frame") (Or.inl ⟨rfl, by decide⟩) dX3_gives_53 (Or.inr ⟨⟨"WaysAtlas", (List.mem_of_getElem? (i := 60) rfl)⟩, (Or.inl rfl)⟩) xh36) rfl (xcP (xok_iconst dX3_gives_56 rfl) rfl (xcP (xok_isub dX3_gives_57) rfl (xcP (xok_imul dX3_gives_58) rfl (xcP (xok_iconst dX3_gives_59 rfl) rfl (xcP (xok_iadd dX3_gives_60) rfl (xcP (xok_iaload dX3_gives_61) rfl (xcP (xok_aaload (by decide) rfl dX3_gives_62) rfl (xcP (xok_checkcast (E := "WaysAtlas$Call") dX3_gives_63 q1795 xfc_Call) rfl (xcP (xok_astore dX3_gives_66) rfl (xcP (xok_aload dX3_gives_68) rfl (xcP (xok_getfield (ref := "WaysAtlas$Call") (Or.inl ⟨rfl, by decide⟩) dX3_gives_70 (Or.inr ⟨⟨"WaysAtlas", (List.mem_of_getElem? (i := 44) rfl)⟩, (Or.inl rfl)⟩) xh83) rfl (xcP (xok_bipush dX3_gives_73 rfl) rfl (xcP (xok_icmpeq dX3_gives_75 (by decide)) rfl (xcP (xok_aload dX3_gives_78) rfl (xcP (xok_getfield (ref := "WaysAtlas$Frame") (Or.inr ⟨rfl, by decide⟩) dX3_gives_80 (Or.inr ⟨⟨"WaysAtlas", (List.mem_of_getElem? (i := 45) rfl)⟩, (Or.inl rfl)⟩) xh1053) rfl (xcP (xok_aload dX3_gives_83) rfl (xcP (xok_getfield (ref := "WaysAtlas$Call") (Or.inl ⟨rfl, by decide⟩) dX3_gives_85 (Or.inr ⟨⟨"WaysAtlas", (List.mem_of_getElem? (i := 44) rfl)⟩, (Or.inl rfl)⟩) xh83) rfl (xcP (xok_iload_n dX3_gives_88 rfl) rfl (xcP (xok_iastore dX3_gives_89) rfl (xcP xok_fal rfl trivial))))))))))))))))))))))))))))))
theorem okX3_gives_90 : XOkL xms rX3_gives bX3_gives_90 := xcR ⟨dX3_gives_90, rfl⟩
theorem okM_X3_gives : XOkM xms rX3_gives := xokM0 (List.forall_mem_cons.mpr ⟨⟨rfl, okX3_gives_0⟩, List.forall_mem_cons.mpr ⟨⟨rfl, okX3_gives_33⟩, List.forall_mem_cons.mpr ⟨⟨rfl, okX3_gives_90⟩, fun _ h => nomatch h⟩⟩⟩) (xokH0 rfl (fun _ _ => rfl)) (by decide +kernel) (by decide)
abbrev cX3_ways : ByteArray := prog_19_method_10_code
def dkwX3_ways_13 : List UInt8 := [21, 5, 79, 167, 0, 14, 44, 44, 180, 0, 127, 21, 5, 46, 181, 0, 94, 177]
abbrev dktX3_ways_13 : List UInt8 := dkwX3_ways_13 ++ []
def dkwX3_ways_12 : List UInt8 := [181, 0, 206, 167, 0, 38, 44, 180, 0, 127, 21, 5, 16, 247, 79, 167, 0, 26, 44, 180, 0, 127, 21, 4]
abbrev dktX3_ways_12 : List UInt8 := dkwX3_ways_12 ++ dktX3_ways_13
def dkwX3_ways_11 : List UInt8 := [89, 180, 0, 206, 44, 180, 0, 127, 21, 5, 46, 16, 247, 160, 0, 7, 3, 167, 0, 4, 4, 96]
abbrev dktX3_ways_11 : List UInt8 := dkwX3_ways_11 ++ dktX3_ways_12
def dkwX3_ways_10 : List UInt8 := [180, 0, 127, 21, 5, 46, 182, 0, 199, 191, 43, 89, 180, 0, 206, 4, 96, 181, 0, 206, 167, 0, 67, 43]
abbrev dktX3_ways_10 : List UInt8 := dkwX3_ways_10 ++ dktX3_ways_11
def dkwX3_ways_9 : List UInt8 := [167, 0, 109, 44, 44, 180, 0, 127, 21, 5, 46, 181, 0, 53, 167, 0, 95, 43, 180, 0, 191, 44]
abbrev dktX3_ways_9 : List UInt8 := dkwX3_ways_9 ++ dktX3_ways_10
def dkwX3_ways_8 : List UInt8 := [180, 0, 203, 21, 4, 92, 46, 4, 96, 79, 167, 0, 123, 44, 180, 0, 127, 21, 5, 44, 180, 0, 53, 79]
abbrev dktX3_ways_8 : List UInt8 := dkwX3_ways_8 ++ dktX3_ways_9
def dkwX3_ways_7 : List UInt8 := [182, 0, 195, 54, 8, 21, 8, 16, 247, 159, 0, 147, 43, 180, 0, 191, 21, 8, 182, 0, 199, 191, 43]
abbrev dktX3_ways_7 : List UInt8 := dkwX3_ways_7 ++ dktX3_ways_8
def dkwX3_ways_6 : List UInt8 := [180, 0, 127, 21, 7, 29, 16, 10, 160, 0, 8, 16, 247, 167, 0, 10, 44, 180, 0, 127, 21, 5, 46]
abbrev dktX3_ways_6 : List UInt8 := dkwX3_ways_6 ++ dktX3_ways_7
def dkwX3_ways_5 : List UInt8 := [182, 0, 195, 182, 0, 199, 191, 44, 21, 4, 181, 0, 141, 43, 21, 4, 25, 6, 180, 0, 181, 44]
abbrev dktX3_ways_5 : List UInt8 := dkwX3_ways_5 ++ dktX3_ways_6
def dkwX3_ways_4 : List UInt8 := [16, 247, 159, 0, 223, 43, 180, 0, 191, 43, 21, 4, 21, 8, 44, 180, 0, 127, 21, 7, 43, 180, 0, 188]
abbrev dktX3_ways_4 : List UInt8 := dkwX3_ways_4 ++ dktX3_ways_5
def dkwX3_ways_3 : List UInt8 := [43, 21, 4, 25, 6, 180, 0, 181, 44, 180, 0, 127, 21, 7, 182, 0, 184, 54, 8, 43, 180, 0, 188]
abbrev dktX3_ways_3 : List UInt8 := dkwX3_ways_3 ++ dktX3_ways_4
def dkwX3_ways_2 : List UInt8 := [170, 0, 0, 0, 0, 0, 1, 41, 0, 0, 0, 9, 0, 0, 0, 19, 0, 0, 0, 60, 0, 0, 0, 114, 0, 0, 0, 114, 0, 0, 0, 174, 0, 0, 0, 188, 0, 0, 0, 202, 0, 0, 0, 216, 0, 0, 0, 231, 0, 0, 0, 244, 0, 0, 1, 17, 0, 0, 1, 29]
abbrev dktX3_ways_2 : List UInt8 := dkwX3_ways_2 ++ dktX3_ways_3
def dkwX3_ways_1 : List UInt8 := [199, 0, 7, 3, 167, 0, 9, 25, 6, 7, 182, 0, 178, 54, 7, 29]
abbrev dktX3_ways_1 : List UInt8 := dkwX3_ways_1 ++ dktX3_ways_2
def dkwX3_ways_0 : List UInt8 := [29, 16, 11, 163, 0, 16, 42, 180, 0, 27, 21, 4, 50, 192, 0, 31, 167, 0, 4, 1, 58, 6, 25, 6]
abbrev dktX3_ways_0 : List UInt8 := dkwX3_ways_0 ++ dktX3_ways_1
theorem dksX3_ways_0 : cX3_ways.data.toList.drop 0 = dktX3_ways_0 := by decide +kernel
theorem dksX3_ways_1 : cX3_ways.data.toList.drop 24 = dktX3_ways_1 := dk_seg dksX3_ways_0 24 rfl rfl
theorem dksX3_ways_2 : cX3_ways.data.toList.drop 40 = dktX3_ways_2 := dk_seg dksX3_ways_1 16 rfl rfl
theorem dksX3_ways_3 : cX3_ways.data.toList.drop 100 = dktX3_ways_3 := dk_seg dksX3_ways_2 60 rfl rfl
theorem dksX3_ways_4 : cX3_ways.data.toList.drop 123 = dktX3_ways_4 := dk_seg dksX3_ways_3 23 rfl rfl
theorem dksX3_ways_5 : cX3_ways.data.toList.drop 147 = dktX3_ways_5 := dk_seg dksX3_ways_4 24 rfl rfl
theorem dksX3_ways_6 : cX3_ways.data.toList.drop 169 = dktX3_ways_6 := dk_seg dksX3_ways_5 22 rfl rfl
theorem dksX3_ways_7 : cX3_ways.data.toList.drop 192 = dktX3_ways_7 := dk_seg dksX3_ways_6 23 rfl rfl
theorem dksX3_ways_8 : cX3_ways.data.toList.drop 215 = dktX3_ways_8 := dk_seg dksX3_ways_7 23 rfl rfl
theorem dksX3_ways_9 : cX3_ways.data.toList.drop 239 = dktX3_ways_9 := dk_seg dksX3_ways_8 24 rfl rfl
theorem dksX3_ways_10 : cX3_ways.data.toList.drop 261 = dktX3_ways_10 := dk_seg dksX3_ways_9 22 rfl rfl
theorem dksX3_ways_11 : cX3_ways.data.toList.drop 285 = dktX3_ways_11 := dk_seg dksX3_ways_10 24 rfl rfl
theorem dksX3_ways_12 : cX3_ways.data.toList.drop 307 = dktX3_ways_12 := dk_seg dksX3_ways_11 22 rfl rfl
theorem dksX3_ways_13 : cX3_ways.data.toList.drop 331 = dktX3_ways_13 := dk_seg dksX3_ways_12 24 rfl rfl
theorem dX3_ways_0 : decode cX3_ways 0 = .ok (.iload_n 3, 1) := dk_29 (dk_at dksX3_ways_0 0 rfl rfl)
theorem dX3_ways_1 : decode cX3_ways 1 = .ok (.bipush 11, 2) := dk_16 11 (dk_at dksX3_ways_0 1 rfl rfl)
theorem dX3_ways_3 : decode cX3_ways 3 = .ok (.if_icmp .gt 16, 3) := dk_163 0 16 (dk_at dksX3_ways_0 3 rfl rfl)
theorem dX3_ways_6 : decode cX3_ways 6 = .ok (.aload_n 0, 1) := dk_42 (dk_at dksX3_ways_0 6 rfl rfl)
theorem dX3_ways_7 : decode cX3_ways 7 = .ok (.getfield 27, 3) := dk_180 0 27 (dk_at dksX3_ways_0 7 rfl rfl)
theorem dX3_ways_10 : decode cX3_ways 10 = .ok (.iload 4, 2) := dk_21 4 (dk_at dksX3_ways_0 10 rfl rfl)
theorem dX3_ways_12 : decode cX3_ways 12 = .ok (.aaload, 1) := dk_50 (dk_at dksX3_ways_0 12 rfl rfl)
theorem dX3_ways_13 : decode cX3_ways 13 = .ok (.checkcast 31, 3) := dk_192 0 31 (dk_at dksX3_ways_0 13 rfl rfl)
theorem dX3_ways_16 : decode cX3_ways 16 = .ok (.goto 4, 3) := dk_167 0 4 (dk_at dksX3_ways_0 16 rfl rfl)
theorem dX3_ways_19 : decode cX3_ways 19 = .ok (.aconst_null, 1) := dk_1 (dk_at dksX3_ways_0 19 rfl rfl)
theorem dX3_ways_20 : decode cX3_ways 20 = .ok (.astore 6, 2) := dk_58 6 (dk_at dksX3_ways_0 20 rfl rfl)
theorem dX3_ways_22 : decode cX3_ways 22 = .ok (.aload 6, 2) := dk_25 6 (dk_at dksX3_ways_0 22 rfl rfl)
theorem dX3_ways_24 : decode cX3_ways 24 = .ok (.ifnonnull 7, 3) := dk_199 0 7 (dk_at dksX3_ways_1 0 rfl rfl)
theorem dX3_ways_27 : decode cX3_ways 27 = .ok (.iconst 0, 1) := dk_3 (dk_at dksX3_ways_1 3 rfl rfl)
theorem dX3_ways_28 : decode cX3_ways 28 = .ok (.goto 9, 3) := dk_167 0 9 (dk_at dksX3_ways_1 4 rfl rfl)
theorem dX3_ways_31 : decode cX3_ways 31 = .ok (.aload 6, 2) := dk_25 6 (dk_at dksX3_ways_1 7 rfl rfl)
theorem dX3_ways_33 : decode cX3_ways 33 = .ok (.iconst 4, 1) := dk_7 (dk_at dksX3_ways_1 9 rfl rfl)
theorem dX3_ways_34 : decode cX3_ways 34 = .ok (.invokevirtual 178, 3) := dk_182 0 178 (dk_at dksX3_ways_1 10 rfl rfl)
theorem dX3_ways_37 : decode cX3_ways 37 = .ok (.istore 7, 2) := dk_54 7 (dk_at dksX3_ways_1 13 rfl rfl)
theorem dX3_ways_39 : decode cX3_ways 39 = .ok (.iload_n 3, 1) := dk_29 (dk_at dksX3_ways_1 15 rfl rfl)
theorem dX3_ways_40 : decode cX3_ways 40 = .ok (.tableswitch 297 9 19 #[60, 114, 114, 174, 188, 202, 216, 231, 244, 273, 285], 60) := by decide +kernel
theorem dX3_ways_100 : decode cX3_ways 100 = .ok (.aload_n 1, 1) := dk_43 (dk_at dksX3_ways_3 0 rfl rfl)
theorem dX3_ways_101 : decode cX3_ways 101 = .ok (.iload 4, 2) := dk_21 4 (dk_at dksX3_ways_3 1 rfl rfl)
theorem dX3_ways_103 : decode cX3_ways 103 = .ok (.aload 6, 2) := dk_25 6 (dk_at dksX3_ways_3 3 rfl rfl)
theorem dX3_ways_105 : decode cX3_ways 105 = .ok (.getfield 181, 3) := dk_180 0 181 (dk_at dksX3_ways_3 5 rfl rfl)
theorem dX3_ways_108 : decode cX3_ways 108 = .ok (.aload_n 2, 1) := dk_44 (dk_at dksX3_ways_3 8 rfl rfl)
theorem dX3_ways_109 : decode cX3_ways 109 = .ok (.getfield 127, 3) := dk_180 0 127 (dk_at dksX3_ways_3 9 rfl rfl)
theorem dX3_ways_112 : decode cX3_ways 112 = .ok (.iload 7, 2) := dk_21 7 (dk_at dksX3_ways_3 12 rfl rfl)
theorem dX3_ways_114 : decode cX3_ways 114 = .ok (.invokevirtual 184, 3) := dk_182 0 184 (dk_at dksX3_ways_3 14 rfl rfl)
theorem dX3_ways_117 : decode cX3_ways 117 = .ok (.istore 8, 2) := dk_54 8 (dk_at dksX3_ways_3 17 rfl rfl)
theorem dX3_ways_119 : decode cX3_ways 119 = .ok (.aload_n 1, 1) := dk_43 (dk_at dksX3_ways_3 19 rfl rfl)
theorem dX3_ways_120 : decode cX3_ways 120 = .ok (.getfield 188, 3) := dk_180 0 188 (dk_at dksX3_ways_3 20 rfl rfl)
theorem dX3_ways_123 : decode cX3_ways 123 = .ok (.bipush (-9), 2) := dk_16 247 (dk_at dksX3_ways_4 0 rfl rfl)
theorem dX3_ways_125 : decode cX3_ways 125 = .ok (.if_icmp .eq 223, 3) := dk_159 0 223 (dk_at dksX3_ways_4 2 rfl rfl)
theorem dX3_ways_128 : decode cX3_ways 128 = .ok (.aload_n 1, 1) := dk_43 (dk_at dksX3_ways_4 5 rfl rfl)
theorem dX3_ways_129 : decode cX3_ways 129 = .ok (.getfield 191, 3) := dk_180 0 191 (dk_at dksX3_ways_4 6 rfl rfl)
theorem dX3_ways_132 : decode cX3_ways 132 = .ok (.aload_n 1, 1) := dk_43 (dk_at dksX3_ways_4 9 rfl rfl)
theorem dX3_ways_133 : decode cX3_ways 133 = .ok (.iload 4, 2) := dk_21 4 (dk_at dksX3_ways_4 10 rfl rfl)
theorem dX3_ways_135 : decode cX3_ways 135 = .ok (.iload 8, 2) := dk_21 8 (dk_at dksX3_ways_4 12 rfl rfl)
theorem dX3_ways_137 : decode cX3_ways 137 = .ok (.aload_n 2, 1) := dk_44 (dk_at dksX3_ways_4 14 rfl rfl)
theorem dX3_ways_138 : decode cX3_ways 138 = .ok (.getfield 127, 3) := dk_180 0 127 (dk_at dksX3_ways_4 15 rfl rfl)
theorem dX3_ways_141 : decode cX3_ways 141 = .ok (.iload 7, 2) := dk_21 7 (dk_at dksX3_ways_4 18 rfl rfl)
theorem dX3_ways_143 : decode cX3_ways 143 = .ok (.aload_n 1, 1) := dk_43 (dk_at dksX3_ways_4 20 rfl rfl)
theorem dX3_ways_144 : decode cX3_ways 144 = .ok (.getfield 188, 3) := dk_180 0 188 (dk_at dksX3_ways_4 21 rfl rfl)
theorem dX3_ways_147 : decode cX3_ways 147 = .ok (.invokevirtual 195, 3) := dk_182 0 195 (dk_at dksX3_ways_5 0 rfl rfl)
theorem dX3_ways_150 : decode cX3_ways 150 = .ok (.invokevirtual 199, 3) := dk_182 0 199 (dk_at dksX3_ways_5 3 rfl rfl)
theorem dX3_ways_153 : decode cX3_ways 153 = .ok (.athrow, 1) := dk_191 (dk_at dksX3_ways_5 6 rfl rfl)
theorem dX3_ways_154 : decode cX3_ways 154 = .ok (.aload_n 2, 1) := dk_44 (dk_at dksX3_ways_5 7 rfl rfl)
theorem dX3_ways_155 : decode cX3_ways 155 = .ok (.iload 4, 2) := dk_21 4 (dk_at dksX3_ways_5 8 rfl rfl)
theorem dX3_ways_157 : decode cX3_ways 157 = .ok (.putfield 141, 3) := dk_181 0 141 (dk_at dksX3_ways_5 10 rfl rfl)
theorem dX3_ways_160 : decode cX3_ways 160 = .ok (.aload_n 1, 1) := dk_43 (dk_at dksX3_ways_5 13 rfl rfl)
theorem dX3_ways_161 : decode cX3_ways 161 = .ok (.iload 4, 2) := dk_21 4 (dk_at dksX3_ways_5 14 rfl rfl)
theorem dX3_ways_163 : decode cX3_ways 163 = .ok (.aload 6, 2) := dk_25 6 (dk_at dksX3_ways_5 16 rfl rfl)
theorem dX3_ways_165 : decode cX3_ways 165 = .ok (.getfield 181, 3) := dk_180 0 181 (dk_at dksX3_ways_5 18 rfl rfl)
theorem dX3_ways_168 : decode cX3_ways 168 = .ok (.aload_n 2, 1) := dk_44 (dk_at dksX3_ways_5 21 rfl rfl)
theorem dX3_ways_169 : decode cX3_ways 169 = .ok (.getfield 127, 3) := dk_180 0 127 (dk_at dksX3_ways_6 0 rfl rfl)
theorem dX3_ways_172 : decode cX3_ways 172 = .ok (.iload 7, 2) := dk_21 7 (dk_at dksX3_ways_6 3 rfl rfl)
theorem dX3_ways_174 : decode cX3_ways 174 = .ok (.iload_n 3, 1) := dk_29 (dk_at dksX3_ways_6 5 rfl rfl)
theorem dX3_ways_175 : decode cX3_ways 175 = .ok (.bipush 10, 2) := dk_16 10 (dk_at dksX3_ways_6 6 rfl rfl)
theorem dX3_ways_177 : decode cX3_ways 177 = .ok (.if_icmp .ne 8, 3) := dk_160 0 8 (dk_at dksX3_ways_6 8 rfl rfl)
theorem dX3_ways_180 : decode cX3_ways 180 = .ok (.bipush (-9), 2) := dk_16 247 (dk_at dksX3_ways_6 11 rfl rfl)
theorem dX3_ways_182 : decode cX3_ways 182 = .ok (.goto 10, 3) := dk_167 0 10 (dk_at dksX3_ways_6 13 rfl rfl)
theorem dX3_ways_185 : decode cX3_ways 185 = .ok (.aload_n 2, 1) := dk_44 (dk_at dksX3_ways_6 16 rfl rfl)
theorem dX3_ways_186 : decode cX3_ways 186 = .ok (.getfield 127, 3) := dk_180 0 127 (dk_at dksX3_ways_6 17 rfl rfl)
theorem dX3_ways_189 : decode cX3_ways 189 = .ok (.iload 5, 2) := dk_21 5 (dk_at dksX3_ways_6 20 rfl rfl)
theorem dX3_ways_191 : decode cX3_ways 191 = .ok (.iaload, 1) := dk_46 (dk_at dksX3_ways_6 22 rfl rfl)
theorem dX3_ways_192 : decode cX3_ways 192 = .ok (.invokevirtual 195, 3) := dk_182 0 195 (dk_at dksX3_ways_7 0 rfl rfl)
theorem dX3_ways_195 : decode cX3_ways 195 = .ok (.istore 8, 2) := dk_54 8 (dk_at dksX3_ways_7 3 rfl rfl)
theorem dX3_ways_197 : decode cX3_ways 197 = .ok (.iload 8, 2) := dk_21 8 (dk_at dksX3_ways_7 5 rfl rfl)
theorem dX3_ways_199 : decode cX3_ways 199 = .ok (.bipush (-9), 2) := dk_16 247 (dk_at dksX3_ways_7 7 rfl rfl)
theorem dX3_ways_201 : decode cX3_ways 201 = .ok (.if_icmp .eq 147, 3) := dk_159 0 147 (dk_at dksX3_ways_7 9 rfl rfl)
theorem dX3_ways_204 : decode cX3_ways 204 = .ok (.aload_n 1, 1) := dk_43 (dk_at dksX3_ways_7 12 rfl rfl)
theorem dX3_ways_205 : decode cX3_ways 205 = .ok (.getfield 191, 3) := dk_180 0 191 (dk_at dksX3_ways_7 13 rfl rfl)
theorem dX3_ways_208 : decode cX3_ways 208 = .ok (.iload 8, 2) := dk_21 8 (dk_at dksX3_ways_7 16 rfl rfl)
theorem dX3_ways_210 : decode cX3_ways 210 = .ok (.invokevirtual 199, 3) := dk_182 0 199 (dk_at dksX3_ways_7 18 rfl rfl)
theorem dX3_ways_213 : decode cX3_ways 213 = .ok (.athrow, 1) := dk_191 (dk_at dksX3_ways_7 21 rfl rfl)
theorem dX3_ways_214 : decode cX3_ways 214 = .ok (.aload_n 1, 1) := dk_43 (dk_at dksX3_ways_7 22 rfl rfl)
theorem dX3_ways_215 : decode cX3_ways 215 = .ok (.getfield 203, 3) := dk_180 0 203 (dk_at dksX3_ways_8 0 rfl rfl)
theorem dX3_ways_218 : decode cX3_ways 218 = .ok (.iload 4, 2) := dk_21 4 (dk_at dksX3_ways_8 3 rfl rfl)
theorem dX3_ways_220 : decode cX3_ways 220 = .ok (.dup2, 1) := dk_92 (dk_at dksX3_ways_8 5 rfl rfl)
theorem dX3_ways_221 : decode cX3_ways 221 = .ok (.iaload, 1) := dk_46 (dk_at dksX3_ways_8 6 rfl rfl)
theorem dX3_ways_222 : decode cX3_ways 222 = .ok (.iconst 1, 1) := dk_4 (dk_at dksX3_ways_8 7 rfl rfl)
theorem dX3_ways_223 : decode cX3_ways 223 = .ok (.iadd, 1) := dk_96 (dk_at dksX3_ways_8 8 rfl rfl)
theorem dX3_ways_224 : decode cX3_ways 224 = .ok (.iastore, 1) := dk_79 (dk_at dksX3_ways_8 9 rfl rfl)
theorem dX3_ways_225 : decode cX3_ways 225 = .ok (.goto 123, 3) := dk_167 0 123 (dk_at dksX3_ways_8 10 rfl rfl)
theorem dX3_ways_228 : decode cX3_ways 228 = .ok (.aload_n 2, 1) := dk_44 (dk_at dksX3_ways_8 13 rfl rfl)
theorem dX3_ways_229 : decode cX3_ways 229 = .ok (.getfield 127, 3) := dk_180 0 127 (dk_at dksX3_ways_8 14 rfl rfl)
theorem dX3_ways_232 : decode cX3_ways 232 = .ok (.iload 5, 2) := dk_21 5 (dk_at dksX3_ways_8 17 rfl rfl)
theorem dX3_ways_234 : decode cX3_ways 234 = .ok (.aload_n 2, 1) := dk_44 (dk_at dksX3_ways_8 19 rfl rfl)
theorem dX3_ways_235 : decode cX3_ways 235 = .ok (.getfield 53, 3) := dk_180 0 53 (dk_at dksX3_ways_8 20 rfl rfl)
theorem dX3_ways_238 : decode cX3_ways 238 = .ok (.iastore, 1) := dk_79 (dk_at dksX3_ways_8 23 rfl rfl)
theorem dX3_ways_239 : decode cX3_ways 239 = .ok (.goto 109, 3) := dk_167 0 109 (dk_at dksX3_ways_9 0 rfl rfl)
theorem dX3_ways_242 : decode cX3_ways 242 = .ok (.aload_n 2, 1) := dk_44 (dk_at dksX3_ways_9 3 rfl rfl)
theorem dX3_ways_243 : decode cX3_ways 243 = .ok (.aload_n 2, 1) := dk_44 (dk_at dksX3_ways_9 4 rfl rfl)
theorem dX3_ways_244 : decode cX3_ways 244 = .ok (.getfield 127, 3) := dk_180 0 127 (dk_at dksX3_ways_9 5 rfl rfl)
theorem dX3_ways_247 : decode cX3_ways 247 = .ok (.iload 5, 2) := dk_21 5 (dk_at dksX3_ways_9 8 rfl rfl)
theorem dX3_ways_249 : decode cX3_ways 249 = .ok (.iaload, 1) := dk_46 (dk_at dksX3_ways_9 10 rfl rfl)
theorem dX3_ways_250 : decode cX3_ways 250 = .ok (.putfield 53, 3) := dk_181 0 53 (dk_at dksX3_ways_9 11 rfl rfl)
theorem dX3_ways_253 : decode cX3_ways 253 = .ok (.goto 95, 3) := dk_167 0 95 (dk_at dksX3_ways_9 14 rfl rfl)
theorem dX3_ways_256 : decode cX3_ways 256 = .ok (.aload_n 1, 1) := dk_43 (dk_at dksX3_ways_9 17 rfl rfl)
theorem dX3_ways_257 : decode cX3_ways 257 = .ok (.getfield 191, 3) := dk_180 0 191 (dk_at dksX3_ways_9 18 rfl rfl)
theorem dX3_ways_260 : decode cX3_ways 260 = .ok (.aload_n 2, 1) := dk_44 (dk_at dksX3_ways_9 21 rfl rfl)
theorem dX3_ways_261 : decode cX3_ways 261 = .ok (.getfield 127, 3) := dk_180 0 127 (dk_at dksX3_ways_10 0 rfl rfl)
theorem dX3_ways_264 : decode cX3_ways 264 = .ok (.iload 5, 2) := dk_21 5 (dk_at dksX3_ways_10 3 rfl rfl)
theorem dX3_ways_266 : decode cX3_ways 266 = .ok (.iaload, 1) := dk_46 (dk_at dksX3_ways_10 5 rfl rfl)
theorem dX3_ways_267 : decode cX3_ways 267 = .ok (.invokevirtual 199, 3) := dk_182 0 199 (dk_at dksX3_ways_10 6 rfl rfl)
theorem dX3_ways_270 : decode cX3_ways 270 = .ok (.athrow, 1) := dk_191 (dk_at dksX3_ways_10 9 rfl rfl)
theorem dX3_ways_271 : decode cX3_ways 271 = .ok (.aload_n 1, 1) := dk_43 (dk_at dksX3_ways_10 10 rfl rfl)
theorem dX3_ways_272 : decode cX3_ways 272 = .ok (.dup, 1) := dk_89 (dk_at dksX3_ways_10 11 rfl rfl)
theorem dX3_ways_273 : decode cX3_ways 273 = .ok (.getfield 206, 3) := dk_180 0 206 (dk_at dksX3_ways_10 12 rfl rfl)
theorem dX3_ways_276 : decode cX3_ways 276 = .ok (.iconst 1, 1) := dk_4 (dk_at dksX3_ways_10 15 rfl rfl)
theorem dX3_ways_277 : decode cX3_ways 277 = .ok (.iadd, 1) := dk_96 (dk_at dksX3_ways_10 16 rfl rfl)
theorem dX3_ways_278 : decode cX3_ways 278 = .ok (.putfield 206, 3) := dk_181 0 206 (dk_at dksX3_ways_10 17 rfl rfl)
theorem dX3_ways_281 : decode cX3_ways 281 = .ok (.goto 67, 3) := dk_167 0 67 (dk_at dksX3_ways_10 20 rfl rfl)
theorem dX3_ways_284 : decode cX3_ways 284 = .ok (.aload_n 1, 1) := dk_43 (dk_at dksX3_ways_10 23 rfl rfl)
theorem dX3_ways_285 : decode cX3_ways 285 = .ok (.dup, 1) := dk_89 (dk_at dksX3_ways_11 0 rfl rfl)
theorem dX3_ways_286 : decode cX3_ways 286 = .ok (.getfield 206, 3) := dk_180 0 206 (dk_at dksX3_ways_11 1 rfl rfl)
theorem dX3_ways_289 : decode cX3_ways 289 = .ok (.aload_n 2, 1) := dk_44 (dk_at dksX3_ways_11 4 rfl rfl)
theorem dX3_ways_290 : decode cX3_ways 290 = .ok (.getfield 127, 3) := dk_180 0 127 (dk_at dksX3_ways_11 5 rfl rfl)
theorem dX3_ways_293 : decode cX3_ways 293 = .ok (.iload 5, 2) := dk_21 5 (dk_at dksX3_ways_11 8 rfl rfl)
theorem dX3_ways_295 : decode cX3_ways 295 = .ok (.iaload, 1) := dk_46 (dk_at dksX3_ways_11 10 rfl rfl)
theorem dX3_ways_296 : decode cX3_ways 296 = .ok (.bipush (-9), 2) := dk_16 247 (dk_at dksX3_ways_11 11 rfl rfl)
theorem dX3_ways_298 : decode cX3_ways 298 = .ok (.if_icmp .ne 7, 3) := dk_160 0 7 (dk_at dksX3_ways_11 13 rfl rfl)
theorem dX3_ways_301 : decode cX3_ways 301 = .ok (.iconst 0, 1) := dk_3 (dk_at dksX3_ways_11 16 rfl rfl)
theorem dX3_ways_302 : decode cX3_ways 302 = .ok (.goto 4, 3) := dk_167 0 4 (dk_at dksX3_ways_11 17 rfl rfl)
theorem dX3_ways_305 : decode cX3_ways 305 = .ok (.iconst 1, 1) := dk_4 (dk_at dksX3_ways_11 20 rfl rfl)
theorem dX3_ways_306 : decode cX3_ways 306 = .ok (.iadd, 1) := dk_96 (dk_at dksX3_ways_11 21 rfl rfl)
theorem dX3_ways_307 : decode cX3_ways 307 = .ok (.putfield 206, 3) := dk_181 0 206 (dk_at dksX3_ways_12 0 rfl rfl)
theorem dX3_ways_310 : decode cX3_ways 310 = .ok (.goto 38, 3) := dk_167 0 38 (dk_at dksX3_ways_12 3 rfl rfl)
theorem dX3_ways_313 : decode cX3_ways 313 = .ok (.aload_n 2, 1) := dk_44 (dk_at dksX3_ways_12 6 rfl rfl)
theorem dX3_ways_314 : decode cX3_ways 314 = .ok (.getfield 127, 3) := dk_180 0 127 (dk_at dksX3_ways_12 7 rfl rfl)
theorem dX3_ways_317 : decode cX3_ways 317 = .ok (.iload 5, 2) := dk_21 5 (dk_at dksX3_ways_12 10 rfl rfl)
theorem dX3_ways_319 : decode cX3_ways 319 = .ok (.bipush (-9), 2) := dk_16 247 (dk_at dksX3_ways_12 12 rfl rfl)
theorem dX3_ways_321 : decode cX3_ways 321 = .ok (.iastore, 1) := dk_79 (dk_at dksX3_ways_12 14 rfl rfl)
theorem dX3_ways_322 : decode cX3_ways 322 = .ok (.goto 26, 3) := dk_167 0 26 (dk_at dksX3_ways_12 15 rfl rfl)
theorem dX3_ways_325 : decode cX3_ways 325 = .ok (.aload_n 2, 1) := dk_44 (dk_at dksX3_ways_12 18 rfl rfl)
theorem dX3_ways_326 : decode cX3_ways 326 = .ok (.getfield 127, 3) := dk_180 0 127 (dk_at dksX3_ways_12 19 rfl rfl)
theorem dX3_ways_329 : decode cX3_ways 329 = .ok (.iload 4, 2) := dk_21 4 (dk_at dksX3_ways_12 22 rfl rfl)
theorem dX3_ways_331 : decode cX3_ways 331 = .ok (.iload 5, 2) := dk_21 5 (dk_at dksX3_ways_13 0 rfl rfl)
theorem dX3_ways_333 : decode cX3_ways 333 = .ok (.iastore, 1) := dk_79 (dk_at dksX3_ways_13 2 rfl rfl)
theorem dX3_ways_334 : decode cX3_ways 334 = .ok (.goto 14, 3) := dk_167 0 14 (dk_at dksX3_ways_13 3 rfl rfl)
theorem dX3_ways_337 : decode cX3_ways 337 = .ok (.aload_n 2, 1) := dk_44 (dk_at dksX3_ways_13 6 rfl rfl)
theorem dX3_ways_338 : decode cX3_ways 338 = .ok (.aload_n 2, 1) := dk_44 (dk_at dksX3_ways_13 7 rfl rfl)
theorem dX3_ways_339 : decode cX3_ways 339 = .ok (.getfield 127, 3) := dk_180 0 127 (dk_at dksX3_ways_13 8 rfl rfl)
theorem dX3_ways_342 : decode cX3_ways 342 = .ok (.iload 5, 2) := dk_21 5 (dk_at dksX3_ways_13 11 rfl rfl)
theorem dX3_ways_344 : decode cX3_ways 344 = .ok (.iaload, 1) := dk_46 (dk_at dksX3_ways_13 13 rfl rfl)
theorem dX3_ways_345 : decode cX3_ways 345 = .ok (.putfield 94, 3) := dk_181 0 94 (dk_at dksX3_ways_13 14 rfl rfl)
theorem dX3_ways_348 : decode cX3_ways 348 = .ok (.return_, 1) := dk_177 (dk_at dksX3_ways_13 17 rfl rfl)
theorem okX3_ways_0 : XOkL xms rX3_ways bX3_ways_0 := xcP (xok_iload_n dX3_ways_0 rfl) rfl (xcP (xok_bipush dX3_ways_1 rfl) rfl (xcP (xok_icmpgt dX3_ways_3 (by decide)) rfl (xcP (xok_aload_n dX3_ways_6 rfl) rfl (xcP (xok_getfield (ref := "WaysAtlas$Program") (Or.inr ⟨rfl, by decide⟩) dX3_ways_7 (Or.inl ⟨q293, (Or.inl rfl)⟩) xh1022) rfl (xcP (xok_iload dX3_ways_10) rfl (xcP (xok_aaload (by decide) rfl dX3_ways_12) rfl (xcP (xok_checkcast (E := "WaysAtlas$Guard") dX3_ways_13 q280 xfc_Guard) rfl (xcP (xok_goto dX3_ways_16 (by decide)) rfl trivial))))))))
theorem okX3_ways_19 : XOkL xms rX3_ways bX3_ways_19 := xcP (xok_null dX3_ways_19) rfl (xcP xok_fal rfl trivial)
theorem okX3_ways_20 : XOkL xms rX3_ways bX3_ways_20 := xcP (xok_astore dX3_ways_20) rfl (xcP (xok_aload dX3_ways_22) rfl (xcP (xok_ifnonnull dX3_ways_24 (by decide)) rfl (xcP (xok_iconst dX3_ways_27 rfl) rfl (xcP (xok_goto dX3_ways_28 (by decide)) rfl trivial))))
theorem okX3_ways_31 : XOkL xms rX3_ways bX3_ways_31 := xcP (xok_aload dX3_ways_31) rfl (xcP (xok_iconst dX3_ways_33 rfl) rfl (xcC0 (xokc_list (List.forall_mem_cons.mpr ⟨xokc_V (r := (RX31, TX31, 7)) xm261 (List.mem_of_getElem? (i := 28) rfl) (by decide) rfl dX3_ways_34 q1814 q1370 q1371 q176 q1372 (by decide +kernel), fun _ h => nomatch h⟩)) rfl (xcP xok_fal rfl trivial)))
theorem okX3_ways_37 : XOkL xms rX3_ways bX3_ways_37 := xcP (xok_istore dX3_ways_37) rfl (xcP (xok_iload_n dX3_ways_39 rfl) rfl (xcP (xok_tsw dX3_ways_40 (by decide) (by decide) (by decide)) rfl trivial))
theorem okX3_ways_100 : XOkL xms rX3_ways bX3_ways_100 := xcP (xok_aload_n dX3_ways_100 rfl) rfl (xcP (xok_iload dX3_ways_101) rfl (xcP (xok_aload dX3_ways_103) rfl (xcP (xok_getfield (ref := "WaysAtlas$Guard") (Or.inl ⟨rfl, by decide⟩) dX3_ways_105 (Or.inr ⟨⟨"WaysAtlas", (List.mem_of_getElem? (i := 47) rfl)⟩, (Or.inl rfl)⟩) xh94) rfl (xcP (xok_aload_n dX3_ways_108 rfl) rfl (xcP (xok_getfield (ref := "WaysAtlas$Frame") (Or.inr ⟨rfl, by decide⟩) dX3_ways_109 (Or.inr ⟨⟨"WaysAtlas", (List.mem_of_getElem? (i := 43) rfl)⟩, (Or.inl rfl)⟩) xh1055) rfl (xcP (xok_iload dX3_ways_112) rfl (xcC0 (xokc_list (List.forall_mem_cons.mpr ⟨xokc_V (r := (RX5, TX5, 34)) xm86 (List.mem_of_getElem? (i := 5) rfl) (by decide) rfl dX3_ways_114 q1815 q1664 q1665 q143 q1666 (by decide +kernel), fun _ h => nomatch h⟩)) rfl (xcP (xok_istore dX3_ways_117) rfl (xcP (xok_aload_n dX3_ways_119 rfl) rfl (xcP (xok_getfield (ref := "WaysAtlas$Run") (Or.inl ⟨rfl, by decide⟩) dX3_ways_120 (Or.inr ⟨⟨"WaysAtlas", (List.mem_of_getElem? (i := 48) rfl)⟩, (Or.inl rfl)⟩) xh31) rfl (xcP (xok_bipush dX3_ways_123 rfl) rfl (xcP (xok_icmpeq dX3_ways_125 (by decide)) rfl (xcP (xok_aload_n dX3_ways_128 rfl) rfl (xcP (xok_getfield (ref := "WaysAtlas$Run") (Or.inr ⟨rfl, by decide⟩) dX3_ways_129 (Or.inr ⟨⟨"WaysAtlas", (List.mem_of_getElem? (i := 49) rfl)⟩, (Or.inl rfl)⟩) xh1046) rfl (xcP (xok_aload_n dX3_ways_132 rfl) rfl (xcP (xok_iload dX3_ways_133) rfl (xcP (xok_iload dX3_ways_135) rfl (xcP (xok_aload_n dX3_ways_137 rfl) rfl (xcP (xok_getfield (ref := "WaysAtlas$Frame") (Or.inr ⟨rfl, by decide⟩) dX3_ways_138 (Or.inr ⟨⟨"WaysAtlas", (List.mem_of_getElem? (i := 43) rfl)⟩, (Or.inl rfl)⟩) xh1055) rfl (xcP (xok_iload dX3_ways_141) rfl (xcP (xok_aload_n dX3_ways_143 rfl) rfl (xcP (xok_getfield (ref := "WaysAtlas$Run") (Or.inl ⟨rfl, by decide⟩) dX3_ways_144 (Or.inr ⟨⟨"WaysAtlas", (List.mem_of_getElem? (i := 48) rfl)⟩, (Or.inl rfl)⟩) xh31) rfl (xcC0 (xokc_list (List.forall_mem_cons.mpr ⟨xokc_V (r := (RX5, TX5, 34)) xm88 (List.mem_of_getElem? (i := 5) rfl) (by decide) rfl dX3_ways_147 q1816 q1678 q1679 q143 q1680 (by decide +kernel), fun _ h => nomatch h⟩)) rfl (xcC0 (xokc_list (List.forall_mem_cons.mpr ⟨xokc_V (r := (RX6, TX6, 7)) xm93 (List.mem_of_getElem? (i := 6) rfl) (by decide) rfl dX3_ways_150 q1817 q1576 q1577 q146 q1578 (by decide +kernel), fun _ h => nomatch h⟩)) rfl (xcT dX3_ways_153)))))))))))))))))))))))))
theorem okX3_ways_154 : XOkL xms rX3_ways bX3_ways_154 := xcP (xok_aload_n dX3_ways_154 rfl) rfl (xcP (xok_iload dX3_ways_155) rfl (xcP (xok_putfield (ref := "WaysAtlas$Frame") (Or.inl ⟨rfl, by decide, rfl⟩) dX3_ways_157 (Or.inr ⟨⟨"WaysAtlas", (List.mem_of_getElem? (i := 46) rfl)⟩, (Or.inl rfl)⟩) (Or.inl rfl) xh35) rfl (xcP (xok_aload_n dX3_ways_160 rfl) rfl (xcP (xok_iload dX3_ways_161) rfl (xcP (xok_aload dX3_ways_163) rfl (xcP (xok_getfield (ref := "WaysAtlas$Guard") (Or.inl ⟨rfl, by decide⟩) dX3_ways_165 (Or.inr ⟨⟨"WaysAtlas", (List.mem_of_getElem? (i := 47) rfl)⟩, (Or.inl rfl)⟩) xh94) rfl (xcP (xok_aload_n dX3_ways_168 rfl) rfl (xcP (xok_getfield (ref := "WaysAtlas$Frame") (Or.inr ⟨rfl, by decide⟩) dX3_ways_169 (Or.inr ⟨⟨"WaysAtlas", (List.mem_of_getElem? (i := 43) rfl)⟩, (Or.inl rfl)⟩) xh1055) rfl (xcP (xok_iload dX3_ways_172) rfl (xcP (xok_iload_n dX3_ways_174 rfl) rfl (xcP (xok_bipush dX3_ways_175 rfl) rfl (xcP (xok_icmpne dX3_ways_177 (by decide)) rfl (xcP (xok_bipush dX3_ways_180 rfl) rfl (xcP (xok_goto dX3_ways_182 (by decide)) rfl trivial))))))))))))))
theorem okX3_ways_185 : XOkL xms rX3_ways bX3_ways_185 := xcP (xok_aload_n dX3_ways_185 rfl) rfl (xcP (xok_getfield (ref := "WaysAtlas$Frame") (Or.inr ⟨rfl, by decide⟩) dX3_ways_186 (Or.inr ⟨⟨"WaysAtlas", (List.mem_of_getElem? (i := 43) rfl)⟩, (Or.inl rfl)⟩) xh1055) rfl (xcP (xok_iload dX3_ways_189) rfl (xcP (xok_iaload dX3_ways_191) rfl (xcP xok_fal rfl trivial))))
theorem okX3_ways_192 : XOkL xms rX3_ways bX3_ways_192 := xcC0 (xokc_list (List.forall_mem_cons.mpr ⟨xokc_V (r := (RX5, TX5, 34)) xm88 (List.mem_of_getElem? (i := 5) rfl) (by decide) rfl dX3_ways_192 q1816 q1678 q1679 q143 q1680 (by decide +kernel), fun _ h => nomatch h⟩)) rfl (xcP (xok_istore dX3_ways_195) rfl (xcP (xok_iload dX3_ways_197) rfl (xcP (xok_bipush dX3_ways_199 rfl) rfl (xcP (xok_icmpeq dX3_ways_201 (by decide)) rfl (xcP (xok_aload_n dX3_ways_204 rfl) rfl (xcP (xok_getfield (ref := "WaysAtlas$Run") (Or.inr ⟨rfl, by decide⟩) dX3_ways_205 (Or.inr ⟨⟨"WaysAtlas", (List.mem_of_getElem? (i := 49) rfl)⟩, (Or.inl rfl)⟩) xh1046) rfl (xcP (xok_iload dX3_ways_208) rfl (xcC0 (xokc_list (List.forall_mem_cons.mpr ⟨xokc_V (r := (RX6, TX6, 7)) xm93 (List.mem_of_getElem? (i := 6) rfl) (by decide) rfl dX3_ways_210 q1817 q1576 q1577 q146 q1578 (by decide +kernel), fun _ h => nomatch h⟩)) rfl (xcT dX3_ways_213)))))))))
theorem okX3_ways_214 : XOkL xms rX3_ways bX3_ways_214 := xcP (xok_aload_n dX3_ways_214 rfl) rfl (xcP (xok_getfield (ref := "WaysAtlas$Run") (Or.inr ⟨rfl, by decide⟩) dX3_ways_215 (Or.inr ⟨⟨"WaysAtlas", (List.mem_of_getElem? (i := 50) rfl)⟩, (Or.inl rfl)⟩) xh1041) rfl (xcP (xok_iload dX3_ways_218) rfl (xcP (xok_dup2 dX3_ways_220) rfl (xcP (xok_iaload dX3_ways_221) rfl (xcP (xok_iconst dX3_ways_222 rfl) rfl (xcP (xok_iadd dX3_ways_223) rfl (xcP (xok_iastore dX3_ways_224) rfl (xcP (xok_goto dX3_ways_225 (by decide)) rfl trivial))))))))
theorem okX3_ways_228 : XOkL xms rX3_ways bX3_ways_228 := xcP (xok_aload_n dX3_ways_228 rfl) rfl (xcP (xok_getfield (ref := "WaysAtlas$Frame") (Or.inr ⟨rfl, by decide⟩) dX3_ways_229 (Or.inr ⟨⟨"WaysAtlas", (List.mem_of_getElem? (i := 43) rfl)⟩, (Or.inl rfl)⟩) xh1055) rfl (xcP (xok_iload dX3_ways_232) rfl (xcP (xok_aload_n dX3_ways_234 rfl) rfl (xcP (xok_getfield (ref := "WaysAtlas$Frame") (Or.inl ⟨rfl, by decide⟩) dX3_ways_235 (Or.inr ⟨⟨"WaysAtlas", (List.mem_of_getElem? (i := 54) rfl)⟩, (Or.inl rfl)⟩) xh34) rfl (xcP (xok_iastore dX3_ways_238) rfl (xcP (xok_goto dX3_ways_239 (by decide)) rfl trivial))))))
theorem okX3_ways_242 : XOkL xms rX3_ways bX3_ways_242 := xcP (xok_aload_n dX3_ways_242 rfl) rfl (xcP (xok_aload_n dX3_ways_243 rfl) rfl (xcP (xok_getfield (ref := "WaysAtlas$Frame") (Or.inr ⟨rfl, by decide⟩) dX3_ways_244 (Or.inr ⟨⟨"WaysAtlas", (List.mem_of_getElem? (i := 43) rfl)⟩, (Or.inl rfl)⟩) xh1055) rfl (xcP (xok_iload dX3_ways_247) rfl (xcP (xok_iaload dX3_ways_249) rfl (xcP (xok_putfield (ref := "WaysAtlas$Frame") (Or.inl ⟨rfl, by decide, rfl⟩) dX3_ways_250 (Or.inr ⟨⟨"WaysAtlas", (List.mem_of_getElem? (i := 54) rfl)⟩, (Or.inl rfl)⟩) (Or.inl rfl) xh34) rfl (xcP (xok_goto dX3_ways_253 (by decide)) rfl trivial))))))
theorem okX3_ways_256 : XOkL xms rX3_ways bX3_ways_256 := xcP (xok_aload_n dX3_ways_256 rfl) rfl (xcP (xok_getfield (ref := "WaysAtlas$Run") (Or.inr ⟨rfl, by decide⟩) dX3_ways_257 (Or.inr ⟨⟨"WaysAtlas", (List.mem_of_getElem? (i := 49) rfl)⟩, (Or.inl rfl)⟩) xh1046) rfl (xcP (xok_aload_n dX3_ways_260 rfl) rfl (xcP (xok_getfield (ref := "WaysAtlas$Frame") (Or.inr ⟨rfl, by decide⟩) dX3_ways_261 (Or.inr ⟨⟨"WaysAtlas", (List.mem_of_getElem? (i := 43) rfl)⟩, (Or.inl rfl)⟩) xh1055) rfl (xcP (xok_iload dX3_ways_264) rfl (xcP (xok_iaload dX3_ways_266) rfl (xcC0 (xokc_list (List.forall_mem_cons.mpr ⟨xokc_V (r := (RX6, TX6, 7)) xm93 (List.mem_of_getElem? (i := 6) rfl) (by decide) rfl dX3_ways_267 q1817 q1576 q1577 q146 q1578 (by decide +kernel), fun _ h => nomatch h⟩)) rfl (xcT dX3_ways_270)))))))
theorem okX3_ways_271 : XOkL xms rX3_ways bX3_ways_271 := xcP (xok_aload_n dX3_ways_271 rfl) rfl (xcP (xok_dup dX3_ways_272) rfl (xcP (xok_getfield (ref := "WaysAtlas$Run") (Or.inl ⟨rfl, by decide⟩) dX3_ways_273 (Or.inr ⟨⟨"WaysAtlas", (List.mem_of_getElem? (i := 51) rfl)⟩, (Or.inl rfl)⟩) xh25) rfl (xcP (xok_iconst dX3_ways_276 rfl) rfl (xcP (xok_iadd dX3_ways_277) rfl (xcP (xok_putfield (ref := "WaysAtlas$Run") (Or.inl ⟨rfl, by decide, rfl⟩) dX3_ways_278 (Or.inr ⟨⟨"WaysAtlas", (List.mem_of_getElem? (i := 51) rfl)⟩, (Or.inl rfl)⟩) (Or.inl rfl) xh25) rfl (xcP (xok_goto dX3_ways_281 (by decide)) rfl trivial))))))
theorem okX3_ways_284 : XOkL xms rX3_ways bX3_ways_284 := xcP (xok_aload_n dX3_ways_284 rfl) rfl (xcP (xok_dup dX3_ways_285) rfl (xcP (xok_getfield (ref := "WaysAtlas$Run") (Or.inl ⟨rfl, by decide⟩) dX3_ways_286 (Or.inr ⟨⟨"WaysAtlas", (List.mem_of_getElem? (i := 51) rfl)⟩, (Or.inl rfl)⟩) xh25) rfl (xcP (xok_aload_n dX3_ways_289 rfl) rfl (xcP (xok_getfield (ref := "WaysAtlas$Frame") (Or.inr ⟨rfl, by decide⟩) dX3_ways_290 (Or.inr ⟨⟨"WaysAtlas", (List.mem_of_getElem? (i := 43) rfl)⟩, (Or.inl rfl)⟩) xh1055) rfl (xcP (xok_iload dX3_ways_293) rfl (xcP (xok_iaload dX3_ways_295) rfl (xcP (xok_bipush dX3_ways_296 rfl) rfl (xcP (xok_icmpne dX3_ways_298 (by decide)) rfl (xcP (xok_iconst dX3_ways_301 rfl) rfl (xcP (xok_goto dX3_ways_302 (by decide)) rfl trivial))))))))))
theorem okX3_ways_305 : XOkL xms rX3_ways bX3_ways_305 := xcP (xok_iconst dX3_ways_305 rfl) rfl (xcP xok_fal rfl trivial)
theorem okX3_ways_306 : XOkL xms rX3_ways bX3_ways_306 := xcP (xok_iadd dX3_ways_306) rfl (xcP (xok_putfield (ref := "WaysAtlas$Run") (Or.inl ⟨rfl, by decide, rfl⟩) dX3_ways_307 (Or.inr ⟨⟨"WaysAtlas", (List.mem_of_getElem? (i := 51) rfl)⟩, (Or.inl rfl)⟩) (Or.inl rfl) xh25) rfl (xcP (xok_goto dX3_ways_310 (by decide)) rfl trivial))
theorem okX3_ways_313 : XOkL xms rX3_ways bX3_ways_313 := xcP (xok_aload_n dX3_ways_313 rfl) rfl (xcP (xok_getfield (ref := "WaysAtlas$Frame") (Or.inr ⟨rfl, by decide⟩) dX3_ways_314 (Or.inr ⟨⟨"WaysAtlas", (List.mem_of_getElem? (i := 43) rfl)⟩, (Or.inl rfl)⟩) xh1055) rfl (xcP (xok_iload dX3_ways_317) rfl (xcP (xok_bipush dX3_ways_319 rfl) rfl (xcP (xok_iastore dX3_ways_321) rfl (xcP (xok_goto dX3_ways_322 (by decide)) rfl trivial)))))
theorem okX3_ways_325 : XOkL xms rX3_ways bX3_ways_325 := xcP (xok_aload_n dX3_ways_325 rfl) rfl (xcP (xok_getfield (ref := "WaysAtlas$Frame") (Or.inr ⟨rfl, by decide⟩) dX3_ways_326 (Or.inr ⟨⟨"WaysAtlas", (List.mem_of_getElem? (i := 43) rfl)⟩, (Or.inl rfl)⟩) xh1055) rfl (xcP (xok_iload dX3_ways_329) rfl (xcP (xok_iload dX3_ways_331) rfl (xcP (xok_iastore dX3_ways_333) rfl (xcP (xok_goto dX3_ways_334 (by decide)) rfl trivial)))))
theorem okX3_ways_337 : XOkL xms rX3_ways bX3_ways_337 := xcP (xok_aload_n dX3_ways_337 rfl) rfl (xcP (xok_aload_n dX3_ways_338 rfl) rfl (xcP (xok_getfield (ref := "WaysAtlas$Frame") (Or.inr ⟨rfl, by decide⟩) dX3_ways_339 (Or.inr ⟨⟨"WaysAtlas", (List.mem_of_getElem? (i := 43) rfl)⟩, (Or.inl rfl)⟩) xh1055) rfl (xcP (xok_iload dX3_ways_342) rfl (xcP (xok_iaload dX3_ways_344) rfl (xcP (xok_putfield (ref := "WaysAtlas$Frame") (Or.inl ⟨rfl, by decide, rfl⟩) dX3_ways_345 (Or.inr ⟨⟨"WaysAtlas", (List.mem_of_getElem? (i := 60) rfl)⟩, (Or.inl rfl)⟩) (Or.inl rfl) xh36) rfl (xcP xok_fal rfl trivial))))))
theorem okX3_ways_348 : XOkL xms rX3_ways bX3_ways_348 := xcR ⟨dX3_ways_348, rfl⟩
theorem okM_X3_ways : XOkM xms rX3_ways := xokM0 (List.forall_mem_cons.mpr ⟨⟨rfl, okX3_ways_0⟩, List.forall_mem_cons.mpr ⟨⟨rfl, okX3_ways_19⟩, List.forall_mem_cons.mpr ⟨⟨rfl, okX3_ways_20⟩, List.forall_mem_cons.mpr ⟨⟨rfl, okX3_ways_31⟩, List.forall_mem_cons.mpr ⟨⟨rfl, okX3_ways_37⟩, List.forall_mem_cons.mpr ⟨⟨rfl, okX3_ways_100⟩, List.forall_mem_cons.mpr ⟨⟨rfl, okX3_ways_154⟩, List.forall_mem_cons.mpr ⟨⟨rfl, okX3_ways_185⟩, List.forall_mem_cons.mpr ⟨⟨rfl, okX3_ways_192⟩, List.forall_mem_cons.mpr ⟨⟨rfl, okX3_ways_214⟩, List.forall_mem_cons.mpr ⟨⟨rfl, okX3_ways_228⟩, List.forall_mem_cons.mpr ⟨⟨rfl, okX3_ways_242⟩, List.forall_mem_cons.mpr ⟨⟨rfl, okX3_ways_256⟩, List.forall_mem_cons.mpr ⟨⟨rfl, okX3_ways_271⟩, List.forall_mem_cons.mpr ⟨⟨rfl, okX3_ways_284⟩, List.forall_mem_cons.mpr ⟨⟨rfl, okX3_ways_305⟩, List.forall_mem_cons.mpr ⟨⟨rfl, okX3_ways_306⟩, List.forall_mem_cons.mpr ⟨⟨rfl, okX3_ways_313⟩, List.forall_mem_cons.mpr ⟨⟨rfl, okX3_ways_325⟩, List.forall_mem_cons.mpr ⟨⟨rfl, okX3_ways_337⟩, List.forall_mem_cons.mpr ⟨⟨rfl, okX3_ways_348⟩, fun _ h => nomatch h⟩⟩⟩⟩⟩⟩⟩⟩⟩⟩⟩⟩⟩⟩⟩⟩⟩⟩⟩⟩⟩) (xokH0 rfl (fun _ _ => rfl)) (by decide +kernel) (by decide)
abbrev cX3_unwinds : ByteArray := prog_19_method_7_code
def dkwX3_unwinds_8 : List UInt8 := [167, 255, 80, 44, 191]
abbrev dktX3_unwinds_8 : List UInt8 := dkwX3_unwinds_8 ++ []
def dkwX3_unwinds_7 : List UInt8 := [5, 96, 46, 181, 0, 94, 177, 132, 6, 5, 167, 255, 118, 43, 89, 180, 0, 56, 4, 100, 181, 0, 56]
abbrev dktX3_unwinds_7 : List UInt8 := dkwX3_unwinds_7 ++ dktX3_unwinds_8
def dkwX3_unwinds_6 : List UInt8 := [180, 0, 120, 21, 6, 7, 96, 46, 44, 180, 0, 80, 79, 25, 4, 42, 180, 0, 97, 180, 0, 120, 21, 6]
abbrev dktX3_unwinds_6 : List UInt8 := dkwX3_unwinds_6 ++ dktX3_unwinds_7
def dkwX3_unwinds_5 : List UInt8 := [180, 0, 120, 21, 6, 6, 96, 46, 182, 0, 123, 153, 0, 43, 25, 4, 180, 0, 127, 42, 180, 0, 97]
abbrev dktX3_unwinds_5 : List UInt8 := dkwX3_unwinds_5 ++ dktX3_unwinds_6
def dkwX3_unwinds_4 : List UInt8 := [180, 0, 97, 180, 0, 120, 21, 6, 6, 96, 46, 16, 247, 159, 0, 23, 42, 29, 42, 180, 0, 97]
abbrev dktX3_unwinds_4 : List UInt8 := dkwX3_unwinds_4 ++ dktX3_unwinds_5
def dkwX3_unwinds_3 : List UInt8 := [180, 0, 120, 21, 6, 4, 96, 46, 162, 0, 7, 4, 167, 0, 4, 3, 54, 7, 21, 7, 153, 0, 80, 42]
abbrev dktX3_unwinds_3 : List UInt8 := dkwX3_unwinds_3 ++ dktX3_unwinds_4
def dkwX3_unwinds_2 : List UInt8 := [162, 0, 130, 21, 5, 42, 180, 0, 97, 180, 0, 120, 21, 6, 46, 161, 0, 24, 21, 5, 42, 180, 0, 97]
abbrev dktX3_unwinds_2 : List UInt8 := dkwX3_unwinds_2 ++ dktX3_unwinds_3
def dkwX3_unwinds_1 : List UInt8 := [25, 4, 180, 0, 94, 4, 100, 54, 5, 3, 54, 6, 21, 6, 8, 42, 180, 0, 97, 180, 0, 117, 104]
abbrev dktX3_unwinds_1 : List UInt8 := dkwX3_unwinds_1 ++ dktX3_unwinds_2
def dkwX3_unwinds_0 : List UInt8 := [43, 180, 0, 114, 44, 180, 0, 80, 46, 62, 43, 180, 0, 56, 158, 0, 175, 43, 182, 0, 86, 58, 4]
abbrev dktX3_unwinds_0 : List UInt8 := dkwX3_unwinds_0 ++ dktX3_unwinds_1
theorem dksX3_unwinds_0 : cX3_unwinds.data.toList.drop 0 = dktX3_unwinds_0 := by decide +kernel
theorem dksX3_unwinds_1 : cX3_unwinds.data.toList.drop 23 = dktX3_unwinds_1 := dk_seg dksX3_unwinds_0 23 rfl rfl
theorem dksX3_unwinds_2 : cX3_unwinds.data.toList.drop 46 = dktX3_unwinds_2 := dk_seg dksX3_unwinds_1 23 rfl rfl
theorem dksX3_unwinds_3 : cX3_unwinds.data.toList.drop 70 = dktX3_unwinds_3 := dk_seg dksX3_unwinds_2 24 rfl rfl
theorem dksX3_unwinds_4 : cX3_unwinds.data.toList.drop 94 = dktX3_unwinds_4 := dk_seg dksX3_unwinds_3 24 rfl rfl
theorem dksX3_unwinds_5 : cX3_unwinds.data.toList.drop 116 = dktX3_unwinds_5 := dk_seg dksX3_unwinds_4 22 rfl rfl
theorem dksX3_unwinds_6 : cX3_unwinds.data.toList.drop 139 = dktX3_unwinds_6 := dk_seg dksX3_unwinds_5 23 rfl rfl
theorem dksX3_unwinds_7 : cX3_unwinds.data.toList.drop 163 = dktX3_unwinds_7 := dk_seg dksX3_unwinds_6 24 rfl rfl
theorem dksX3_unwinds_8 : cX3_unwinds.data.toList.drop 186 = dktX3_unwinds_8 := dk_seg dksX3_unwinds_7 23 rfl rfl
theorem dX3_unwinds_0 : decode cX3_unwinds 0 = .ok (.aload_n 1, 1) := dk_43 (dk_at dksX3_unwinds_0 0 rfl rfl)
theorem dX3_unwinds_1 : decode cX3_unwinds 1 = .ok (.getfield 114, 3) := dk_180 0 114 (dk_at dksX3_unwinds_0 1 rfl rfl)
theorem dX3_unwinds_4 : decode cX3_unwinds 4 = .ok (.aload_n 2, 1) := dk_44 (dk_at dksX3_unwinds_0 4 rfl rfl)
theorem dX3_unwinds_5 : decode cX3_unwinds 5 = .ok (.getfield 80, 3) := dk_180 0 80 (dk_at dksX3_unwinds_0 5 rfl rfl)
theorem dX3_unwinds_8 : decode cX3_unwinds 8 = .ok (.iaload, 1) := dk_46 (dk_at dksX3_unwinds_0 8 rfl rfl)
theorem dX3_unwinds_9 : decode cX3_unwinds 9 = .ok (.istore_n 3, 1) := dk_62 (dk_at dksX3_unwinds_0 9 rfl rfl)
theorem dX3_unwinds_10 : decode cX3_unwinds 10 = .ok (.aload_n 1, 1) := dk_43 (dk_at dksX3_unwinds_0 10 rfl rfl)
theorem dX3_unwinds_11 : decode cX3_unwinds 11 = .ok (.getfield 56, 3) := dk_180 0 56 (dk_at dksX3_unwinds_0 11 rfl rfl)
theorem dX3_unwinds_14 : decode cX3_unwinds 14 = .ok (.ifCond .le 175, 3) := dk_158 0 175 (dk_at dksX3_unwinds_0 14 rfl rfl)
theorem dX3_unwinds_17 : decode cX3_unwinds 17 = .ok (.aload_n 1, 1) := dk_43 (dk_at dksX3_unwinds_0 17 rfl rfl)
theorem dX3_unwinds_18 : decode cX3_unwinds 18 = .ok (.invokevirtual 86, 3) := dk_182 0 86 (dk_at dksX3_unwinds_0 18 rfl rfl)
theorem dX3_unwinds_21 : decode cX3_unwinds 21 = .ok (.astore 4, 2) := dk_58 4 (dk_at dksX3_unwinds_0 21 rfl rfl)
theorem dX3_unwinds_23 : decode cX3_unwinds 23 = .ok (.aload 4, 2) := dk_25 4 (dk_at dksX3_unwinds_1 0 rfl rfl)
theorem dX3_unwinds_25 : decode cX3_unwinds 25 = .ok (.getfield 94, 3) := dk_180 0 94 (dk_at dksX3_unwinds_1 2 rfl rfl)
theorem dX3_unwinds_28 : decode cX3_unwinds 28 = .ok (.iconst 1, 1) := dk_4 (dk_at dksX3_unwinds_1 5 rfl rfl)
theorem dX3_unwinds_29 : decode cX3_unwinds 29 = .ok (.isub, 1) := dk_100 (dk_at dksX3_unwinds_1 6 rfl rfl)
theorem dX3_unwinds_30 : decode cX3_unwinds 30 = .ok (.istore 5, 2) := dk_54 5 (dk_at dksX3_unwinds_1 7 rfl rfl)
theorem dX3_unwinds_32 : decode cX3_unwinds 32 = .ok (.iconst 0, 1) := dk_3 (dk_at dksX3_unwinds_1 9 rfl rfl)
theorem dX3_unwinds_33 : decode cX3_unwinds 33 = .ok (.istore 6, 2) := dk_54 6 (dk_at dksX3_unwinds_1 10 rfl rfl)
theorem dX3_unwinds_35 : decode cX3_unwinds 35 = .ok (.iload 6, 2) := dk_21 6 (dk_at dksX3_unwinds_1 12 rfl rfl)
theorem dX3_unwinds_37 : decode cX3_unwinds 37 = .ok (.iconst 5, 1) := dk_8 (dk_at dksX3_unwinds_1 14 rfl rfl)
theorem dX3_unwinds_38 : decode cX3_unwinds 38 = .ok (.aload_n 0, 1) := dk_42 (dk_at dksX3_unwinds_1 15 rfl rfl)
theorem dX3_unwinds_39 : decode cX3_unwinds 39 = .ok (.getfield 97, 3) := dk_180 0 97 (dk_at dksX3_unwinds_1 16 rfl rfl)
theorem dX3_unwinds_42 : decode cX3_unwinds 42 = .ok (.getfield 117, 3) := dk_180 0 117 (dk_at dksX3_unwinds_1 19 rfl rfl)
theorem dX3_unwinds_45 : decode cX3_unwinds 45 = .ok (.imul, 1) := dk_104 (dk_at dksX3_unwinds_1 22 rfl rfl)
theorem dX3_unwinds_46 : decode cX3_unwinds 46 = .ok (.if_icmp .ge 130, 3) := dk_162 0 130 (dk_at dksX3_unwinds_2 0 rfl rfl)
theorem dX3_unwinds_49 : decode cX3_unwinds 49 = .ok (.iload 5, 2) := dk_21 5 (dk_at dksX3_unwinds_2 3 rfl rfl)
theorem dX3_unwinds_51 : decode cX3_unwinds 51 = .ok (.aload_n 0, 1) := dk_42 (dk_at dksX3_unwinds_2 5 rfl rfl)
theorem dX3_unwinds_52 : decode cX3_unwinds 52 = .ok (.getfield 97, 3) := dk_180 0 97 (dk_at dksX3_unwinds_2 6 rfl rfl)
theorem dX3_unwinds_55 : decode cX3_unwinds 55 = .ok (.getfield 120, 3) := dk_180 0 120 (dk_at dksX3_unwinds_2 9 rfl rfl)
theorem dX3_unwinds_58 : decode cX3_unwinds 58 = .ok (.iload 6, 2) := dk_21 6 (dk_at dksX3_unwinds_2 12 rfl rfl)
theorem dX3_unwinds_60 : decode cX3_unwinds 60 = .ok (.iaload, 1) := dk_46 (dk_at dksX3_unwinds_2 14 rfl rfl)
theorem dX3_unwinds_61 : decode cX3_unwinds 61 = .ok (.if_icmp .lt 24, 3) := dk_161 0 24 (dk_at dksX3_unwinds_2 15 rfl rfl)
theorem dX3_unwinds_64 : decode cX3_unwinds 64 = .ok (.iload 5, 2) := dk_21 5 (dk_at dksX3_unwinds_2 18 rfl rfl)
theorem dX3_unwinds_66 : decode cX3_unwinds 66 = .ok (.aload_n 0, 1) := dk_42 (dk_at dksX3_unwinds_2 20 rfl rfl)
theorem dX3_unwinds_67 : decode cX3_unwinds 67 = .ok (.getfield 97, 3) := dk_180 0 97 (dk_at dksX3_unwinds_2 21 rfl rfl)
theorem dX3_unwinds_70 : decode cX3_unwinds 70 = .ok (.getfield 120, 3) := dk_180 0 120 (dk_at dksX3_unwinds_3 0 rfl rfl)
theorem dX3_unwinds_73 : decode cX3_unwinds 73 = .ok (.iload 6, 2) := dk_21 6 (dk_at dksX3_unwinds_3 3 rfl rfl)
theorem dX3_unwinds_75 : decode cX3_unwinds 75 = .ok (.iconst 1, 1) := dk_4 (dk_at dksX3_unwinds_3 5 rfl rfl)
theorem dX3_unwinds_76 : decode cX3_unwinds 76 = .ok (.iadd, 1) := dk_96 (dk_at dksX3_unwinds_3 6 rfl rfl)
theorem dX3_unwinds_77 : decode cX3_unwinds 77 = .ok (.iaload, 1) := dk_46 (dk_at dksX3_unwinds_3 7 rfl rfl)
theorem dX3_unwinds_78 : decode cX3_unwinds 78 = .ok (.if_icmp .ge 7, 3) := dk_162 0 7 (dk_at dksX3_unwinds_3 8 rfl rfl)
theorem dX3_unwinds_81 : decode cX3_unwinds 81 = .ok (.iconst 1, 1) := dk_4 (dk_at dksX3_unwinds_3 11 rfl rfl)
theorem dX3_unwinds_82 : decode cX3_unwinds 82 = .ok (.goto 4, 3) := dk_167 0 4 (dk_at dksX3_unwinds_3 12 rfl rfl)
theorem dX3_unwinds_85 : decode cX3_unwinds 85 = .ok (.iconst 0, 1) := dk_3 (dk_at dksX3_unwinds_3 15 rfl rfl)
theorem dX3_unwinds_86 : decode cX3_unwinds 86 = .ok (.istore 7, 2) := dk_54 7 (dk_at dksX3_unwinds_3 16 rfl rfl)
theorem dX3_unwinds_88 : decode cX3_unwinds 88 = .ok (.iload 7, 2) := dk_21 7 (dk_at dksX3_unwinds_3 18 rfl rfl)
theorem dX3_unwinds_90 : decode cX3_unwinds 90 = .ok (.ifCond .eq 80, 3) := dk_153 0 80 (dk_at dksX3_unwinds_3 20 rfl rfl)
theorem dX3_unwinds_93 : decode cX3_unwinds 93 = .ok (.aload_n 0, 1) := dk_42 (dk_at dksX3_unwinds_3 23 rfl rfl)
theorem dX3_unwinds_94 : decode cX3_unwinds 94 = .ok (.getfield 97, 3) := dk_180 0 97 (dk_at dksX3_unwinds_4 0 rfl rfl)
theorem dX3_unwinds_97 : decode cX3_unwinds 97 = .ok (.getfield 120, 3) := dk_180 0 120 (dk_at dksX3_unwinds_4 3 rfl rfl)
theorem dX3_unwinds_100 : decode cX3_unwinds 100 = .ok (.iload 6, 2) := dk_21 6 (dk_at dksX3_unwinds_4 6 rfl rfl)
theorem dX3_unwinds_102 : decode cX3_unwinds 102 = .ok (.iconst 3, 1) := dk_6 (dk_at dksX3_unwinds_4 8 rfl rfl)
theorem dX3_unwinds_103 : decode cX3_unwinds 103 = .ok (.iadd, 1) := dk_96 (dk_at dksX3_unwinds_4 9 rfl rfl)
theorem dX3_unwinds_104 : decode cX3_unwinds 104 = .ok (.iaload, 1) := dk_46 (dk_at dksX3_unwinds_4 10 rfl rfl)
theorem dX3_unwinds_105 : decode cX3_unwinds 105 = .ok (.bipush (-9), 2) := dk_16 247 (dk_at dksX3_unwinds_4 11 rfl rfl)
theorem dX3_unwinds_107 : decode cX3_unwinds 107 = .ok (.if_icmp .eq 23, 3) := dk_159 0 23 (dk_at dksX3_unwinds_4 13 rfl rfl)
theorem dX3_unwinds_110 : decode cX3_unwinds 110 = .ok (.aload_n 0, 1) := dk_42 (dk_at dksX3_unwinds_4 16 rfl rfl)
theorem dX3_unwinds_111 : decode cX3_unwinds 111 = .ok (.iload_n 3, 1) := dk_29 (dk_at dksX3_unwinds_4 17 rfl rfl)
theorem dX3_unwinds_112 : decode cX3_unwinds 112 = .ok (.aload_n 0, 1) := dk_42 (dk_at dksX3_unwinds_4 18 rfl rfl)
theorem dX3_unwinds_113 : decode cX3_unwinds 113 = .ok (.getfield 97, 3) := dk_180 0 97 (dk_at dksX3_unwinds_4 19 rfl rfl)
theorem dX3_unwinds_116 : decode cX3_unwinds 116 = .ok (.getfield 120, 3) := dk_180 0 120 (dk_at dksX3_unwinds_5 0 rfl rfl)
theorem dX3_unwinds_119 : decode cX3_unwinds 119 = .ok (.iload 6, 2) := dk_21 6 (dk_at dksX3_unwinds_5 3 rfl rfl)
theorem dX3_unwinds_121 : decode cX3_unwinds 121 = .ok (.iconst 3, 1) := dk_6 (dk_at dksX3_unwinds_5 5 rfl rfl)
theorem dX3_unwinds_122 : decode cX3_unwinds 122 = .ok (.iadd, 1) := dk_96 (dk_at dksX3_unwinds_5 6 rfl rfl)
theorem dX3_unwinds_123 : decode cX3_unwinds 123 = .ok (.iaload, 1) := dk_46 (dk_at dksX3_unwinds_5 7 rfl rfl)
theorem dX3_unwinds_124 : decode cX3_unwinds 124 = .ok (.invokevirtual 123, 3) := dk_182 0 123 (dk_at dksX3_unwinds_5 8 rfl rfl)
theorem dX3_unwinds_127 : decode cX3_unwinds 127 = .ok (.ifCond .eq 43, 3) := dk_153 0 43 (dk_at dksX3_unwinds_5 11 rfl rfl)
theorem dX3_unwinds_130 : decode cX3_unwinds 130 = .ok (.aload 4, 2) := dk_25 4 (dk_at dksX3_unwinds_5 14 rfl rfl)
theorem dX3_unwinds_132 : decode cX3_unwinds 132 = .ok (.getfield 127, 3) := dk_180 0 127 (dk_at dksX3_unwinds_5 16 rfl rfl)
theorem dX3_unwinds_135 : decode cX3_unwinds 135 = .ok (.aload_n 0, 1) := dk_42 (dk_at dksX3_unwinds_5 19 rfl rfl)
theorem dX3_unwinds_136 : decode cX3_unwinds 136 = .ok (.getfield 97, 3) := dk_180 0 97 (dk_at dksX3_unwinds_5 20 rfl rfl)
theorem dX3_unwinds_139 : decode cX3_unwinds 139 = .ok (.getfield 120, 3) := dk_180 0 120 (dk_at dksX3_unwinds_6 0 rfl rfl)
theorem dX3_unwinds_142 : decode cX3_unwinds 142 = .ok (.iload 6, 2) := dk_21 6 (dk_at dksX3_unwinds_6 3 rfl rfl)
theorem dX3_unwinds_144 : decode cX3_unwinds 144 = .ok (.iconst 4, 1) := dk_7 (dk_at dksX3_unwinds_6 5 rfl rfl)
theorem dX3_unwinds_145 : decode cX3_unwinds 145 = .ok (.iadd, 1) := dk_96 (dk_at dksX3_unwinds_6 6 rfl rfl)
theorem dX3_unwinds_146 : decode cX3_unwinds 146 = .ok (.iaload, 1) := dk_46 (dk_at dksX3_unwinds_6 7 rfl rfl)
theorem dX3_unwinds_147 : decode cX3_unwinds 147 = .ok (.aload_n 2, 1) := dk_44 (dk_at dksX3_unwinds_6 8 rfl rfl)
theorem dX3_unwinds_148 : decode cX3_unwinds 148 = .ok (.getfield 80, 3) := dk_180 0 80 (dk_at dksX3_unwinds_6 9 rfl rfl)
theorem dX3_unwinds_151 : decode cX3_unwinds 151 = .ok (.iastore, 1) := dk_79 (dk_at dksX3_unwinds_6 12 rfl rfl)
theorem dX3_unwinds_152 : decode cX3_unwinds 152 = .ok (.aload 4, 2) := dk_25 4 (dk_at dksX3_unwinds_6 13 rfl rfl)
theorem dX3_unwinds_154 : decode cX3_unwinds 154 = .ok (.aload_n 0, 1) := dk_42 (dk_at dksX3_unwinds_6 15 rfl rfl)
theorem dX3_unwinds_155 : decode cX3_unwinds 155 = .ok (.getfield 97, 3) := dk_180 0 97 (dk_at dksX3_unwinds_6 16 rfl rfl)
theorem dX3_unwinds_158 : decode cX3_unwinds 158 = .ok (.getfield 120, 3) := dk_180 0 120 (dk_at dksX3_unwinds_6 19 rfl rfl)
theorem dX3_unwinds_161 : decode cX3_unwinds 161 = .ok (.iload 6, 2) := dk_21 6 (dk_at dksX3_unwinds_6 22 rfl rfl)
theorem dX3_unwinds_163 : decode cX3_unwinds 163 = .ok (.iconst 2, 1) := dk_5 (dk_at dksX3_unwinds_7 0 rfl rfl)
theorem dX3_unwinds_164 : decode cX3_unwinds 164 = .ok (.iadd, 1) := dk_96 (dk_at dksX3_unwinds_7 1 rfl rfl)
theorem dX3_unwinds_165 : decode cX3_unwinds 165 = .ok (.iaload, 1) := dk_46 (dk_at dksX3_unwinds_7 2 rfl rfl)
theorem dX3_unwinds_166 : decode cX3_unwinds 166 = .ok (.putfield 94, 3) := dk_181 0 94 (dk_at dksX3_unwinds_7 3 rfl rfl)
theorem dX3_unwinds_169 : decode cX3_unwinds 169 = .ok (.return_, 1) := dk_177 (dk_at dksX3_unwinds_7 6 rfl rfl)
theorem dX3_unwinds_170 : decode cX3_unwinds 170 = .ok (.iinc 6 5, 3) := dk_132 6 5 (dk_at dksX3_unwinds_7 7 rfl rfl)
theorem dX3_unwinds_173 : decode cX3_unwinds 173 = .ok (.goto (-138), 3) := dk_167 255 118 (dk_at dksX3_unwinds_7 10 rfl rfl)
theorem dX3_unwinds_176 : decode cX3_unwinds 176 = .ok (.aload_n 1, 1) := dk_43 (dk_at dksX3_unwinds_7 13 rfl rfl)
theorem dX3_unwinds_177 : decode cX3_unwinds 177 = .ok (.dup, 1) := dk_89 (dk_at dksX3_unwinds_7 14 rfl rfl)
theorem dX3_unwinds_178 : decode cX3_unwinds 178 = .ok (.getfield 56, 3) := dk_180 0 56 (dk_at dksX3_unwinds_7 15 rfl rfl)
theorem dX3_unwinds_181 : decode cX3_unwinds 181 = .ok (.iconst 1, 1) := dk_4 (dk_at dksX3_unwinds_7 18 rfl rfl)
theorem dX3_unwinds_182 : decode cX3_unwinds 182 = .ok (.isub, 1) := dk_100 (dk_at dksX3_unwinds_7 19 rfl rfl)
theorem dX3_unwinds_183 : decode cX3_unwinds 183 = .ok (.putfield 56, 3) := dk_181 0 56 (dk_at dksX3_unwinds_7 20 rfl rfl)
theorem dX3_unwinds_186 : decode cX3_unwinds 186 = .ok (.goto (-176), 3) := dk_167 255 80 (dk_at dksX3_unwinds_8 0 rfl rfl)
theorem dX3_unwinds_189 : decode cX3_unwinds 189 = .ok (.aload_n 2, 1) := dk_44 (dk_at dksX3_unwinds_8 3 rfl rfl)
theorem dX3_unwinds_190 : decode cX3_unwinds 190 = .ok (.athrow, 1) := dk_191 (dk_at dksX3_unwinds_8 4 rfl rfl)
theorem okX3_unwinds_0 : XOkL xms rX3_unwinds bX3_unwinds_0 := xcP (xok_aload_n dX3_unwinds_0 rfl) rfl (xcP (xok_getfield (ref := "WaysAtlas$Run") (Or.inr ⟨rfl, by decide⟩) dX3_unwinds_1 (Or.inr ⟨⟨"WaysAtlas", (List.mem_of_getElem? (i := 40) rfl)⟩, (Or.inl rfl)⟩) xh1033) rfl (xcP (xok_aload_n dX3_unwinds_4 rfl) rfl (xcP (xok_getfield (ref := "WaysAtlas$Thrown") (Or.inl ⟨rfl, by decide⟩) dX3_unwinds_5 (Or.inr ⟨⟨"WaysAtlas", (List.mem_of_getElem? (i := 58) rfl)⟩, (Or.inl rfl)⟩) xh33) rfl (xcP (xok_iaload dX3_unwinds_8) rfl (xcP (xok_istore_n dX3_unwinds_9 rfl) rfl (xcP xok_fal rfl trivial))))))
theorem okX3_unwinds_10 : XOkL xms rX3_unwinds bX3_unwinds_10 := xcP (xok_aload_n dX3_unwinds_10 rfl) rfl (xcP (xok_getfield (ref := "WaysAtlas$Run") (Or.inl ⟨rfl, by decide⟩) dX3_unwinds_11 (Or.inr ⟨⟨"WaysAtlas", (List.mem_of_getElem? (i := 55) rfl)⟩, (Or.inl rfl)⟩) xh17) rfl (xcP (xok_ifle dX3_unwinds_14 (by decide)) rfl (xcP (xok_aload_n dX3_unwinds_17 rfl) rfl (xcC0 (xokc_list (List.forall_mem_cons.mpr ⟨xokc_V (r := (RX5, TX5, 34)) xm84 (List.mem_of_getElem? (i := 5) rfl) (by decide) rfl dX3_unwinds_18 q1783 q1572 q1573 q143 q1574 (by decide +kernel), fun _ h => nomatch h⟩)) rfl (xcP (xok_astore dX3_unwinds_21) rfl (xcP (xok_aload dX3_unwinds_23) rfl (xcP (xok_getfield (ref := "WaysAtlas$Frame") (Or.inl ⟨rfl, by decide⟩) dX3_unwinds_25 (Or.inr ⟨⟨"WaysAtlas", (List.mem_of_getElem? (i := 60) rfl)⟩, (Or.inl rfl)⟩) xh36) rfl (xcP (xok_iconst dX3_unwinds_28 rfl) rfl (xcP (xok_isub dX3_unwinds_29) rfl (xcP (xok_istore dX3_unwinds_30) rfl (xcP (xok_iconst dX3_unwinds_32 rfl) rfl (xcP (xok_istore dX3_unwinds_33) rfl (xcP xok_fal rfl trivial)))))))))))))
theorem okX3_unwinds_35 : XOkL xms rX3_unwinds bX3_unwinds_35 := xcP (xok_iload dX3_unwinds_35) rfl (xcP (xok_iconst dX3_unwinds_37 rfl) rfl (xcP (xok_aload_n dX3_unwinds_38 rfl) rfl (xcP (xok_getfield (ref := "WaysAtlas$Program") (Or.inr ⟨rfl, by decide⟩) dX3_unwinds_39 (Or.inl ⟨q306, (Or.inl rfl)⟩) xh1025) rfl (xcP (xok_getfield (ref := "WaysAtlas$Lower") (Or.inl ⟨rfl, by decide⟩) dX3_unwinds_42 (Or.inr ⟨⟨"WaysAtlas", (List.mem_of_getElem? (i := 41) rfl)⟩, (Or.inl rfl)⟩) xh101) rfl (xcP (xok_imul dX3_unwinds_45) rfl (xcP (xok_icmpge dX3_unwinds_46 (by decide)) rfl (xcP (xok_iload dX3_unwinds_49) rfl (xcP (xok_aload_n dX3_unwinds_51 rfl) rfl (xcP (xok_getfield (ref := "WaysAtlas$Program") (Or.inr ⟨rfl, by decide⟩) dX3_unwinds_52 (Or.inl ⟨q306, (Or.inl rfl)⟩) xh1025) rfl (xcP (xok_getfield (ref := "WaysAtlas$Lower") (Or.inr ⟨rfl, by decide⟩) dX3_unwinds_55 (Or.inr ⟨⟨"WaysAtlas", (List.mem_of_getElem? (i := 42) rfl)⟩, (Or.inl rfl)⟩) xh1144) rfl (xcP (xok_iload dX3_unwinds_58) rfl (xcP (xok_iaload dX3_unwinds_60) rfl (xcP (xok_icmplt dX3_unwinds_61 (by decide)) rfl (xcP (xok_iload dX3_unwinds_64) rfl (xcP (xok_aload_n dX3_unwinds_66 rfl) rfl (xcP (xok_getfield (ref := "WaysAtlas$Program") (Or.inr ⟨rfl, by decide⟩) dX3_unwinds_67 (Or.inl ⟨q306, (Or.inl rfl)⟩) xh1025) rfl (xcP (xok_getfield (ref := "WaysAtlas$Lower") (Or.inr ⟨rfl, by decide⟩) dX3_unwinds_70 (Or.inr ⟨⟨"WaysAtlas", (List.mem_of_getElem? (i := 42) rfl)⟩, (Or.inl rfl)⟩) xh1144) rfl (xcP (xok_iload dX3_unwinds_73) rfl (xcP (xok_iconst dX3_unwinds_75 rfl) rfl (xcP (xok_iadd dX3_unwinds_76) rfl (xcP (xok_iaload dX3_unwinds_77) rfl (xcP (xok_icmpge dX3_unwinds_78 (by decide)) rfl (xcP (xok_iconst dX3_unwinds_81 rfl) rfl (xcP (xok_goto dX3_unwinds_82 (by decide)) rfl trivial))))))))))))))))))))))))
theorem okX3_unwinds_85 : XOkL xms rX3_unwinds bX3_unwinds_85 := xcP (xok_iconst dX3_unwinds_85 rfl) rfl (xcP xok_fal rfl trivial)
theorem okX3_unwinds_86 : XOkL xms rX3_unwinds bX3_unwinds_86 := xcP (xok_istore dX3_unwinds_86) rfl (xcP (xok_iload dX3_unwinds_88) rfl (xcP (xok_ifeq dX3_unwinds_90 (by decide)) rfl (xcP (xok_aload_n dX3_unwinds_93 rfl) rfl (xcP (xok_getfield (ref := "WaysAtlas$Program") (Or.inr ⟨rfl, by decide⟩) dX3_unwinds_94 (Or.inl ⟨q306, (Or.inl rfl)⟩) xh1025) rfl (xcP (xok_getfield (ref := "WaysAtlas$Lower") (Or.inr ⟨rfl, by decide⟩) dX3_unwinds_97 (Or.inr ⟨⟨"WaysAtlas", (List.mem_of_getElem? (i := 42) rfl)⟩, (Or.inl rfl)⟩) xh1144) rfl (xcP (xok_iload dX3_unwinds_100) rfl (xcP (xok_iconst dX3_unwinds_102 rfl) rfl (xcP (xok_iadd dX3_unwinds_103) rfl (xcP (xok_iaload dX3_unwinds_104) rfl (xcP (xok_bipush dX3_unwinds_105 rfl) rfl (xcP (xok_icmpeq dX3_unwinds_107 (by decide)) rfl (xcP (xok_aload_n dX3_unwinds_110 rfl) rfl (xcP (xok_iload_n dX3_unwinds_111 rfl) rfl (xcP (xok_aload_n dX3_unwinds_112 rfl) rfl (xcP (xok_getfield (ref := "WaysAtlas$Program") (Or.inr ⟨rfl, by decide⟩) dX3_unwinds_113 (Or.inl ⟨q306, (Or.inl rfl)⟩) xh1025) rfl (xcP (xok_getfield (ref := "WaysAtlas$Lower") (Or.inr ⟨rfl, by decide⟩) dX3_unwinds_116 (Or.inr ⟨⟨"WaysAtlas", (List.mem_of_getElem? (i := 42) rfl)⟩, (Or.inl rfl)⟩) xh1144) rfl (xcP (xok_iload dX3_unwinds_119) rfl (xcP (xok_iconst dX3_unwinds_121 rfl) rfl (xcP (xok_iadd dX3_unwinds_122) rfl (xcP (xok_iaload dX3_unwinds_123) rfl (xcC0 (xokc_list (List.forall_mem_cons.mpr ⟨xokc_V (r := (RX3, TX3, 10)) xm70 (List.mem_of_getElem? (i := 3) rfl) (by decide) rfl dX3_unwinds_124 q1822 q1691 q1692 q141 q1693 (by decide +kernel), fun _ h => nomatch h⟩)) rfl (xcP (xok_ifeq dX3_unwinds_127 (by decide)) rfl (xcP xok_fal rfl trivial)))))))))))))))))))))))
theorem okX3_unwinds_130 : XOkL xms rX3_unwinds bX3_unwinds_130 := xcP (xok_aload dX3_unwinds_130) rfl (xcP (xok_getfield (ref := "WaysAtlas$Frame") (Or.inr ⟨rfl, by decide⟩) dX3_unwinds_132 (Or.inr ⟨⟨"WaysAtlas", (List.mem_of_getElem? (i := 43) rfl)⟩, (Or.inl rfl)⟩) xh1055) rfl (xcP (xok_aload_n dX3_unwinds_135 rfl) rfl (xcP (xok_getfield (ref := "WaysAtlas$Program") (Or.inr ⟨rfl, by decide⟩) dX3_unwinds_136 (Or.inl ⟨q306, (Or.inl rfl)⟩) xh1025) rfl (xcP (xok_getfield (ref := "WaysAtlas$Lower") (Or.inr ⟨rfl, by decide⟩) dX3_unwinds_139 (Or.inr ⟨⟨"WaysAtlas", (List.mem_of_getElem? (i := 42) rfl)⟩, (Or.inl rfl)⟩) xh1144) rfl (xcP (xok_iload dX3_unwinds_142) rfl (xcP (xok_iconst dX3_unwinds_144 rfl) rfl (xcP (xok_iadd dX3_unwinds_145) rfl (xcP (xok_iaload dX3_unwinds_146) rfl (xcP (xok_aload_n dX3_unwinds_147 rfl) rfl (xcP (xok_getfield (ref := "WaysAtlas$Thrown") (Or.inl ⟨rfl, by decide⟩) dX3_unwinds_148 (Or.inr ⟨⟨"WaysAtlas", (List.mem_of_getElem? (i := 58) rfl)⟩, (Or.inl rfl)⟩) xh33) rfl (xcP (xok_iastore dX3_unwinds_151) rfl (xcP (xok_aload dX3_unwinds_152) rfl (xcP (xok_aload_n dX3_unwinds_154 rfl) rfl (xcP (xok_getfield (ref := "WaysAtlas$Program") (Or.inr ⟨rfl, by decide⟩) dX3_unwinds_155 (Or.inl ⟨q306, (Or.inl rfl)⟩) xh1025) rfl (xcP (xok_getfield (ref := "WaysAtlas$Lower") (Or.inr ⟨rfl, by decide⟩) dX3_unwinds_158 (Or.inr ⟨⟨"WaysAtlas", (List.mem_of_getElem? (i := 42) rfl)⟩, (Or.inl rfl)⟩) xh1144) rfl (xcP (xok_iload dX3_unwinds_161) rfl (xcP (xok_iconst dX3_unwinds_163 rfl) rfl (xcP (xok_iadd dX3_unwinds_164) rfl (xcP (xok_iaload dX3_unwinds_165) rfl (xcP (xok_putfield (ref := "WaysAtlas$Frame") (Or.inl ⟨rfl, by decide, rfl⟩) dX3_unwinds_166 (Or.inr ⟨⟨"WaysAtlas", (List.mem_of_getElem? (i := 60) rfl)⟩, (Or.inl rfl)⟩) (Or.inl rfl) xh36) rfl (xcR ⟨dX3_unwinds_169, rfl⟩)))))))))))))))))))))
theorem okX3_unwinds_170 : XOkL xms rX3_unwinds bX3_unwinds_170 := xcP (xok_iinc dX3_unwinds_170 rfl) rfl (xcP (xok_goto dX3_unwinds_173 (by decide)) rfl trivial)
theorem okX3_unwinds_176 : XOkL xms rX3_unwinds bX3_unwinds_176 := xcP (xok_aload_n dX3_unwinds_176 rfl) rfl (xcP (xok_dup dX3_unwinds_177) rfl (xcP (xok_getfield (ref := "WaysAtlas$Run") (Or.inl ⟨rfl, by decide⟩) dX3_unwinds_178 (Or.inr ⟨⟨"WaysAtlas", (List.mem_of_getElem? (i := 55) rfl)⟩, (Or.inl rfl)⟩) xh17) rfl (xcP (xok_iconst dX3_unwinds_181 rfl) rfl (xcP (xok_isub dX3_unwinds_182) rfl (xcP (xok_putfield (ref := "WaysAtlas$Run") (Or.inl ⟨rfl, by decide, rfl⟩) dX3_unwinds_183 (Or.inr ⟨⟨"WaysAtlas", (List.mem_of_getElem? (i := 55) rfl)⟩, (Or.inl rfl)⟩) (Or.inl rfl) xh17) rfl (xcP (xok_goto dX3_unwinds_186 (by decide)) rfl trivial))))))
theorem okX3_unwinds_189 : XOkL xms rX3_unwinds bX3_unwinds_189 := xcP (xok_aload_n dX3_unwinds_189 rfl) rfl (xcT dX3_unwinds_190)
theorem okM_X3_unwinds : XOkM xms rX3_unwinds := xokM0 (List.forall_mem_cons.mpr ⟨⟨rfl, okX3_unwinds_0⟩, List.forall_mem_cons.mpr ⟨⟨rfl, okX3_unwinds_10⟩, List.forall_mem_cons.mpr ⟨⟨rfl, okX3_unwinds_35⟩, List.forall_mem_cons.mpr ⟨⟨rfl, okX3_unwinds_85⟩, List.forall_mem_cons.mpr ⟨⟨rfl, okX3_unwinds_86⟩, List.forall_mem_cons.mpr ⟨⟨rfl, okX3_unwinds_130⟩, List.forall_mem_cons.mpr ⟨⟨rfl, okX3_unwinds_170⟩, List.forall_mem_cons.mpr ⟨⟨rfl, okX3_unwinds_176⟩, List.forall_mem_cons.mpr ⟨⟨rfl, okX3_unwinds_189⟩, fun _ h => nomatch h⟩⟩⟩⟩⟩⟩⟩⟩⟩) (xokH0 rfl (fun _ _ => rfl)) (by decide +kernel) (by decide)
abbrev cX4_init : ByteArray := prog_18_method_1_code
def dkwX4_init_1 : List UInt8 := [188, 10, 181, 0, 18, 177]
abbrev dktX4_init_1 : List UInt8 := dkwX4_init_1 ++ []
def dkwX4_init_0 : List UInt8 := [42, 183, 0, 3, 42, 16, 30, 188, 10, 181, 0, 9, 42, 16, 30, 188, 10, 181, 0, 15, 42, 16, 30]
abbrev dktX4_init_0 : List UInt8 := dkwX4_init_0 ++ dktX4_init_1
theorem dksX4_init_0 : cX4_init.data.toList.drop 0 = dktX4_init_0 := by decide +kernel
theorem dksX4_init_1 : cX4_init.data.toList.drop 23 = dktX4_init_1 := dk_seg dksX4_init_0 23 rfl rfl
theorem dX4_init_0 : decode cX4_init 0 = .ok (.aload_n 0, 1) := dk_42 (dk_at dksX4_init_0 0 rfl rfl)
theorem dX4_init_1 : decode cX4_init 1 = .ok (.invokespecial 3, 3) := dk_183 0 3 (dk_at dksX4_init_0 1 rfl rfl)
theorem dX4_init_4 : decode cX4_init 4 = .ok (.aload_n 0, 1) := dk_42 (dk_at dksX4_init_0 4 rfl rfl)
theorem dX4_init_5 : decode cX4_init 5 = .ok (.bipush 30, 2) := dk_16 30 (dk_at dksX4_init_0 5 rfl rfl)
theorem dX4_init_7 : decode cX4_init 7 = .ok (.newarray .int, 2) := dk_188_10 (dk_at dksX4_init_0 7 rfl rfl)
theorem dX4_init_9 : decode cX4_init 9 = .ok (.putfield 9, 3) := dk_181 0 9 (dk_at dksX4_init_0 9 rfl rfl)
theorem dX4_init_12 : decode cX4_init 12 = .ok (.aload_n 0, 1) := dk_42 (dk_at dksX4_init_0 12 rfl rfl)
theorem dX4_init_13 : decode cX4_init 13 = .ok (.bipush 30, 2) := dk_16 30 (dk_at dksX4_init_0 13 rfl rfl)
theorem dX4_init_15 : decode cX4_init 15 = .ok (.newarray .int, 2) := dk_188_10 (dk_at dksX4_init_0 15 rfl rfl)
theorem dX4_init_17 : decode cX4_init 17 = .ok (.putfield 15, 3) := dk_181 0 15 (dk_at dksX4_init_0 17 rfl rfl)
theorem dX4_init_20 : decode cX4_init 20 = .ok (.aload_n 0, 1) := dk_42 (dk_at dksX4_init_0 20 rfl rfl)
theorem dX4_init_21 : decode cX4_init 21 = .ok (.bipush 30, 2) := dk_16 30 (dk_at dksX4_init_0 21 rfl rfl)
theorem dX4_init_23 : decode cX4_init 23 = .ok (.newarray .int, 2) := dk_188_10 (dk_at dksX4_init_1 0 rfl rfl)
theorem dX4_init_25 : decode cX4_init 25 = .ok (.putfield 18, 3) := dk_181 0 18 (dk_at dksX4_init_1 2 rfl rfl)
theorem dX4_init_28 : decode cX4_init 28 = .ok (.return_, 1) := dk_177 (dk_at dksX4_init_1 5 rfl rfl)
theorem okX4_init_0 : XOkL xms rX4_init bX4_init_0 := xcP (xok_aload_n dX4_init_0 rfl) rfl (xcP (xok_objInit dX4_init_1 q334 q186 q187) rfl (xcP (xok_aload_n dX4_init_4 rfl) rfl (xcP (xok_bipush dX4_init_5 rfl) rfl (xcP (xok_newarray (atype := .int) (by decide) rfl dX4_init_7 q222) rfl (xcP (xok_putfield (ref := "WaysAtlas$Plan") (Or.inr (Or.inr ⟨rfl, by decide, rfl⟩)) dX4_init_9 (Or.inl ⟨q335, (Or.inl rfl)⟩) (Or.inr ⟨rfl, rfl, ⟨q335, (Or.inl rfl)⟩⟩) xh1026) rfl (xcP (xok_aload_n dX4_init_12 rfl) rfl (xcP (xok_bipush dX4_init_13 rfl) rfl (xcP (xok_newarray (atype := .int) (by decide) rfl dX4_init_15 q222) rfl (xcP (xok_putfield (ref := "WaysAtlas$Plan") (Or.inr (Or.inr ⟨rfl, by decide, rfl⟩)) dX4_init_17 (Or.inl ⟨q337, (Or.inl rfl)⟩) (Or.inr ⟨rfl, rfl, ⟨q337, (Or.inl rfl)⟩⟩) xh1027) rfl (xcP (xok_aload_n dX4_init_20 rfl) rfl (xcP (xok_bipush dX4_init_21 rfl) rfl (xcP (xok_newarray (atype := .int) (by decide) rfl dX4_init_23 q222) rfl (xcP (xok_putfield (ref := "WaysAtlas$Plan") (Or.inr (Or.inr ⟨rfl, by decide, rfl⟩)) dX4_init_25 (Or.inl ⟨q339, (Or.inl rfl)⟩) (Or.inr ⟨rfl, rfl, ⟨q339, (Or.inl rfl)⟩⟩) xh1028) rfl (xcR ⟨dX4_init_28, rfl⟩))))))))))))))
theorem okM_X4_init : XOkM xms rX4_init := xokM0 (List.forall_mem_cons.mpr ⟨⟨rfl, okX4_init_0⟩, fun _ h => nomatch h⟩) (xokH0 rfl (fun _ _ => rfl)) (by decide +kernel) (by decide)
abbrev cX4_kindAt : ByteArray := prog_18_method_2_code
def dkwX4_kindAt_1 : List UInt8 := [29, 46, 28, 160, 0, 10, 42, 180, 0, 18, 29, 46, 172, 132, 3, 1, 167, 255, 218, 16, 247, 172]
abbrev dktX4_kindAt_1 : List UInt8 := dkwX4_kindAt_1 ++ []
def dkwX4_kindAt_0 : List UInt8 := [3, 62, 29, 42, 180, 0, 21, 162, 0, 36, 42, 180, 0, 9, 29, 46, 27, 160, 0, 20, 42, 180, 0, 15]
abbrev dktX4_kindAt_0 : List UInt8 := dkwX4_kindAt_0 ++ dktX4_kindAt_1
theorem dksX4_kindAt_0 : cX4_kindAt.data.toList.drop 0 = dktX4_kindAt_0 := by decide +kernel
theorem dksX4_kindAt_1 : cX4_kindAt.data.toList.drop 24 = dktX4_kindAt_1 := dk_seg dksX4_kindAt_0 24 rfl rfl
theorem dX4_kindAt_0 : decode cX4_kindAt 0 = .ok (.iconst 0, 1) := dk_3 (dk_at dksX4_kindAt_0 0 rfl rfl)
theorem dX4_kindAt_1 : decode cX4_kindAt 1 = .ok (.istore_n 3, 1) := dk_62 (dk_at dksX4_kindAt_0 1 rfl rfl)
theorem dX4_kindAt_2 : decode cX4_kindAt 2 = .ok (.iload_n 3, 1) := dk_29 (dk_at dksX4_kindAt_0 2 rfl rfl)
theorem dX4_kindAt_3 : decode cX4_kindAt 3 = .ok (.aload_n 0, 1) := dk_42 (dk_at dksX4_kindAt_0 3 rfl rfl)
theorem dX4_kindAt_4 : decode cX4_kindAt 4 = .ok (.getfield 21, 3) := dk_180 0 21 (dk_at dksX4_kindAt_0 4 rfl rfl)
theorem dX4_kindAt_7 : decode cX4_kindAt 7 = .ok (.if_icmp .ge 36, 3) := dk_162 0 36 (dk_at dksX4_kindAt_0 7 rfl rfl)
theorem dX4_kindAt_10 : decode cX4_kindAt 10 = .ok (.aload_n 0, 1) := dk_42 (dk_at dksX4_kindAt_0 10 rfl rfl)
theorem dX4_kindAt_11 : decode cX4_kindAt 11 = .ok (.getfield 9, 3) := dk_180 0 9 (dk_at dksX4_kindAt_0 11 rfl rfl)
theorem dX4_kindAt_14 : decode cX4_kindAt 14 = .ok (.iload_n 3, 1) := dk_29 (dk_at dksX4_kindAt_0 14 rfl rfl)
theorem dX4_kindAt_15 : decode cX4_kindAt 15 = .ok (.iaload, 1) := dk_46 (dk_at dksX4_kindAt_0 15 rfl rfl)
theorem dX4_kindAt_16 : decode cX4_kindAt 16 = .ok (.iload_n 1, 1) := dk_27 (dk_at dksX4_kindAt_0 16 rfl rfl)
theorem dX4_kindAt_17 : decode cX4_kindAt 17 = .ok (.if_icmp .ne 20, 3) := dk_160 0 20 (dk_at dksX4_kindAt_0 17 rfl rfl)
theorem dX4_kindAt_20 : decode cX4_kindAt 20 = .ok (.aload_n 0, 1) := dk_42 (dk_at dksX4_kindAt_0 20 rfl rfl)
theorem dX4_kindAt_21 : decode cX4_kindAt 21 = .ok (.getfield 15, 3) := dk_180 0 15 (dk_at dksX4_kindAt_0 21 rfl rfl)
theorem dX4_kindAt_24 : decode cX4_kindAt 24 = .ok (.iload_n 3, 1) := dk_29 (dk_at dksX4_kindAt_1 0 rfl rfl)
theorem dX4_kindAt_25 : decode cX4_kindAt 25 = .ok (.iaload, 1) := dk_46 (dk_at dksX4_kindAt_1 1 rfl rfl)
theorem dX4_kindAt_26 : decode cX4_kindAt 26 = .ok (.iload_n 2, 1) := dk_28 (dk_at dksX4_kindAt_1 2 rfl rfl)
theorem dX4_kindAt_27 : decode cX4_kindAt 27 = .ok (.if_icmp .ne 10, 3) := dk_160 0 10 (dk_at dksX4_kindAt_1 3 rfl rfl)
theorem dX4_kindAt_30 : decode cX4_kindAt 30 = .ok (.aload_n 0, 1) := dk_42 (dk_at dksX4_kindAt_1 6 rfl rfl)
theorem dX4_kindAt_31 : decode cX4_kindAt 31 = .ok (.getfield 18, 3) := dk_180 0 18 (dk_at dksX4_kindAt_1 7 rfl rfl)
theorem dX4_kindAt_34 : decode cX4_kindAt 34 = .ok (.iload_n 3, 1) := dk_29 (dk_at dksX4_kindAt_1 10 rfl rfl)
theorem dX4_kindAt_35 : decode cX4_kindAt 35 = .ok (.iaload, 1) := dk_46 (dk_at dksX4_kindAt_1 11 rfl rfl)
theorem dX4_kindAt_36 : decode cX4_kindAt 36 = .ok (.ireturn, 1) := dk_172 (dk_at dksX4_kindAt_1 12 rfl rfl)
theorem dX4_kindAt_37 : decode cX4_kindAt 37 = .ok (.iinc 3 1, 3) := dk_132 3 1 (dk_at dksX4_kindAt_1 13 rfl rfl)
theorem dX4_kindAt_40 : decode cX4_kindAt 40 = .ok (.goto (-38), 3) := dk_167 255 218 (dk_at dksX4_kindAt_1 16 rfl rfl)
theorem dX4_kindAt_43 : decode cX4_kindAt 43 = .ok (.bipush (-9), 2) := dk_16 247 (dk_at dksX4_kindAt_1 19 rfl rfl)
theorem dX4_kindAt_45 : decode cX4_kindAt 45 = .ok (.ireturn, 1) := dk_172 (dk_at dksX4_kindAt_1 21 rfl rfl)
theorem okX4_kindAt_0 : XOkL xms rX4_kindAt bX4_kindAt_0 := xcP (xok_iconst dX4_kindAt_0 rfl) rfl (xcP (xok_istore_n dX4_kindAt_1 rfl) rfl (xcP xok_fal rfl trivial))
theorem okX4_kindAt_2 : XOkL xms rX4_kindAt bX4_kindAt_2 := xcP (xok_iload_n dX4_kindAt_2 rfl) rfl (xcP (xok_aload_n dX4_kindAt_3 rfl) rfl (xcP (xok_getfield (ref := "WaysAtlas$Plan") (Or.inl ⟨rfl, by decide⟩) dX4_kindAt_4 (Or.inl ⟨q341, (Or.inl rfl)⟩) xh16) rfl (xcP (xok_icmpge dX4_kindAt_7 (by decide)) rfl (xcP (xok_aload_n dX4_kindAt_10 rfl) rfl (xcP (xok_getfield (ref := "WaysAtlas$Plan") (Or.inr ⟨rfl, by decide⟩) dX4_kindAt_11 (Or.inl ⟨q335, (Or.inl rfl)⟩) xh1026) rfl (xcP (xok_iload_n dX4_kindAt_14 rfl) rfl (xcP (xok_iaload dX4_kindAt_15) rfl (xcP (xok_iload_n dX4_kindAt_16 rfl) rfl (xcP (xok_icmpne dX4_kindAt_17 (by decide)) rfl (xcP (xok_aload_n dX4_kindAt_20 rfl) rfl (xcP (xok_getfield (ref := "WaysAtlas$Plan") (Or.inr ⟨rfl, by decide⟩) dX4_kindAt_21 (Or.inl ⟨q337, (Or.inl rfl)⟩) xh1027) rfl (xcP (xok_iload_n dX4_kindAt_24 rfl) rfl (xcP (xok_iaload dX4_kindAt_25) rfl (xcP (xok_iload_n dX4_kindAt_26 rfl) rfl (xcP (xok_icmpne dX4_kindAt_27 (by decide)) rfl (xcP (xok_aload_n dX4_kindAt_30 rfl) rfl (xcP (xok_getfield (ref := "WaysAtlas$Plan") (Or.inr ⟨rfl, by decide⟩) dX4_kindAt_31 (Or.inl ⟨q339, (Or.inl rfl)⟩) xh1028) rfl (xcP (xok_iload_n dX4_kindAt_34 rfl) rfl (xcP (xok_iaload dX4_kindAt_35) rfl (xcR ⟨dX4_kindAt_36, rfl⟩))))))))))))))))))))
theorem okX4_kindAt_37 : XOkL xms rX4_kindAt bX4_kindAt_37 := xcP (xok_iinc dX4_kindAt_37 rfl) rfl (xcP (xok_goto dX4_kindAt_40 (by decide)) rfl trivial)
theorem okX4_kindAt_43 : XOkL xms rX4_kindAt bX4_kindAt_43 := xcP (xok_bipush dX4_kindAt_43 rfl) rfl (xcR ⟨dX4_kindAt_45, rfl⟩)
theorem okM_X4_kindAt : XOkM xms rX4_kindAt := xokM0 (List.forall_mem_cons.mpr ⟨⟨rfl, okX4_kindAt_0⟩, List.forall_mem_cons.mpr ⟨⟨rfl, okX4_kindAt_2⟩, List.forall_mem_cons.mpr ⟨⟨rfl, okX4_kindAt_37⟩, List.forall_mem_cons.mpr ⟨⟨rfl, okX4_kindAt_43⟩, fun _ h => nomatch h⟩⟩⟩⟩) (xokH0 rfl (fun _ _ => rfl)) (by decide +kernel) (by decide)
