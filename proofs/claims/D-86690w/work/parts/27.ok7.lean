set_option maxRecDepth 100000
abbrev cX9_sum : ByteArray := prog_36_method_34_code
def dkwX9_sum_2 : List UInt8 := [167, 0, 7, 42, 182, 1, 111, 60, 167, 255, 218, 177]
abbrev dktX9_sum_2 : List UInt8 := dkwX9_sum_2 ++ []
def dkwX9_sum_1 : List UInt8 := [42, 180, 1, 104, 154, 0, 30, 27, 153, 0, 18, 42, 182, 1, 108, 154, 0, 7, 4, 167, 0, 11, 3]
abbrev dktX9_sum_1 : List UInt8 := dkwX9_sum_1 ++ dktX9_sum_2
def dkwX9_sum_0 : List UInt8 := [42, 3, 181, 1, 67, 42, 3, 181, 1, 70, 42, 3, 181, 1, 104, 4, 60, 42, 180, 1, 35, 154, 0, 37]
abbrev dktX9_sum_0 : List UInt8 := dkwX9_sum_0 ++ dktX9_sum_1
theorem dksX9_sum_0 : cX9_sum.data.toList.drop 0 = dktX9_sum_0 := by decide +kernel
theorem dksX9_sum_1 : cX9_sum.data.toList.drop 24 = dktX9_sum_1 := dk_seg dksX9_sum_0 24 rfl rfl
theorem dksX9_sum_2 : cX9_sum.data.toList.drop 47 = dktX9_sum_2 := dk_seg dksX9_sum_1 23 rfl rfl
theorem dX9_sum_0 : decode cX9_sum 0 = .ok (.aload_n 0, 1) := dk_42 (dk_at dksX9_sum_0 0 rfl rfl)
theorem dX9_sum_1 : decode cX9_sum 1 = .ok (.iconst 0, 1) := dk_3 (dk_at dksX9_sum_0 1 rfl rfl)
theorem dX9_sum_2 : decode cX9_sum 2 = .ok (.putfield 323, 3) := dk_181 1 67 (dk_at dksX9_sum_0 2 rfl rfl)
theorem dX9_sum_5 : decode cX9_sum 5 = .ok (.aload_n 0, 1) := dk_42 (dk_at dksX9_sum_0 5 rfl rfl)
theorem dX9_sum_6 : decode cX9_sum 6 = .ok (.iconst 0, 1) := dk_3 (dk_at dksX9_sum_0 6 rfl rfl)
theorem dX9_sum_7 : decode cX9_sum 7 = .ok (.putfield 326, 3) := dk_181 1 70 (dk_at dksX9_sum_0 7 rfl rfl)
theorem dX9_sum_10 : decode cX9_sum 10 = .ok (.aload_n 0, 1) := dk_42 (dk_at dksX9_sum_0 10 rfl rfl)
theorem dX9_sum_11 : decode cX9_sum 11 = .ok (.iconst 0, 1) := dk_3 (dk_at dksX9_sum_0 11 rfl rfl)
theorem dX9_sum_12 : decode cX9_sum 12 = .ok (.putfield 360, 3) := dk_181 1 104 (dk_at dksX9_sum_0 12 rfl rfl)
theorem dX9_sum_15 : decode cX9_sum 15 = .ok (.iconst 1, 1) := dk_4 (dk_at dksX9_sum_0 15 rfl rfl)
theorem dX9_sum_16 : decode cX9_sum 16 = .ok (.istore_n 1, 1) := dk_60 (dk_at dksX9_sum_0 16 rfl rfl)
theorem dX9_sum_17 : decode cX9_sum 17 = .ok (.aload_n 0, 1) := dk_42 (dk_at dksX9_sum_0 17 rfl rfl)
theorem dX9_sum_18 : decode cX9_sum 18 = .ok (.getfield 291, 3) := dk_180 1 35 (dk_at dksX9_sum_0 18 rfl rfl)
theorem dX9_sum_21 : decode cX9_sum 21 = .ok (.ifCond .ne 37, 3) := dk_154 0 37 (dk_at dksX9_sum_0 21 rfl rfl)
theorem dX9_sum_24 : decode cX9_sum 24 = .ok (.aload_n 0, 1) := dk_42 (dk_at dksX9_sum_1 0 rfl rfl)
theorem dX9_sum_25 : decode cX9_sum 25 = .ok (.getfield 360, 3) := dk_180 1 104 (dk_at dksX9_sum_1 1 rfl rfl)
theorem dX9_sum_28 : decode cX9_sum 28 = .ok (.ifCond .ne 30, 3) := dk_154 0 30 (dk_at dksX9_sum_1 4 rfl rfl)
theorem dX9_sum_31 : decode cX9_sum 31 = .ok (.iload_n 1, 1) := dk_27 (dk_at dksX9_sum_1 7 rfl rfl)
theorem dX9_sum_32 : decode cX9_sum 32 = .ok (.ifCond .eq 18, 3) := dk_153 0 18 (dk_at dksX9_sum_1 8 rfl rfl)
theorem dX9_sum_35 : decode cX9_sum 35 = .ok (.aload_n 0, 1) := dk_42 (dk_at dksX9_sum_1 11 rfl rfl)
theorem dX9_sum_36 : decode cX9_sum 36 = .ok (.invokevirtual 364, 3) := dk_182 1 108 (dk_at dksX9_sum_1 12 rfl rfl)
theorem dX9_sum_39 : decode cX9_sum 39 = .ok (.ifCond .ne 7, 3) := dk_154 0 7 (dk_at dksX9_sum_1 15 rfl rfl)
theorem dX9_sum_42 : decode cX9_sum 42 = .ok (.iconst 1, 1) := dk_4 (dk_at dksX9_sum_1 18 rfl rfl)
theorem dX9_sum_43 : decode cX9_sum 43 = .ok (.goto 11, 3) := dk_167 0 11 (dk_at dksX9_sum_1 19 rfl rfl)
theorem dX9_sum_46 : decode cX9_sum 46 = .ok (.iconst 0, 1) := dk_3 (dk_at dksX9_sum_1 22 rfl rfl)
theorem dX9_sum_47 : decode cX9_sum 47 = .ok (.goto 7, 3) := dk_167 0 7 (dk_at dksX9_sum_2 0 rfl rfl)
theorem dX9_sum_50 : decode cX9_sum 50 = .ok (.aload_n 0, 1) := dk_42 (dk_at dksX9_sum_2 3 rfl rfl)
theorem dX9_sum_51 : decode cX9_sum 51 = .ok (.invokevirtual 367, 3) := dk_182 1 111 (dk_at dksX9_sum_2 4 rfl rfl)
theorem dX9_sum_54 : decode cX9_sum 54 = .ok (.istore_n 1, 1) := dk_60 (dk_at dksX9_sum_2 7 rfl rfl)
theorem dX9_sum_55 : decode cX9_sum 55 = .ok (.goto (-38), 3) := dk_167 255 218 (dk_at dksX9_sum_2 8 rfl rfl)
theorem dX9_sum_58 : decode cX9_sum 58 = .ok (.return_, 1) := dk_177 (dk_at dksX9_sum_2 11 rfl rfl)
theorem okX9_sum_0 : XOkL xms rX9_sum bX9_sum_0 := xcP (xok_aload_n dX9_sum_0 rfl) rfl (xcP (xok_iconst dX9_sum_1 rfl) rfl (xcP (xok_putfield (ref := "WaysAtlasModel") (Or.inl ⟨rfl, by decide, rfl⟩) dX9_sum_2 (Or.inl ⟨q1962, (Or.inl rfl)⟩) (Or.inl rfl) xh53) rfl (xcP (xok_aload_n dX9_sum_5 rfl) rfl (xcP (xok_iconst dX9_sum_6 rfl) rfl (xcP (xok_putfield (ref := "WaysAtlasModel") (Or.inl ⟨rfl, by decide, rfl⟩) dX9_sum_7 (Or.inl ⟨q1965, (Or.inl rfl)⟩) (Or.inl rfl) xh54) rfl (xcP (xok_aload_n dX9_sum_10 rfl) rfl (xcP (xok_iconst dX9_sum_11 rfl) rfl (xcP (xok_putfield (ref := "WaysAtlasModel") (Or.inr (Or.inl ⟨rfl, by decide, rfl⟩)) dX9_sum_12 (Or.inl ⟨q1966, (Or.inl rfl)⟩) (Or.inl rfl) xh55) rfl (xcP (xok_iconst dX9_sum_15 rfl) rfl (xcP (xok_istore_n dX9_sum_16 rfl) rfl (xcP xok_fal rfl trivial)))))))))))
theorem okX9_sum_17 : XOkL xms rX9_sum bX9_sum_17 := xcP (xok_aload_n dX9_sum_17 rfl) rfl (xcP (xok_getfield (ref := "WaysAtlasModel") (Or.inl ⟨rfl, by decide⟩) dX9_sum_18 (Or.inl ⟨q1955, (Or.inl rfl)⟩) xh49) rfl (xcP (xok_ifne dX9_sum_21 (by decide)) rfl (xcP (xok_aload_n dX9_sum_24 rfl) rfl (xcP (xok_getfield (ref := "WaysAtlasModel") (Or.inl ⟨rfl, by decide⟩) dX9_sum_25 (Or.inl ⟨q1966, (Or.inl rfl)⟩) xh55) rfl (xcP (xok_ifne dX9_sum_28 (by decide)) rfl (xcP (xok_iload_n dX9_sum_31 rfl) rfl (xcP (xok_ifeq dX9_sum_32 (by decide)) rfl (xcP (xok_aload_n dX9_sum_35 rfl) rfl (xcC0 (xokc_list (List.forall_mem_cons.mpr ⟨xokc_V (r := (RX9, TX9, 96)) xm130 (List.mem_of_getElem? (i := 9) rfl) (by decide) rfl dX9_sum_36 q2349 q2351 qs80 q149 q2352 (by decide +kernel), fun _ h => nomatch h⟩)) rfl (xcP (xok_ifne dX9_sum_39 (by decide)) rfl (xcP (xok_iconst dX9_sum_42 rfl) rfl (xcP (xok_goto dX9_sum_43 (by decide)) rfl trivial))))))))))))
theorem okX9_sum_46 : XOkL xms rX9_sum bX9_sum_46 := xcP (xok_iconst dX9_sum_46 rfl) rfl (xcP (xok_goto dX9_sum_47 (by decide)) rfl trivial)
theorem okX9_sum_50 : XOkL xms rX9_sum bX9_sum_50 := xcP (xok_aload_n dX9_sum_50 rfl) rfl (xcC0 (xokc_list (List.forall_mem_cons.mpr ⟨xokc_V (r := (RX9, TX9, 96)) xm136 (List.mem_of_getElem? (i := 9) rfl) (by decide) rfl dX9_sum_51 q2373 q2375 qs86 q149 q2376 (by decide +kernel), fun _ h => nomatch h⟩)) rfl (xcP xok_fal rfl trivial))
theorem okX9_sum_54 : XOkL xms rX9_sum bX9_sum_54 := xcP (xok_istore_n dX9_sum_54 rfl) rfl (xcP (xok_goto dX9_sum_55 (by decide)) rfl trivial)
theorem okX9_sum_58 : XOkL xms rX9_sum bX9_sum_58 := xcR ⟨dX9_sum_58, rfl⟩
theorem okM_X9_sum : XOkM xms rX9_sum := xokM0 (List.forall_mem_cons.mpr ⟨⟨rfl, okX9_sum_0⟩, List.forall_mem_cons.mpr ⟨⟨rfl, okX9_sum_17⟩, List.forall_mem_cons.mpr ⟨⟨rfl, okX9_sum_46⟩, List.forall_mem_cons.mpr ⟨⟨rfl, okX9_sum_50⟩, List.forall_mem_cons.mpr ⟨⟨rfl, okX9_sum_54⟩, List.forall_mem_cons.mpr ⟨⟨rfl, okX9_sum_58⟩, fun _ h => nomatch h⟩⟩⟩⟩⟩⟩) (xokH0 rfl (fun _ _ => rfl)) (by decide +kernel) (by decide)
abbrev cX9_beginsFactor : ByteArray := prog_36_method_32_code
def dkwX9_beginsFactor_8 : List UInt8 := [154, 0, 21, 42, 182, 1, 79, 153, 0, 14, 42, 16, 91, 27, 182, 1, 83, 42, 182, 1, 54, 3, 172]
abbrev dktX9_beginsFactor_8 : List UInt8 := dkwX9_beginsFactor_8 ++ []
def dkwX9_beginsFactor_7 : List UInt8 := [180, 1, 35, 154, 0, 16, 42, 16, 91, 182, 1, 48, 154, 0, 7, 42, 182, 1, 51, 42, 180, 1, 35]
abbrev dktX9_beginsFactor_7 : List UInt8 := dkwX9_beginsFactor_7 ++ dktX9_beginsFactor_8
def dkwX9_beginsFactor_6 : List UInt8 := [181, 1, 70, 42, 182, 1, 54, 42, 6, 42, 182, 1, 92, 182, 1, 76, 4, 172, 42, 182, 1, 92, 60, 42]
abbrev dktX9_beginsFactor_6 : List UInt8 := dkwX9_beginsFactor_6 ++ dktX9_beginsFactor_7
def dkwX9_beginsFactor_5 : List UInt8 := [16, 17, 182, 1, 89, 153, 0, 35, 42, 182, 1, 79, 153, 0, 26, 42, 89, 180, 1, 70, 4, 100]
abbrev dktX9_beginsFactor_5 : List UInt8 := dkwX9_beginsFactor_5 ++ dktX9_beginsFactor_6
def dkwX9_beginsFactor_4 : List UInt8 := [42, 180, 1, 23, 182, 1, 41, 42, 4, 42, 180, 0, 250, 182, 1, 76, 42, 182, 1, 54, 4, 172, 42]
abbrev dktX9_beginsFactor_4 : List UInt8 := dkwX9_beginsFactor_4 ++ dktX9_beginsFactor_5
def dkwX9_beginsFactor_3 : List UInt8 := [182, 1, 76, 4, 172, 42, 16, 118, 182, 1, 57, 153, 0, 35, 42, 180, 0, 250, 8, 164, 0, 12, 42, 5]
abbrev dktX9_beginsFactor_3 : List UInt8 := dkwX9_beginsFactor_3 ++ dktX9_beginsFactor_4
def dkwX9_beginsFactor_2 : List UInt8 := [3, 182, 1, 83, 42, 182, 1, 54, 3, 172, 42, 180, 1, 13, 7, 160, 0, 14, 42, 3, 42, 182, 1, 86]
abbrev dktX9_beginsFactor_2 : List UInt8 := dkwX9_beginsFactor_2 ++ dktX9_beginsFactor_3
def dkwX9_beginsFactor_1 : List UInt8 := [182, 1, 54, 3, 172, 42, 16, 40, 182, 1, 48, 153, 0, 23, 42, 182, 1, 79, 153, 0, 14, 42, 16, 40]
abbrev dktX9_beginsFactor_1 : List UInt8 := dkwX9_beginsFactor_1 ++ dktX9_beginsFactor_2
def dkwX9_beginsFactor_0 : List UInt8 := [42, 16, 45, 182, 1, 48, 153, 0, 22, 42, 182, 1, 79, 153, 0, 13, 42, 7, 3, 182, 1, 83, 42]
abbrev dktX9_beginsFactor_0 : List UInt8 := dkwX9_beginsFactor_0 ++ dktX9_beginsFactor_1
theorem dksX9_beginsFactor_0 : cX9_beginsFactor.data.toList.drop 0 = dktX9_beginsFactor_0 := by decide +kernel
theorem dksX9_beginsFactor_1 : cX9_beginsFactor.data.toList.drop 23 = dktX9_beginsFactor_1 := dk_seg dksX9_beginsFactor_0 23 rfl rfl
theorem dksX9_beginsFactor_2 : cX9_beginsFactor.data.toList.drop 47 = dktX9_beginsFactor_2 := dk_seg dksX9_beginsFactor_1 24 rfl rfl
theorem dksX9_beginsFactor_3 : cX9_beginsFactor.data.toList.drop 71 = dktX9_beginsFactor_3 := dk_seg dksX9_beginsFactor_2 24 rfl rfl
theorem dksX9_beginsFactor_4 : cX9_beginsFactor.data.toList.drop 95 = dktX9_beginsFactor_4 := dk_seg dksX9_beginsFactor_3 24 rfl rfl
theorem dksX9_beginsFactor_5 : cX9_beginsFactor.data.toList.drop 118 = dktX9_beginsFactor_5 := dk_seg dksX9_beginsFactor_4 23 rfl rfl
theorem dksX9_beginsFactor_6 : cX9_beginsFactor.data.toList.drop 140 = dktX9_beginsFactor_6 := dk_seg dksX9_beginsFactor_5 22 rfl rfl
theorem dksX9_beginsFactor_7 : cX9_beginsFactor.data.toList.drop 164 = dktX9_beginsFactor_7 := dk_seg dksX9_beginsFactor_6 24 rfl rfl
theorem dksX9_beginsFactor_8 : cX9_beginsFactor.data.toList.drop 187 = dktX9_beginsFactor_8 := dk_seg dksX9_beginsFactor_7 23 rfl rfl
theorem dX9_beginsFactor_0 : decode cX9_beginsFactor 0 = .ok (.aload_n 0, 1) := dk_42 (dk_at dksX9_beginsFactor_0 0 rfl rfl)
theorem dX9_beginsFactor_1 : decode cX9_beginsFactor 1 = .ok (.bipush 45, 2) := dk_16 45 (dk_at dksX9_beginsFactor_0 1 rfl rfl)
theorem dX9_beginsFactor_3 : decode cX9_beginsFactor 3 = .ok (.invokevirtual 304, 3) := dk_182 1 48 (dk_at dksX9_beginsFactor_0 3 rfl rfl)
theorem dX9_beginsFactor_6 : decode cX9_beginsFactor 6 = .ok (.ifCond .eq 22, 3) := dk_153 0 22 (dk_at dksX9_beginsFactor_0 6 rfl rfl)
theorem dX9_beginsFactor_9 : decode cX9_beginsFactor 9 = .ok (.aload_n 0, 1) := dk_42 (dk_at dksX9_beginsFactor_0 9 rfl rfl)
theorem dX9_beginsFactor_10 : decode cX9_beginsFactor 10 = .ok (.invokevirtual 335, 3) := dk_182 1 79 (dk_at dksX9_beginsFactor_0 10 rfl rfl)
theorem dX9_beginsFactor_13 : decode cX9_beginsFactor 13 = .ok (.ifCond .eq 13, 3) := dk_153 0 13 (dk_at dksX9_beginsFactor_0 13 rfl rfl)
theorem dX9_beginsFactor_16 : decode cX9_beginsFactor 16 = .ok (.aload_n 0, 1) := dk_42 (dk_at dksX9_beginsFactor_0 16 rfl rfl)
theorem dX9_beginsFactor_17 : decode cX9_beginsFactor 17 = .ok (.iconst 4, 1) := dk_7 (dk_at dksX9_beginsFactor_0 17 rfl rfl)
theorem dX9_beginsFactor_18 : decode cX9_beginsFactor 18 = .ok (.iconst 0, 1) := dk_3 (dk_at dksX9_beginsFactor_0 18 rfl rfl)
theorem dX9_beginsFactor_19 : decode cX9_beginsFactor 19 = .ok (.invokevirtual 339, 3) := dk_182 1 83 (dk_at dksX9_beginsFactor_0 19 rfl rfl)
theorem dX9_beginsFactor_22 : decode cX9_beginsFactor 22 = .ok (.aload_n 0, 1) := dk_42 (dk_at dksX9_beginsFactor_0 22 rfl rfl)
theorem dX9_beginsFactor_23 : decode cX9_beginsFactor 23 = .ok (.invokevirtual 310, 3) := dk_182 1 54 (dk_at dksX9_beginsFactor_1 0 rfl rfl)
theorem dX9_beginsFactor_26 : decode cX9_beginsFactor 26 = .ok (.iconst 0, 1) := dk_3 (dk_at dksX9_beginsFactor_1 3 rfl rfl)
theorem dX9_beginsFactor_27 : decode cX9_beginsFactor 27 = .ok (.ireturn, 1) := dk_172 (dk_at dksX9_beginsFactor_1 4 rfl rfl)
theorem dX9_beginsFactor_28 : decode cX9_beginsFactor 28 = .ok (.aload_n 0, 1) := dk_42 (dk_at dksX9_beginsFactor_1 5 rfl rfl)
theorem dX9_beginsFactor_29 : decode cX9_beginsFactor 29 = .ok (.bipush 40, 2) := dk_16 40 (dk_at dksX9_beginsFactor_1 6 rfl rfl)
theorem dX9_beginsFactor_31 : decode cX9_beginsFactor 31 = .ok (.invokevirtual 304, 3) := dk_182 1 48 (dk_at dksX9_beginsFactor_1 8 rfl rfl)
theorem dX9_beginsFactor_34 : decode cX9_beginsFactor 34 = .ok (.ifCond .eq 23, 3) := dk_153 0 23 (dk_at dksX9_beginsFactor_1 11 rfl rfl)
theorem dX9_beginsFactor_37 : decode cX9_beginsFactor 37 = .ok (.aload_n 0, 1) := dk_42 (dk_at dksX9_beginsFactor_1 14 rfl rfl)
theorem dX9_beginsFactor_38 : decode cX9_beginsFactor 38 = .ok (.invokevirtual 335, 3) := dk_182 1 79 (dk_at dksX9_beginsFactor_1 15 rfl rfl)
theorem dX9_beginsFactor_41 : decode cX9_beginsFactor 41 = .ok (.ifCond .eq 14, 3) := dk_153 0 14 (dk_at dksX9_beginsFactor_1 18 rfl rfl)
theorem dX9_beginsFactor_44 : decode cX9_beginsFactor 44 = .ok (.aload_n 0, 1) := dk_42 (dk_at dksX9_beginsFactor_1 21 rfl rfl)
theorem dX9_beginsFactor_45 : decode cX9_beginsFactor 45 = .ok (.bipush 40, 2) := dk_16 40 (dk_at dksX9_beginsFactor_1 22 rfl rfl)
theorem dX9_beginsFactor_47 : decode cX9_beginsFactor 47 = .ok (.iconst 0, 1) := dk_3 (dk_at dksX9_beginsFactor_2 0 rfl rfl)
theorem dX9_beginsFactor_48 : decode cX9_beginsFactor 48 = .ok (.invokevirtual 339, 3) := dk_182 1 83 (dk_at dksX9_beginsFactor_2 1 rfl rfl)
theorem dX9_beginsFactor_51 : decode cX9_beginsFactor 51 = .ok (.aload_n 0, 1) := dk_42 (dk_at dksX9_beginsFactor_2 4 rfl rfl)
theorem dX9_beginsFactor_52 : decode cX9_beginsFactor 52 = .ok (.invokevirtual 310, 3) := dk_182 1 54 (dk_at dksX9_beginsFactor_2 5 rfl rfl)
theorem dX9_beginsFactor_55 : decode cX9_beginsFactor 55 = .ok (.iconst 0, 1) := dk_3 (dk_at dksX9_beginsFactor_2 8 rfl rfl)
theorem dX9_beginsFactor_56 : decode cX9_beginsFactor 56 = .ok (.ireturn, 1) := dk_172 (dk_at dksX9_beginsFactor_2 9 rfl rfl)
theorem dX9_beginsFactor_57 : decode cX9_beginsFactor 57 = .ok (.aload_n 0, 1) := dk_42 (dk_at dksX9_beginsFactor_2 10 rfl rfl)
theorem dX9_beginsFactor_58 : decode cX9_beginsFactor 58 = .ok (.getfield 269, 3) := dk_180 1 13 (dk_at dksX9_beginsFactor_2 11 rfl rfl)
theorem dX9_beginsFactor_61 : decode cX9_beginsFactor 61 = .ok (.iconst 4, 1) := dk_7 (dk_at dksX9_beginsFactor_2 14 rfl rfl)
theorem dX9_beginsFactor_62 : decode cX9_beginsFactor 62 = .ok (.if_icmp .ne 14, 3) := dk_160 0 14 (dk_at dksX9_beginsFactor_2 15 rfl rfl)
theorem dX9_beginsFactor_65 : decode cX9_beginsFactor 65 = .ok (.aload_n 0, 1) := dk_42 (dk_at dksX9_beginsFactor_2 18 rfl rfl)
theorem dX9_beginsFactor_66 : decode cX9_beginsFactor 66 = .ok (.iconst 0, 1) := dk_3 (dk_at dksX9_beginsFactor_2 19 rfl rfl)
theorem dX9_beginsFactor_67 : decode cX9_beginsFactor 67 = .ok (.aload_n 0, 1) := dk_42 (dk_at dksX9_beginsFactor_2 20 rfl rfl)
theorem dX9_beginsFactor_68 : decode cX9_beginsFactor 68 = .ok (.invokevirtual 342, 3) := dk_182 1 86 (dk_at dksX9_beginsFactor_2 21 rfl rfl)
theorem dX9_beginsFactor_71 : decode cX9_beginsFactor 71 = .ok (.invokevirtual 332, 3) := dk_182 1 76 (dk_at dksX9_beginsFactor_3 0 rfl rfl)
theorem dX9_beginsFactor_74 : decode cX9_beginsFactor 74 = .ok (.iconst 1, 1) := dk_4 (dk_at dksX9_beginsFactor_3 3 rfl rfl)
theorem dX9_beginsFactor_75 : decode cX9_beginsFactor 75 = .ok (.ireturn, 1) := dk_172 (dk_at dksX9_beginsFactor_3 4 rfl rfl)
theorem dX9_beginsFactor_76 : decode cX9_beginsFactor 76 = .ok (.aload_n 0, 1) := dk_42 (dk_at dksX9_beginsFactor_3 5 rfl rfl)
theorem dX9_beginsFactor_77 : decode cX9_beginsFactor 77 = .ok (.bipush 118, 2) := dk_16 118 (dk_at dksX9_beginsFactor_3 6 rfl rfl)
theorem dX9_beginsFactor_79 : decode cX9_beginsFactor 79 = .ok (.invokevirtual 313, 3) := dk_182 1 57 (dk_at dksX9_beginsFactor_3 8 rfl rfl)
theorem dX9_beginsFactor_82 : decode cX9_beginsFactor 82 = .ok (.ifCond .eq 35, 3) := dk_153 0 35 (dk_at dksX9_beginsFactor_3 11 rfl rfl)
theorem dX9_beginsFactor_85 : decode cX9_beginsFactor 85 = .ok (.aload_n 0, 1) := dk_42 (dk_at dksX9_beginsFactor_3 14 rfl rfl)
theorem dX9_beginsFactor_86 : decode cX9_beginsFactor 86 = .ok (.getfield 250, 3) := dk_180 0 250 (dk_at dksX9_beginsFactor_3 15 rfl rfl)
theorem dX9_beginsFactor_89 : decode cX9_beginsFactor 89 = .ok (.iconst 5, 1) := dk_8 (dk_at dksX9_beginsFactor_3 18 rfl rfl)
theorem dX9_beginsFactor_90 : decode cX9_beginsFactor 90 = .ok (.if_icmp .le 12, 3) := dk_164 0 12 (dk_at dksX9_beginsFactor_3 19 rfl rfl)
theorem dX9_beginsFactor_93 : decode cX9_beginsFactor 93 = .ok (.aload_n 0, 1) := dk_42 (dk_at dksX9_beginsFactor_3 22 rfl rfl)
theorem dX9_beginsFactor_94 : decode cX9_beginsFactor 94 = .ok (.iconst 2, 1) := dk_5 (dk_at dksX9_beginsFactor_3 23 rfl rfl)
theorem dX9_beginsFactor_95 : decode cX9_beginsFactor 95 = .ok (.aload_n 0, 1) := dk_42 (dk_at dksX9_beginsFactor_4 0 rfl rfl)
theorem dX9_beginsFactor_96 : decode cX9_beginsFactor 96 = .ok (.getfield 279, 3) := dk_180 1 23 (dk_at dksX9_beginsFactor_4 1 rfl rfl)
theorem dX9_beginsFactor_99 : decode cX9_beginsFactor 99 = .ok (.invokevirtual 297, 3) := dk_182 1 41 (dk_at dksX9_beginsFactor_4 4 rfl rfl)
theorem dX9_beginsFactor_102 : decode cX9_beginsFactor 102 = .ok (.aload_n 0, 1) := dk_42 (dk_at dksX9_beginsFactor_4 7 rfl rfl)
theorem dX9_beginsFactor_103 : decode cX9_beginsFactor 103 = .ok (.iconst 1, 1) := dk_4 (dk_at dksX9_beginsFactor_4 8 rfl rfl)
theorem dX9_beginsFactor_104 : decode cX9_beginsFactor 104 = .ok (.aload_n 0, 1) := dk_42 (dk_at dksX9_beginsFactor_4 9 rfl rfl)
theorem dX9_beginsFactor_105 : decode cX9_beginsFactor 105 = .ok (.getfield 250, 3) := dk_180 0 250 (dk_at dksX9_beginsFactor_4 10 rfl rfl)
theorem dX9_beginsFactor_108 : decode cX9_beginsFactor 108 = .ok (.invokevirtual 332, 3) := dk_182 1 76 (dk_at dksX9_beginsFactor_4 13 rfl rfl)
theorem dX9_beginsFactor_111 : decode cX9_beginsFactor 111 = .ok (.aload_n 0, 1) := dk_42 (dk_at dksX9_beginsFactor_4 16 rfl rfl)
theorem dX9_beginsFactor_112 : decode cX9_beginsFactor 112 = .ok (.invokevirtual 310, 3) := dk_182 1 54 (dk_at dksX9_beginsFactor_4 17 rfl rfl)
theorem dX9_beginsFactor_115 : decode cX9_beginsFactor 115 = .ok (.iconst 1, 1) := dk_4 (dk_at dksX9_beginsFactor_4 20 rfl rfl)
theorem dX9_beginsFactor_116 : decode cX9_beginsFactor 116 = .ok (.ireturn, 1) := dk_172 (dk_at dksX9_beginsFactor_4 21 rfl rfl)
theorem dX9_beginsFactor_117 : decode cX9_beginsFactor 117 = .ok (.aload_n 0, 1) := dk_42 (dk_at dksX9_beginsFactor_4 22 rfl rfl)
theorem dX9_beginsFactor_118 : decode cX9_beginsFactor 118 = .ok (.bipush 17, 2) := dk_16 17 (dk_at dksX9_beginsFactor_5 0 rfl rfl)
theorem dX9_beginsFactor_120 : decode cX9_beginsFactor 120 = .ok (.invokevirtual 345, 3) := dk_182 1 89 (dk_at dksX9_beginsFactor_5 2 rfl rfl)
theorem dX9_beginsFactor_123 : decode cX9_beginsFactor 123 = .ok (.ifCond .eq 35, 3) := dk_153 0 35 (dk_at dksX9_beginsFactor_5 5 rfl rfl)
theorem dX9_beginsFactor_126 : decode cX9_beginsFactor 126 = .ok (.aload_n 0, 1) := dk_42 (dk_at dksX9_beginsFactor_5 8 rfl rfl)
theorem dX9_beginsFactor_127 : decode cX9_beginsFactor 127 = .ok (.invokevirtual 335, 3) := dk_182 1 79 (dk_at dksX9_beginsFactor_5 9 rfl rfl)
theorem dX9_beginsFactor_130 : decode cX9_beginsFactor 130 = .ok (.ifCond .eq 26, 3) := dk_153 0 26 (dk_at dksX9_beginsFactor_5 12 rfl rfl)
theorem dX9_beginsFactor_133 : decode cX9_beginsFactor 133 = .ok (.aload_n 0, 1) := dk_42 (dk_at dksX9_beginsFactor_5 15 rfl rfl)
theorem dX9_beginsFactor_134 : decode cX9_beginsFactor 134 = .ok (.dup, 1) := dk_89 (dk_at dksX9_beginsFactor_5 16 rfl rfl)
theorem dX9_beginsFactor_135 : decode cX9_beginsFactor 135 = .ok (.getfield 326, 3) := dk_180 1 70 (dk_at dksX9_beginsFactor_5 17 rfl rfl)
theorem dX9_beginsFactor_138 : decode cX9_beginsFactor 138 = .ok (.iconst 1, 1) := dk_4 (dk_at dksX9_beginsFactor_5 20 rfl rfl)
theorem dX9_beginsFactor_139 : decode cX9_beginsFactor 139 = .ok (.isub, 1) := dk_100 (dk_at dksX9_beginsFactor_5 21 rfl rfl)
theorem dX9_beginsFactor_140 : decode cX9_beginsFactor 140 = .ok (.putfield 326, 3) := dk_181 1 70 (dk_at dksX9_beginsFactor_6 0 rfl rfl)
theorem dX9_beginsFactor_143 : decode cX9_beginsFactor 143 = .ok (.aload_n 0, 1) := dk_42 (dk_at dksX9_beginsFactor_6 3 rfl rfl)
theorem dX9_beginsFactor_144 : decode cX9_beginsFactor 144 = .ok (.invokevirtual 310, 3) := dk_182 1 54 (dk_at dksX9_beginsFactor_6 4 rfl rfl)
theorem dX9_beginsFactor_147 : decode cX9_beginsFactor 147 = .ok (.aload_n 0, 1) := dk_42 (dk_at dksX9_beginsFactor_6 7 rfl rfl)
theorem dX9_beginsFactor_148 : decode cX9_beginsFactor 148 = .ok (.iconst 3, 1) := dk_6 (dk_at dksX9_beginsFactor_6 8 rfl rfl)
theorem dX9_beginsFactor_149 : decode cX9_beginsFactor 149 = .ok (.aload_n 0, 1) := dk_42 (dk_at dksX9_beginsFactor_6 9 rfl rfl)
theorem dX9_beginsFactor_150 : decode cX9_beginsFactor 150 = .ok (.invokevirtual 348, 3) := dk_182 1 92 (dk_at dksX9_beginsFactor_6 10 rfl rfl)
theorem dX9_beginsFactor_153 : decode cX9_beginsFactor 153 = .ok (.invokevirtual 332, 3) := dk_182 1 76 (dk_at dksX9_beginsFactor_6 13 rfl rfl)
theorem dX9_beginsFactor_156 : decode cX9_beginsFactor 156 = .ok (.iconst 1, 1) := dk_4 (dk_at dksX9_beginsFactor_6 16 rfl rfl)
theorem dX9_beginsFactor_157 : decode cX9_beginsFactor 157 = .ok (.ireturn, 1) := dk_172 (dk_at dksX9_beginsFactor_6 17 rfl rfl)
theorem dX9_beginsFactor_158 : decode cX9_beginsFactor 158 = .ok (.aload_n 0, 1) := dk_42 (dk_at dksX9_beginsFactor_6 18 rfl rfl)
theorem dX9_beginsFactor_159 : decode cX9_beginsFactor 159 = .ok (.invokevirtual 348, 3) := dk_182 1 92 (dk_at dksX9_beginsFactor_6 19 rfl rfl)
theorem dX9_beginsFactor_162 : decode cX9_beginsFactor 162 = .ok (.istore_n 1, 1) := dk_60 (dk_at dksX9_beginsFactor_6 22 rfl rfl)
theorem dX9_beginsFactor_163 : decode cX9_beginsFactor 163 = .ok (.aload_n 0, 1) := dk_42 (dk_at dksX9_beginsFactor_6 23 rfl rfl)
theorem dX9_beginsFactor_164 : decode cX9_beginsFactor 164 = .ok (.getfield 291, 3) := dk_180 1 35 (dk_at dksX9_beginsFactor_7 0 rfl rfl)
theorem dX9_beginsFactor_167 : decode cX9_beginsFactor 167 = .ok (.ifCond .ne 16, 3) := dk_154 0 16 (dk_at dksX9_beginsFactor_7 3 rfl rfl)
theorem dX9_beginsFactor_170 : decode cX9_beginsFactor 170 = .ok (.aload_n 0, 1) := dk_42 (dk_at dksX9_beginsFactor_7 6 rfl rfl)
theorem dX9_beginsFactor_171 : decode cX9_beginsFactor 171 = .ok (.bipush 91, 2) := dk_16 91 (dk_at dksX9_beginsFactor_7 7 rfl rfl)
theorem dX9_beginsFactor_173 : decode cX9_beginsFactor 173 = .ok (.invokevirtual 304, 3) := dk_182 1 48 (dk_at dksX9_beginsFactor_7 9 rfl rfl)
theorem dX9_beginsFactor_176 : decode cX9_beginsFactor 176 = .ok (.ifCond .ne 7, 3) := dk_154 0 7 (dk_at dksX9_beginsFactor_7 12 rfl rfl)
theorem dX9_beginsFactor_179 : decode cX9_beginsFactor 179 = .ok (.aload_n 0, 1) := dk_42 (dk_at dksX9_beginsFactor_7 15 rfl rfl)
theorem dX9_beginsFactor_180 : decode cX9_beginsFactor 180 = .ok (.invokevirtual 307, 3) := dk_182 1 51 (dk_at dksX9_beginsFactor_7 16 rfl rfl)
theorem dX9_beginsFactor_183 : decode cX9_beginsFactor 183 = .ok (.aload_n 0, 1) := dk_42 (dk_at dksX9_beginsFactor_7 19 rfl rfl)
theorem dX9_beginsFactor_184 : decode cX9_beginsFactor 184 = .ok (.getfield 291, 3) := dk_180 1 35 (dk_at dksX9_beginsFactor_7 20 rfl rfl)
theorem dX9_beginsFactor_187 : decode cX9_beginsFactor 187 = .ok (.ifCond .ne 21, 3) := dk_154 0 21 (dk_at dksX9_beginsFactor_8 0 rfl rfl)
theorem dX9_beginsFactor_190 : decode cX9_beginsFactor 190 = .ok (.aload_n 0, 1) := dk_42 (dk_at dksX9_beginsFactor_8 3 rfl rfl)
theorem dX9_beginsFactor_191 : decode cX9_beginsFactor 191 = .ok (.invokevirtual 335, 3) := dk_182 1 79 (dk_at dksX9_beginsFactor_8 4 rfl rfl)
theorem dX9_beginsFactor_194 : decode cX9_beginsFactor 194 = .ok (.ifCond .eq 14, 3) := dk_153 0 14 (dk_at dksX9_beginsFactor_8 7 rfl rfl)
theorem dX9_beginsFactor_197 : decode cX9_beginsFactor 197 = .ok (.aload_n 0, 1) := dk_42 (dk_at dksX9_beginsFactor_8 10 rfl rfl)
theorem dX9_beginsFactor_198 : decode cX9_beginsFactor 198 = .ok (.bipush 91, 2) := dk_16 91 (dk_at dksX9_beginsFactor_8 11 rfl rfl)
theorem dX9_beginsFactor_200 : decode cX9_beginsFactor 200 = .ok (.iload_n 1, 1) := dk_27 (dk_at dksX9_beginsFactor_8 13 rfl rfl)
theorem dX9_beginsFactor_201 : decode cX9_beginsFactor 201 = .ok (.invokevirtual 339, 3) := dk_182 1 83 (dk_at dksX9_beginsFactor_8 14 rfl rfl)
theorem dX9_beginsFactor_204 : decode cX9_beginsFactor 204 = .ok (.aload_n 0, 1) := dk_42 (dk_at dksX9_beginsFactor_8 17 rfl rfl)
theorem dX9_beginsFactor_205 : decode cX9_beginsFactor 205 = .ok (.invokevirtual 310, 3) := dk_182 1 54 (dk_at dksX9_beginsFactor_8 18 rfl rfl)
theorem dX9_beginsFactor_208 : decode cX9_beginsFactor 208 = .ok (.iconst 0, 1) := dk_3 (dk_at dksX9_beginsFactor_8 21 rfl rfl)
theorem dX9_beginsFactor_209 : decode cX9_beginsFactor 209 = .ok (.ireturn, 1) := dk_172 (dk_at dksX9_beginsFactor_8 22 rfl rfl)
theorem okX9_beginsFactor_0 : XOkL xms rX9_beginsFactor bX9_beginsFactor_0 := xcP (xok_aload_n dX9_beginsFactor_0 rfl) rfl (xcP (xok_bipush dX9_beginsFactor_1 rfl) rfl (xcC0 (xokc_list (List.forall_mem_cons.mpr ⟨xokc_V (r := (RX9, TX9, 96)) xm117 (List.mem_of_getElem? (i := 9) rfl) (by decide) rfl dX9_beginsFactor_3 q2297 q2299 qs67 q149 q2300 (by decide +kernel), fun _ h => nomatch h⟩)) rfl (xcP (xok_ifeq dX9_beginsFactor_6 (by decide)) rfl (xcP (xok_aload_n dX9_beginsFactor_9 rfl) rfl (xcC0 (xokc_list (List.forall_mem_cons.mpr ⟨xokc_V (r := (RX9, TX9, 96)) xm131 (List.mem_of_getElem? (i := 9) rfl) (by decide) rfl dX9_beginsFactor_10 q2353 q2355 qs81 q149 q2356 (by decide +kernel), fun _ h => nomatch h⟩)) rfl (xcP (xok_ifeq dX9_beginsFactor_13 (by decide)) rfl (xcP (xok_aload_n dX9_beginsFactor_16 rfl) rfl (xcP (xok_iconst dX9_beginsFactor_17 rfl) rfl (xcP (xok_iconst dX9_beginsFactor_18 rfl) rfl (xcC0 (xokc_list (List.forall_mem_cons.mpr ⟨xokc_V (r := (RX9, TX9, 96)) xm132 (List.mem_of_getElem? (i := 9) rfl) (by decide) rfl dX9_beginsFactor_19 q2357 q2359 qs82 q149 q2360 (by decide +kernel), fun _ h => nomatch h⟩)) rfl (xcP (xok_aload_n dX9_beginsFactor_22 rfl) rfl (xcC0 (xokc_list (List.forall_mem_cons.mpr ⟨xokc_V (r := (RX9, TX9, 96)) xm102 (List.mem_of_getElem? (i := 9) rfl) (by decide) rfl dX9_beginsFactor_23 q2235 q2237 qs53 q149 q2238 (by decide +kernel), fun _ h => nomatch h⟩)) rfl (xcP xok_fal rfl trivial)))))))))))))
theorem okX9_beginsFactor_26 : XOkL xms rX9_beginsFactor bX9_beginsFactor_26 := xcP (xok_iconst dX9_beginsFactor_26 rfl) rfl (xcR ⟨dX9_beginsFactor_27, rfl⟩)
theorem okX9_beginsFactor_28 : XOkL xms rX9_beginsFactor bX9_beginsFactor_28 := xcP (xok_aload_n dX9_beginsFactor_28 rfl) rfl (xcP (xok_bipush dX9_beginsFactor_29 rfl) rfl (xcC0 (xokc_list (List.forall_mem_cons.mpr ⟨xokc_V (r := (RX9, TX9, 96)) xm117 (List.mem_of_getElem? (i := 9) rfl) (by decide) rfl dX9_beginsFactor_31 q2297 q2299 qs67 q149 q2300 (by decide +kernel), fun _ h => nomatch h⟩)) rfl (xcP (xok_ifeq dX9_beginsFactor_34 (by decide)) rfl (xcP (xok_aload_n dX9_beginsFactor_37 rfl) rfl (xcC0 (xokc_list (List.forall_mem_cons.mpr ⟨xokc_V (r := (RX9, TX9, 96)) xm131 (List.mem_of_getElem? (i := 9) rfl) (by decide) rfl dX9_beginsFactor_38 q2353 q2355 qs81 q149 q2356 (by decide +kernel), fun _ h => nomatch h⟩)) rfl (xcP (xok_ifeq dX9_beginsFactor_41 (by decide)) rfl (xcP (xok_aload_n dX9_beginsFactor_44 rfl) rfl (xcP (xok_bipush dX9_beginsFactor_45 rfl) rfl (xcP (xok_iconst dX9_beginsFactor_47 rfl) rfl (xcC0 (xokc_list (List.forall_mem_cons.mpr ⟨xokc_V (r := (RX9, TX9, 96)) xm132 (List.mem_of_getElem? (i := 9) rfl) (by decide) rfl dX9_beginsFactor_48 q2357 q2359 qs82 q149 q2360 (by decide +kernel), fun _ h => nomatch h⟩)) rfl (xcP (xok_aload_n dX9_beginsFactor_51 rfl) rfl (xcC0 (xokc_list (List.forall_mem_cons.mpr ⟨xokc_V (r := (RX9, TX9, 96)) xm102 (List.mem_of_getElem? (i := 9) rfl) (by decide) rfl dX9_beginsFactor_52 q2235 q2237 qs53 q149 q2238 (by decide +kernel), fun _ h => nomatch h⟩)) rfl (xcP xok_fal rfl trivial)))))))))))))
theorem okX9_beginsFactor_55 : XOkL xms rX9_beginsFactor bX9_beginsFactor_55 := xcP (xok_iconst dX9_beginsFactor_55 rfl) rfl (xcR ⟨dX9_beginsFactor_56, rfl⟩)
theorem okX9_beginsFactor_57 : XOkL xms rX9_beginsFactor bX9_beginsFactor_57 := xcP (xok_aload_n dX9_beginsFactor_57 rfl) rfl (xcP (xok_getfield (ref := "WaysAtlasModel") (Or.inl ⟨rfl, by decide⟩) dX9_beginsFactor_58 (Or.inl ⟨q1933, (Or.inl rfl)⟩) xh40) rfl (xcP (xok_iconst dX9_beginsFactor_61 rfl) rfl (xcP (xok_icmpne dX9_beginsFactor_62 (by decide)) rfl (xcP (xok_aload_n dX9_beginsFactor_65 rfl) rfl (xcP (xok_iconst dX9_beginsFactor_66 rfl) rfl (xcP (xok_aload_n dX9_beginsFactor_67 rfl) rfl (xcC0 (xokc_list (List.forall_mem_cons.mpr ⟨xokc_V (r := (RX9, TX9, 96)) xm133 (List.mem_of_getElem? (i := 9) rfl) (by decide) rfl dX9_beginsFactor_68 q2361 q2363 qs83 q149 q2364 (by decide +kernel), fun _ h => nomatch h⟩)) rfl (xcC0 (xokc_list (List.forall_mem_cons.mpr ⟨xokc_V (r := (RX9, TX9, 96)) xm134 (List.mem_of_getElem? (i := 9) rfl) (by decide) rfl dX9_beginsFactor_71 q2365 q2367 qs84 q149 q2368 (by decide +kernel), fun _ h => nomatch h⟩)) rfl (xcP (xok_iconst dX9_beginsFactor_74 rfl) rfl (xcR ⟨dX9_beginsFactor_75, rfl⟩))))))))))
theorem okX9_beginsFactor_76 : XOkL xms rX9_beginsFactor bX9_beginsFactor_76 := xcP (xok_aload_n dX9_beginsFactor_76 rfl) rfl (xcP (xok_bipush dX9_beginsFactor_77 rfl) rfl (xcC0 (xokc_list (List.forall_mem_cons.mpr ⟨xokc_V (r := (RX9, TX9, 96)) xm114 (List.mem_of_getElem? (i := 9) rfl) (by decide) rfl dX9_beginsFactor_79 q2285 q2287 qs64 q149 q2288 (by decide +kernel), fun _ h => nomatch h⟩)) rfl (xcP (xok_ifeq dX9_beginsFactor_82 (by decide)) rfl (xcP (xok_aload_n dX9_beginsFactor_85 rfl) rfl (xcP (xok_getfield (ref := "WaysAtlasModel") (Or.inl ⟨rfl, by decide⟩) dX9_beginsFactor_86 (Or.inl ⟨q1936, (Or.inl rfl)⟩) xh43) rfl (xcP (xok_iconst dX9_beginsFactor_89 rfl) rfl (xcP (xok_icmple dX9_beginsFactor_90 (by decide)) rfl (xcP (xok_aload_n dX9_beginsFactor_93 rfl) rfl (xcP (xok_iconst dX9_beginsFactor_94 rfl) rfl (xcP (xok_aload_n dX9_beginsFactor_95 rfl) rfl (xcP (xok_getfield (ref := "WaysAtlasModel") (Or.inl ⟨rfl, by decide⟩) dX9_beginsFactor_96 (Or.inl ⟨q1934, (Or.inl rfl)⟩) xh41) rfl (xcC0 (xokc_list (List.forall_mem_cons.mpr ⟨xokc_V (r := (RX9, TX9, 96)) xm111 (List.mem_of_getElem? (i := 9) rfl) (by decide) rfl dX9_beginsFactor_99 q2273 q2275 qs61 q149 q2276 (by decide +kernel), fun _ h => nomatch h⟩)) rfl (xcP xok_fal rfl trivial)))))))))))))
theorem okX9_beginsFactor_102 : XOkL xms rX9_beginsFactor bX9_beginsFactor_102 := xcP (xok_aload_n dX9_beginsFactor_102 rfl) rfl (xcP (xok_iconst dX9_beginsFactor_103 rfl) rfl (xcP (xok_aload_n dX9_beginsFactor_104 rfl) rfl (xcP (xok_getfield (ref := "WaysAtlasModel") (Or.inl ⟨rfl, by decide⟩) dX9_beginsFactor_105 (Or.inl ⟨q1936, (Or.inl rfl)⟩) xh43) rfl (xcC0 (xokc_list (List.forall_mem_cons.mpr ⟨xokc_V (r := (RX9, TX9, 96)) xm134 (List.mem_of_getElem? (i := 9) rfl) (by decide) rfl dX9_beginsFactor_108 q2365 q2367 qs84 q149 q2368 (by decide +kernel), fun _ h => nomatch h⟩)) rfl (xcP (xok_aload_n dX9_beginsFactor_111 rfl) rfl (xcC0 (xokc_list (List.forall_mem_cons.mpr ⟨xokc_V (r := (RX9, TX9, 96)) xm102 (List.mem_of_getElem? (i := 9) rfl) (by decide) rfl dX9_beginsFactor_112 q2235 q2237 qs53 q149 q2238 (by decide +kernel), fun _ h => nomatch h⟩)) rfl (xcP (xok_iconst dX9_beginsFactor_115 rfl) rfl (xcR ⟨dX9_beginsFactor_116, rfl⟩))))))))
theorem okX9_beginsFactor_117 : XOkL xms rX9_beginsFactor bX9_beginsFactor_117 := xcP (xok_aload_n dX9_beginsFactor_117 rfl) rfl (xcP (xok_bipush dX9_beginsFactor_118 rfl) rfl (xcC0 (xokc_list (List.forall_mem_cons.mpr ⟨xokc_V (r := (RX9, TX9, 96)) xm110 (List.mem_of_getElem? (i := 9) rfl) (by decide) rfl dX9_beginsFactor_120 q2269 q2271 qs60 q149 q2272 (by decide +kernel), fun _ h => nomatch h⟩)) rfl (xcP (xok_ifeq dX9_beginsFactor_123 (by decide)) rfl (xcP (xok_aload_n dX9_beginsFactor_126 rfl) rfl (xcC0 (xokc_list (List.forall_mem_cons.mpr ⟨xokc_V (r := (RX9, TX9, 96)) xm131 (List.mem_of_getElem? (i := 9) rfl) (by decide) rfl dX9_beginsFactor_127 q2353 q2355 qs81 q149 q2356 (by decide +kernel), fun _ h => nomatch h⟩)) rfl (xcP (xok_ifeq dX9_beginsFactor_130 (by decide)) rfl (xcP (xok_aload_n dX9_beginsFactor_133 rfl) rfl (xcP (xok_dup dX9_beginsFactor_134) rfl (xcP (xok_getfield (ref := "WaysAtlasModel") (Or.inl ⟨rfl, by decide⟩) dX9_beginsFactor_135 (Or.inl ⟨q1965, (Or.inl rfl)⟩) xh54) rfl (xcP (xok_iconst dX9_beginsFactor_138 rfl) rfl (xcP (xok_isub dX9_beginsFactor_139) rfl (xcP (xok_putfield (ref := "WaysAtlasModel") (Or.inl ⟨rfl, by decide, rfl⟩) dX9_beginsFactor_140 (Or.inl ⟨q1965, (Or.inl rfl)⟩) (Or.inl rfl) xh54) rfl (xcP (xok_aload_n dX9_beginsFactor_143 rfl) rfl (xcC0 (xokc_list (List.forall_mem_cons.mpr ⟨xokc_V (r := (RX9, TX9, 96)) xm102 (List.mem_of_getElem? (i := 9) rfl) (by decide) rfl dX9_beginsFactor_144 q2235 q2237 qs53 q149 q2238 (by decide +kernel), fun _ h => nomatch h⟩)) rfl (xcP (xok_aload_n dX9_beginsFactor_147 rfl) rfl (xcP (xok_iconst dX9_beginsFactor_148 rfl) rfl (xcP (xok_aload_n dX9_beginsFactor_149 rfl) rfl (xcC0 (xokc_list (List.forall_mem_cons.mpr ⟨xokc_V (r := (RX9, TX9, 96)) xm135 (List.mem_of_getElem? (i := 9) rfl) (by decide) rfl dX9_beginsFactor_150 q2369 q2371 qs85 q149 q2372 (by decide +kernel), fun _ h => nomatch h⟩)) rfl (xcC0 (xokc_list (List.forall_mem_cons.mpr ⟨xokc_V (r := (RX9, TX9, 96)) xm134 (List.mem_of_getElem? (i := 9) rfl) (by decide) rfl dX9_beginsFactor_153 q2365 q2367 qs84 q149 q2368 (by decide +kernel), fun _ h => nomatch h⟩)) rfl (xcP xok_fal rfl trivial))))))))))))))))))))
theorem okX9_beginsFactor_156 : XOkL xms rX9_beginsFactor bX9_beginsFactor_156 := xcP (xok_iconst dX9_beginsFactor_156 rfl) rfl (xcR ⟨dX9_beginsFactor_157, rfl⟩)
theorem okX9_beginsFactor_158 : XOkL xms rX9_beginsFactor bX9_beginsFactor_158 := xcP (xok_aload_n dX9_beginsFactor_158 rfl) rfl (xcC0 (xokc_list (List.forall_mem_cons.mpr ⟨xokc_V (r := (RX9, TX9, 96)) xm135 (List.mem_of_getElem? (i := 9) rfl) (by decide) rfl dX9_beginsFactor_159 q2369 q2371 qs85 q149 q2372 (by decide +kernel), fun _ h => nomatch h⟩)) rfl (xcP (xok_istore_n dX9_beginsFactor_162 rfl) rfl (xcP (xok_aload_n dX9_beginsFactor_163 rfl) rfl (xcP (xok_getfield (ref := "WaysAtlasModel") (Or.inl ⟨rfl, by decide⟩) dX9_beginsFactor_164 (Or.inl ⟨q1955, (Or.inl rfl)⟩) xh49) rfl (xcP (xok_ifne dX9_beginsFactor_167 (by decide)) rfl (xcP (xok_aload_n dX9_beginsFactor_170 rfl) rfl (xcP (xok_bipush dX9_beginsFactor_171 rfl) rfl (xcC0 (xokc_list (List.forall_mem_cons.mpr ⟨xokc_V (r := (RX9, TX9, 96)) xm117 (List.mem_of_getElem? (i := 9) rfl) (by decide) rfl dX9_beginsFactor_173 q2297 q2299 qs67 q149 q2300 (by decide +kernel), fun _ h => nomatch h⟩)) rfl (xcP (xok_ifne dX9_beginsFactor_176 (by decide)) rfl (xcP (xok_aload_n dX9_beginsFactor_179 rfl) rfl (xcC0 (xokc_list (List.forall_mem_cons.mpr ⟨xokc_V (r := (RX9, TX9, 96)) xm112 (List.mem_of_getElem? (i := 9) rfl) (by decide) rfl dX9_beginsFactor_180 q2277 q2279 qs62 q149 q2280 (by decide +kernel), fun _ h => nomatch h⟩)) rfl (xcP xok_fal rfl trivial))))))))))))
theorem okX9_beginsFactor_183 : XOkL xms rX9_beginsFactor bX9_beginsFactor_183 := xcP (xok_aload_n dX9_beginsFactor_183 rfl) rfl (xcP (xok_getfield (ref := "WaysAtlasModel") (Or.inl ⟨rfl, by decide⟩) dX9_beginsFactor_184 (Or.inl ⟨q1955, (Or.inl rfl)⟩) xh49) rfl (xcP (xok_ifne dX9_beginsFactor_187 (by decide)) rfl (xcP (xok_aload_n dX9_beginsFactor_190 rfl) rfl (xcC0 (xokc_list (List.forall_mem_cons.mpr ⟨xokc_V (r := (RX9, TX9, 96)) xm131 (List.mem_of_getElem? (i := 9) rfl) (by decide) rfl dX9_beginsFactor_191 q2353 q2355 qs81 q149 q2356 (by decide +kernel), fun _ h => nomatch h⟩)) rfl (xcP (xok_ifeq dX9_beginsFactor_194 (by decide)) rfl (xcP (xok_aload_n dX9_beginsFactor_197 rfl) rfl (xcP (xok_bipush dX9_beginsFactor_198 rfl) rfl (xcP (xok_iload_n dX9_beginsFactor_200 rfl) rfl (xcC0 (xokc_list (List.forall_mem_cons.mpr ⟨xokc_V (r := (RX9, TX9, 96)) xm132 (List.mem_of_getElem? (i := 9) rfl) (by decide) rfl dX9_beginsFactor_201 q2357 q2359 qs82 q149 q2360 (by decide +kernel), fun _ h => nomatch h⟩)) rfl (xcP (xok_aload_n dX9_beginsFactor_204 rfl) rfl (xcC0 (xokc_list (List.forall_mem_cons.mpr ⟨xokc_V (r := (RX9, TX9, 96)) xm102 (List.mem_of_getElem? (i := 9) rfl) (by decide) rfl dX9_beginsFactor_205 q2235 q2237 qs53 q149 q2238 (by decide +kernel), fun _ h => nomatch h⟩)) rfl (xcP xok_fal rfl trivial))))))))))))
theorem okX9_beginsFactor_208 : XOkL xms rX9_beginsFactor bX9_beginsFactor_208 := xcP (xok_iconst dX9_beginsFactor_208 rfl) rfl (xcR ⟨dX9_beginsFactor_209, rfl⟩)
theorem okM_X9_beginsFactor : XOkM xms rX9_beginsFactor := xokM0 (List.forall_mem_cons.mpr ⟨⟨rfl, okX9_beginsFactor_0⟩, List.forall_mem_cons.mpr ⟨⟨rfl, okX9_beginsFactor_26⟩, List.forall_mem_cons.mpr ⟨⟨rfl, okX9_beginsFactor_28⟩, List.forall_mem_cons.mpr ⟨⟨rfl, okX9_beginsFactor_55⟩, List.forall_mem_cons.mpr ⟨⟨rfl, okX9_beginsFactor_57⟩, List.forall_mem_cons.mpr ⟨⟨rfl, okX9_beginsFactor_76⟩, List.forall_mem_cons.mpr ⟨⟨rfl, okX9_beginsFactor_102⟩, List.forall_mem_cons.mpr ⟨⟨rfl, okX9_beginsFactor_117⟩, List.forall_mem_cons.mpr ⟨⟨rfl, okX9_beginsFactor_156⟩, List.forall_mem_cons.mpr ⟨⟨rfl, okX9_beginsFactor_158⟩, List.forall_mem_cons.mpr ⟨⟨rfl, okX9_beginsFactor_183⟩, List.forall_mem_cons.mpr ⟨⟨rfl, okX9_beginsFactor_208⟩, fun _ h => nomatch h⟩⟩⟩⟩⟩⟩⟩⟩⟩⟩⟩⟩) (xokH0 rfl (fun _ _ => rfl)) (by decide +kernel) (by decide)
abbrev cX9_mayGoDeeper : ByteArray := prog_36_method_27_code
def dkwX9_mayGoDeeper_1 : List UInt8 := [180, 1, 70, 4, 96, 181, 1, 70, 4, 172]
abbrev dktX9_mayGoDeeper_1 : List UInt8 := dkwX9_mayGoDeeper_1 ++ []
def dkwX9_mayGoDeeper_0 : List UInt8 := [42, 180, 1, 70, 16, 8, 160, 0, 14, 42, 5, 42, 180, 1, 23, 182, 1, 41, 3, 172, 42, 89]
abbrev dktX9_mayGoDeeper_0 : List UInt8 := dkwX9_mayGoDeeper_0 ++ dktX9_mayGoDeeper_1
theorem dksX9_mayGoDeeper_0 : cX9_mayGoDeeper.data.toList.drop 0 = dktX9_mayGoDeeper_0 := by decide +kernel
theorem dksX9_mayGoDeeper_1 : cX9_mayGoDeeper.data.toList.drop 22 = dktX9_mayGoDeeper_1 := dk_seg dksX9_mayGoDeeper_0 22 rfl rfl
theorem dX9_mayGoDeeper_0 : decode cX9_mayGoDeeper 0 = .ok (.aload_n 0, 1) := dk_42 (dk_at dksX9_mayGoDeeper_0 0 rfl rfl)
theorem dX9_mayGoDeeper_1 : decode cX9_mayGoDeeper 1 = .ok (.getfield 326, 3) := dk_180 1 70 (dk_at dksX9_mayGoDeeper_0 1 rfl rfl)
theorem dX9_mayGoDeeper_4 : decode cX9_mayGoDeeper 4 = .ok (.bipush 8, 2) := dk_16 8 (dk_at dksX9_mayGoDeeper_0 4 rfl rfl)
theorem dX9_mayGoDeeper_6 : decode cX9_mayGoDeeper 6 = .ok (.if_icmp .ne 14, 3) := dk_160 0 14 (dk_at dksX9_mayGoDeeper_0 6 rfl rfl)
theorem dX9_mayGoDeeper_9 : decode cX9_mayGoDeeper 9 = .ok (.aload_n 0, 1) := dk_42 (dk_at dksX9_mayGoDeeper_0 9 rfl rfl)
theorem dX9_mayGoDeeper_10 : decode cX9_mayGoDeeper 10 = .ok (.iconst 2, 1) := dk_5 (dk_at dksX9_mayGoDeeper_0 10 rfl rfl)
theorem dX9_mayGoDeeper_11 : decode cX9_mayGoDeeper 11 = .ok (.aload_n 0, 1) := dk_42 (dk_at dksX9_mayGoDeeper_0 11 rfl rfl)
theorem dX9_mayGoDeeper_12 : decode cX9_mayGoDeeper 12 = .ok (.getfield 279, 3) := dk_180 1 23 (dk_at dksX9_mayGoDeeper_0 12 rfl rfl)
theorem dX9_mayGoDeeper_15 : decode cX9_mayGoDeeper 15 = .ok (.invokevirtual 297, 3) := dk_182 1 41 (dk_at dksX9_mayGoDeeper_0 15 rfl rfl)
theorem dX9_mayGoDeeper_18 : decode cX9_mayGoDeeper 18 = .ok (.iconst 0, 1) := dk_3 (dk_at dksX9_mayGoDeeper_0 18 rfl rfl)
theorem dX9_mayGoDeeper_19 : decode cX9_mayGoDeeper 19 = .ok (.ireturn, 1) := dk_172 (dk_at dksX9_mayGoDeeper_0 19 rfl rfl)
theorem dX9_mayGoDeeper_20 : decode cX9_mayGoDeeper 20 = .ok (.aload_n 0, 1) := dk_42 (dk_at dksX9_mayGoDeeper_0 20 rfl rfl)
theorem dX9_mayGoDeeper_21 : decode cX9_mayGoDeeper 21 = .ok (.dup, 1) := dk_89 (dk_at dksX9_mayGoDeeper_0 21 rfl rfl)
theorem dX9_mayGoDeeper_22 : decode cX9_mayGoDeeper 22 = .ok (.getfield 326, 3) := dk_180 1 70 (dk_at dksX9_mayGoDeeper_1 0 rfl rfl)
theorem dX9_mayGoDeeper_25 : decode cX9_mayGoDeeper 25 = .ok (.iconst 1, 1) := dk_4 (dk_at dksX9_mayGoDeeper_1 3 rfl rfl)
theorem dX9_mayGoDeeper_26 : decode cX9_mayGoDeeper 26 = .ok (.iadd, 1) := dk_96 (dk_at dksX9_mayGoDeeper_1 4 rfl rfl)
theorem dX9_mayGoDeeper_27 : decode cX9_mayGoDeeper 27 = .ok (.putfield 326, 3) := dk_181 1 70 (dk_at dksX9_mayGoDeeper_1 5 rfl rfl)
theorem dX9_mayGoDeeper_30 : decode cX9_mayGoDeeper 30 = .ok (.iconst 1, 1) := dk_4 (dk_at dksX9_mayGoDeeper_1 8 rfl rfl)
theorem dX9_mayGoDeeper_31 : decode cX9_mayGoDeeper 31 = .ok (.ireturn, 1) := dk_172 (dk_at dksX9_mayGoDeeper_1 9 rfl rfl)
theorem okX9_mayGoDeeper_0 : XOkL xms rX9_mayGoDeeper bX9_mayGoDeeper_0 := xcP (xok_aload_n dX9_mayGoDeeper_0 rfl) rfl (xcP (xok_getfield (ref := "WaysAtlasModel") (Or.inl ⟨rfl, by decide⟩) dX9_mayGoDeeper_1 (Or.inl ⟨q1965, (Or.inl rfl)⟩) xh54) rfl (xcP (xok_bipush dX9_mayGoDeeper_4 rfl) rfl (xcP (xok_icmpne dX9_mayGoDeeper_6 (by decide)) rfl (xcP (xok_aload_n dX9_mayGoDeeper_9 rfl) rfl (xcP (xok_iconst dX9_mayGoDeeper_10 rfl) rfl (xcP (xok_aload_n dX9_mayGoDeeper_11 rfl) rfl (xcP (xok_getfield (ref := "WaysAtlasModel") (Or.inl ⟨rfl, by decide⟩) dX9_mayGoDeeper_12 (Or.inl ⟨q1934, (Or.inl rfl)⟩) xh41) rfl (xcC0 (xokc_list (List.forall_mem_cons.mpr ⟨xokc_V (r := (RX9, TX9, 96)) xm111 (List.mem_of_getElem? (i := 9) rfl) (by decide) rfl dX9_mayGoDeeper_15 q2273 q2275 qs61 q149 q2276 (by decide +kernel), fun _ h => nomatch h⟩)) rfl (xcP (xok_iconst dX9_mayGoDeeper_18 rfl) rfl (xcR ⟨dX9_mayGoDeeper_19, rfl⟩))))))))))
theorem okX9_mayGoDeeper_20 : XOkL xms rX9_mayGoDeeper bX9_mayGoDeeper_20 := xcP (xok_aload_n dX9_mayGoDeeper_20 rfl) rfl (xcP (xok_dup dX9_mayGoDeeper_21) rfl (xcP (xok_getfield (ref := "WaysAtlasModel") (Or.inl ⟨rfl, by decide⟩) dX9_mayGoDeeper_22 (Or.inl ⟨q1965, (Or.inl rfl)⟩) xh54) rfl (xcP (xok_iconst dX9_mayGoDeeper_25 rfl) rfl (xcP (xok_iadd dX9_mayGoDeeper_26) rfl (xcP (xok_putfield (ref := "WaysAtlasModel") (Or.inl ⟨rfl, by decide, rfl⟩) dX9_mayGoDeeper_27 (Or.inl ⟨q1965, (Or.inl rfl)⟩) (Or.inl rfl) xh54) rfl (xcP (xok_iconst dX9_mayGoDeeper_30 rfl) rfl (xcR ⟨dX9_mayGoDeeper_31, rfl⟩)))))))
theorem okM_X9_mayGoDeeper : XOkM xms rX9_mayGoDeeper := xokM0 (List.forall_mem_cons.mpr ⟨⟨rfl, okX9_mayGoDeeper_0⟩, List.forall_mem_cons.mpr ⟨⟨rfl, okX9_mayGoDeeper_20⟩, fun _ h => nomatch h⟩⟩) (xokH0 rfl (fun _ _ => rfl)) (by decide +kernel) (by decide)
abbrev cX9_waitsFor : ByteArray := prog_36_method_26_code
def dkwX9_waitsFor_1 : List UInt8 := [180, 1, 67, 4, 96, 181, 1, 67, 177]
abbrev dktX9_waitsFor_1 : List UInt8 := dkwX9_waitsFor_1 ++ []
def dkwX9_waitsFor_0 : List UInt8 := [42, 180, 0, 108, 42, 180, 1, 67, 27, 79, 42, 180, 0, 111, 42, 180, 1, 67, 28, 79, 42, 89]
abbrev dktX9_waitsFor_0 : List UInt8 := dkwX9_waitsFor_0 ++ dktX9_waitsFor_1
theorem dksX9_waitsFor_0 : cX9_waitsFor.data.toList.drop 0 = dktX9_waitsFor_0 := by decide +kernel
theorem dksX9_waitsFor_1 : cX9_waitsFor.data.toList.drop 22 = dktX9_waitsFor_1 := dk_seg dksX9_waitsFor_0 22 rfl rfl
theorem dX9_waitsFor_0 : decode cX9_waitsFor 0 = .ok (.aload_n 0, 1) := dk_42 (dk_at dksX9_waitsFor_0 0 rfl rfl)
theorem dX9_waitsFor_1 : decode cX9_waitsFor 1 = .ok (.getfield 108, 3) := dk_180 0 108 (dk_at dksX9_waitsFor_0 1 rfl rfl)
theorem dX9_waitsFor_4 : decode cX9_waitsFor 4 = .ok (.aload_n 0, 1) := dk_42 (dk_at dksX9_waitsFor_0 4 rfl rfl)
theorem dX9_waitsFor_5 : decode cX9_waitsFor 5 = .ok (.getfield 323, 3) := dk_180 1 67 (dk_at dksX9_waitsFor_0 5 rfl rfl)
theorem dX9_waitsFor_8 : decode cX9_waitsFor 8 = .ok (.iload_n 1, 1) := dk_27 (dk_at dksX9_waitsFor_0 8 rfl rfl)
theorem dX9_waitsFor_9 : decode cX9_waitsFor 9 = .ok (.iastore, 1) := dk_79 (dk_at dksX9_waitsFor_0 9 rfl rfl)
theorem dX9_waitsFor_10 : decode cX9_waitsFor 10 = .ok (.aload_n 0, 1) := dk_42 (dk_at dksX9_waitsFor_0 10 rfl rfl)
theorem dX9_waitsFor_11 : decode cX9_waitsFor 11 = .ok (.getfield 111, 3) := dk_180 0 111 (dk_at dksX9_waitsFor_0 11 rfl rfl)
theorem dX9_waitsFor_14 : decode cX9_waitsFor 14 = .ok (.aload_n 0, 1) := dk_42 (dk_at dksX9_waitsFor_0 14 rfl rfl)
theorem dX9_waitsFor_15 : decode cX9_waitsFor 15 = .ok (.getfield 323, 3) := dk_180 1 67 (dk_at dksX9_waitsFor_0 15 rfl rfl)
theorem dX9_waitsFor_18 : decode cX9_waitsFor 18 = .ok (.iload_n 2, 1) := dk_28 (dk_at dksX9_waitsFor_0 18 rfl rfl)
theorem dX9_waitsFor_19 : decode cX9_waitsFor 19 = .ok (.iastore, 1) := dk_79 (dk_at dksX9_waitsFor_0 19 rfl rfl)
theorem dX9_waitsFor_20 : decode cX9_waitsFor 20 = .ok (.aload_n 0, 1) := dk_42 (dk_at dksX9_waitsFor_0 20 rfl rfl)
theorem dX9_waitsFor_21 : decode cX9_waitsFor 21 = .ok (.dup, 1) := dk_89 (dk_at dksX9_waitsFor_0 21 rfl rfl)
theorem dX9_waitsFor_22 : decode cX9_waitsFor 22 = .ok (.getfield 323, 3) := dk_180 1 67 (dk_at dksX9_waitsFor_1 0 rfl rfl)
theorem dX9_waitsFor_25 : decode cX9_waitsFor 25 = .ok (.iconst 1, 1) := dk_4 (dk_at dksX9_waitsFor_1 3 rfl rfl)
theorem dX9_waitsFor_26 : decode cX9_waitsFor 26 = .ok (.iadd, 1) := dk_96 (dk_at dksX9_waitsFor_1 4 rfl rfl)
theorem dX9_waitsFor_27 : decode cX9_waitsFor 27 = .ok (.putfield 323, 3) := dk_181 1 67 (dk_at dksX9_waitsFor_1 5 rfl rfl)
theorem dX9_waitsFor_30 : decode cX9_waitsFor 30 = .ok (.return_, 1) := dk_177 (dk_at dksX9_waitsFor_1 8 rfl rfl)
theorem okX9_waitsFor_0 : XOkL xms rX9_waitsFor bX9_waitsFor_0 := xcP (xok_aload_n dX9_waitsFor_0 rfl) rfl (xcP (xok_getfield (ref := "WaysAtlasModel") (Or.inr ⟨rfl, by decide⟩) dX9_waitsFor_1 (Or.inl ⟨q1963, (Or.inl rfl)⟩) xh1075) rfl (xcP (xok_aload_n dX9_waitsFor_4 rfl) rfl (xcP (xok_getfield (ref := "WaysAtlasModel") (Or.inl ⟨rfl, by decide⟩) dX9_waitsFor_5 (Or.inl ⟨q1962, (Or.inl rfl)⟩) xh53) rfl (xcP (xok_iload_n dX9_waitsFor_8 rfl) rfl (xcP (xok_iastore dX9_waitsFor_9) rfl (xcP (xok_aload_n dX9_waitsFor_10 rfl) rfl (xcP (xok_getfield (ref := "WaysAtlasModel") (Or.inr ⟨rfl, by decide⟩) dX9_waitsFor_11 (Or.inl ⟨q1964, (Or.inl rfl)⟩) xh1076) rfl (xcP (xok_aload_n dX9_waitsFor_14 rfl) rfl (xcP (xok_getfield (ref := "WaysAtlasModel") (Or.inl ⟨rfl, by decide⟩) dX9_waitsFor_15 (Or.inl ⟨q1962, (Or.inl rfl)⟩) xh53) rfl (xcP (xok_iload_n dX9_waitsFor_18 rfl) rfl (xcP (xok_iastore dX9_waitsFor_19) rfl (xcP (xok_aload_n dX9_waitsFor_20 rfl) rfl (xcP (xok_dup dX9_waitsFor_21) rfl (xcP (xok_getfield (ref := "WaysAtlasModel") (Or.inl ⟨rfl, by decide⟩) dX9_waitsFor_22 (Or.inl ⟨q1962, (Or.inl rfl)⟩) xh53) rfl (xcP (xok_iconst dX9_waitsFor_25 rfl) rfl (xcP (xok_iadd dX9_waitsFor_26) rfl (xcP (xok_putfield (ref := "WaysAtlasModel") (Or.inl ⟨rfl, by decide, rfl⟩) dX9_waitsFor_27 (Or.inl ⟨q1962, (Or.inl rfl)⟩) (Or.inl rfl) xh53) rfl (xcR ⟨dX9_waitsFor_30, rfl⟩))))))))))))))))))
theorem okM_X9_waitsFor : XOkM xms rX9_waitsFor := xokM0 (List.forall_mem_cons.mpr ⟨⟨rfl, okX9_waitsFor_0⟩, fun _ h => nomatch h⟩) (xokH0 rfl (fun _ _ => rfl)) (by decide +kernel) (by decide)
abbrev cX9_takeNumber : ByteArray := prog_36_method_21_code
def dkwX9_takeNumber_1 : List UInt8 := [42, 180, 1, 35, 154, 0, 7, 42, 182, 1, 54, 27, 172]
abbrev dktX9_takeNumber_1 : List UInt8 := dkwX9_takeNumber_1 ++ []
def dkwX9_takeNumber_0 : List UInt8 := [42, 180, 1, 35, 154, 0, 15, 42, 180, 1, 13, 7, 159, 0, 7, 42, 182, 1, 51, 42, 180, 0, 250, 60]
abbrev dktX9_takeNumber_0 : List UInt8 := dkwX9_takeNumber_0 ++ dktX9_takeNumber_1
theorem dksX9_takeNumber_0 : cX9_takeNumber.data.toList.drop 0 = dktX9_takeNumber_0 := by decide +kernel
theorem dksX9_takeNumber_1 : cX9_takeNumber.data.toList.drop 24 = dktX9_takeNumber_1 := dk_seg dksX9_takeNumber_0 24 rfl rfl
theorem dX9_takeNumber_0 : decode cX9_takeNumber 0 = .ok (.aload_n 0, 1) := dk_42 (dk_at dksX9_takeNumber_0 0 rfl rfl)
theorem dX9_takeNumber_1 : decode cX9_takeNumber 1 = .ok (.getfield 291, 3) := dk_180 1 35 (dk_at dksX9_takeNumber_0 1 rfl rfl)
theorem dX9_takeNumber_4 : decode cX9_takeNumber 4 = .ok (.ifCond .ne 15, 3) := dk_154 0 15 (dk_at dksX9_takeNumber_0 4 rfl rfl)
theorem dX9_takeNumber_7 : decode cX9_takeNumber 7 = .ok (.aload_n 0, 1) := dk_42 (dk_at dksX9_takeNumber_0 7 rfl rfl)
theorem dX9_takeNumber_8 : decode cX9_takeNumber 8 = .ok (.getfield 269, 3) := dk_180 1 13 (dk_at dksX9_takeNumber_0 8 rfl rfl)
theorem dX9_takeNumber_11 : decode cX9_takeNumber 11 = .ok (.iconst 4, 1) := dk_7 (dk_at dksX9_takeNumber_0 11 rfl rfl)
theorem dX9_takeNumber_12 : decode cX9_takeNumber 12 = .ok (.if_icmp .eq 7, 3) := dk_159 0 7 (dk_at dksX9_takeNumber_0 12 rfl rfl)
theorem dX9_takeNumber_15 : decode cX9_takeNumber 15 = .ok (.aload_n 0, 1) := dk_42 (dk_at dksX9_takeNumber_0 15 rfl rfl)
theorem dX9_takeNumber_16 : decode cX9_takeNumber 16 = .ok (.invokevirtual 307, 3) := dk_182 1 51 (dk_at dksX9_takeNumber_0 16 rfl rfl)
theorem dX9_takeNumber_19 : decode cX9_takeNumber 19 = .ok (.aload_n 0, 1) := dk_42 (dk_at dksX9_takeNumber_0 19 rfl rfl)
theorem dX9_takeNumber_20 : decode cX9_takeNumber 20 = .ok (.getfield 250, 3) := dk_180 0 250 (dk_at dksX9_takeNumber_0 20 rfl rfl)
theorem dX9_takeNumber_23 : decode cX9_takeNumber 23 = .ok (.istore_n 1, 1) := dk_60 (dk_at dksX9_takeNumber_0 23 rfl rfl)
theorem dX9_takeNumber_24 : decode cX9_takeNumber 24 = .ok (.aload_n 0, 1) := dk_42 (dk_at dksX9_takeNumber_1 0 rfl rfl)
theorem dX9_takeNumber_25 : decode cX9_takeNumber 25 = .ok (.getfield 291, 3) := dk_180 1 35 (dk_at dksX9_takeNumber_1 1 rfl rfl)
theorem dX9_takeNumber_28 : decode cX9_takeNumber 28 = .ok (.ifCond .ne 7, 3) := dk_154 0 7 (dk_at dksX9_takeNumber_1 4 rfl rfl)
theorem dX9_takeNumber_31 : decode cX9_takeNumber 31 = .ok (.aload_n 0, 1) := dk_42 (dk_at dksX9_takeNumber_1 7 rfl rfl)
theorem dX9_takeNumber_32 : decode cX9_takeNumber 32 = .ok (.invokevirtual 310, 3) := dk_182 1 54 (dk_at dksX9_takeNumber_1 8 rfl rfl)
theorem dX9_takeNumber_35 : decode cX9_takeNumber 35 = .ok (.iload_n 1, 1) := dk_27 (dk_at dksX9_takeNumber_1 11 rfl rfl)
theorem dX9_takeNumber_36 : decode cX9_takeNumber 36 = .ok (.ireturn, 1) := dk_172 (dk_at dksX9_takeNumber_1 12 rfl rfl)
theorem okX9_takeNumber_0 : XOkL xms rX9_takeNumber bX9_takeNumber_0 := xcP (xok_aload_n dX9_takeNumber_0 rfl) rfl (xcP (xok_getfield (ref := "WaysAtlasModel") (Or.inl ⟨rfl, by decide⟩) dX9_takeNumber_1 (Or.inl ⟨q1955, (Or.inl rfl)⟩) xh49) rfl (xcP (xok_ifne dX9_takeNumber_4 (by decide)) rfl (xcP (xok_aload_n dX9_takeNumber_7 rfl) rfl (xcP (xok_getfield (ref := "WaysAtlasModel") (Or.inl ⟨rfl, by decide⟩) dX9_takeNumber_8 (Or.inl ⟨q1933, (Or.inl rfl)⟩) xh40) rfl (xcP (xok_iconst dX9_takeNumber_11 rfl) rfl (xcP (xok_icmpeq dX9_takeNumber_12 (by decide)) rfl (xcP (xok_aload_n dX9_takeNumber_15 rfl) rfl (xcC0 (xokc_list (List.forall_mem_cons.mpr ⟨xokc_V (r := (RX9, TX9, 96)) xm112 (List.mem_of_getElem? (i := 9) rfl) (by decide) rfl dX9_takeNumber_16 q2277 q2279 qs62 q149 q2280 (by decide +kernel), fun _ h => nomatch h⟩)) rfl (xcP xok_fal rfl trivial)))))))))
theorem okX9_takeNumber_19 : XOkL xms rX9_takeNumber bX9_takeNumber_19 := xcP (xok_aload_n dX9_takeNumber_19 rfl) rfl (xcP (xok_getfield (ref := "WaysAtlasModel") (Or.inl ⟨rfl, by decide⟩) dX9_takeNumber_20 (Or.inl ⟨q1936, (Or.inl rfl)⟩) xh43) rfl (xcP (xok_istore_n dX9_takeNumber_23 rfl) rfl (xcP (xok_aload_n dX9_takeNumber_24 rfl) rfl (xcP (xok_getfield (ref := "WaysAtlasModel") (Or.inl ⟨rfl, by decide⟩) dX9_takeNumber_25 (Or.inl ⟨q1955, (Or.inl rfl)⟩) xh49) rfl (xcP (xok_ifne dX9_takeNumber_28 (by decide)) rfl (xcP (xok_aload_n dX9_takeNumber_31 rfl) rfl (xcC0 (xokc_list (List.forall_mem_cons.mpr ⟨xokc_V (r := (RX9, TX9, 96)) xm102 (List.mem_of_getElem? (i := 9) rfl) (by decide) rfl dX9_takeNumber_32 q2235 q2237 qs53 q149 q2238 (by decide +kernel), fun _ h => nomatch h⟩)) rfl (xcP xok_fal rfl trivial))))))))
theorem okX9_takeNumber_35 : XOkL xms rX9_takeNumber bX9_takeNumber_35 := xcP (xok_iload_n dX9_takeNumber_35 rfl) rfl (xcR ⟨dX9_takeNumber_36, rfl⟩)
theorem okM_X9_takeNumber : XOkM xms rX9_takeNumber := xokM0 (List.forall_mem_cons.mpr ⟨⟨rfl, okX9_takeNumber_0⟩, List.forall_mem_cons.mpr ⟨⟨rfl, okX9_takeNumber_19⟩, List.forall_mem_cons.mpr ⟨⟨rfl, okX9_takeNumber_35⟩, fun _ h => nomatch h⟩⟩⟩) (xokH0 rfl (fun _ _ => rfl)) (by decide +kernel) (by decide)
abbrev cX9_emits : ByteArray := prog_36_method_25_code
def dkwX9_emits_2 : List UInt8 := [181, 1, 64, 177]
abbrev dktX9_emits_2 : List UInt8 := dkwX9_emits_2 ++ []
def dkwX9_emits_1 : List UInt8 := [17, 4, 76, 42, 180, 1, 32, 104, 42, 180, 1, 64, 96, 28, 79, 42, 89, 180, 1, 64, 4, 96]
abbrev dktX9_emits_1 : List UInt8 := dkwX9_emits_1 ++ dktX9_emits_2
def dkwX9_emits_0 : List UInt8 := [42, 180, 0, 66, 17, 4, 76, 42, 180, 1, 32, 104, 42, 180, 1, 64, 96, 27, 79, 42, 180, 0, 69]
abbrev dktX9_emits_0 : List UInt8 := dkwX9_emits_0 ++ dktX9_emits_1
theorem dksX9_emits_0 : cX9_emits.data.toList.drop 0 = dktX9_emits_0 := by decide +kernel
theorem dksX9_emits_1 : cX9_emits.data.toList.drop 23 = dktX9_emits_1 := dk_seg dksX9_emits_0 23 rfl rfl
theorem dksX9_emits_2 : cX9_emits.data.toList.drop 45 = dktX9_emits_2 := dk_seg dksX9_emits_1 22 rfl rfl
theorem dX9_emits_0 : decode cX9_emits 0 = .ok (.aload_n 0, 1) := dk_42 (dk_at dksX9_emits_0 0 rfl rfl)
theorem dX9_emits_1 : decode cX9_emits 1 = .ok (.getfield 66, 3) := dk_180 0 66 (dk_at dksX9_emits_0 1 rfl rfl)
theorem dX9_emits_4 : decode cX9_emits 4 = .ok (.sipush 1100, 3) := dk_17 4 76 (dk_at dksX9_emits_0 4 rfl rfl)
theorem dX9_emits_7 : decode cX9_emits 7 = .ok (.aload_n 0, 1) := dk_42 (dk_at dksX9_emits_0 7 rfl rfl)
theorem dX9_emits_8 : decode cX9_emits 8 = .ok (.getfield 288, 3) := dk_180 1 32 (dk_at dksX9_emits_0 8 rfl rfl)
theorem dX9_emits_11 : decode cX9_emits 11 = .ok (.imul, 1) := dk_104 (dk_at dksX9_emits_0 11 rfl rfl)
theorem dX9_emits_12 : decode cX9_emits 12 = .ok (.aload_n 0, 1) := dk_42 (dk_at dksX9_emits_0 12 rfl rfl)
theorem dX9_emits_13 : decode cX9_emits 13 = .ok (.getfield 320, 3) := dk_180 1 64 (dk_at dksX9_emits_0 13 rfl rfl)
theorem dX9_emits_16 : decode cX9_emits 16 = .ok (.iadd, 1) := dk_96 (dk_at dksX9_emits_0 16 rfl rfl)
theorem dX9_emits_17 : decode cX9_emits 17 = .ok (.iload_n 1, 1) := dk_27 (dk_at dksX9_emits_0 17 rfl rfl)
theorem dX9_emits_18 : decode cX9_emits 18 = .ok (.iastore, 1) := dk_79 (dk_at dksX9_emits_0 18 rfl rfl)
theorem dX9_emits_19 : decode cX9_emits 19 = .ok (.aload_n 0, 1) := dk_42 (dk_at dksX9_emits_0 19 rfl rfl)
theorem dX9_emits_20 : decode cX9_emits 20 = .ok (.getfield 69, 3) := dk_180 0 69 (dk_at dksX9_emits_0 20 rfl rfl)
theorem dX9_emits_23 : decode cX9_emits 23 = .ok (.sipush 1100, 3) := dk_17 4 76 (dk_at dksX9_emits_1 0 rfl rfl)
theorem dX9_emits_26 : decode cX9_emits 26 = .ok (.aload_n 0, 1) := dk_42 (dk_at dksX9_emits_1 3 rfl rfl)
theorem dX9_emits_27 : decode cX9_emits 27 = .ok (.getfield 288, 3) := dk_180 1 32 (dk_at dksX9_emits_1 4 rfl rfl)
theorem dX9_emits_30 : decode cX9_emits 30 = .ok (.imul, 1) := dk_104 (dk_at dksX9_emits_1 7 rfl rfl)
theorem dX9_emits_31 : decode cX9_emits 31 = .ok (.aload_n 0, 1) := dk_42 (dk_at dksX9_emits_1 8 rfl rfl)
theorem dX9_emits_32 : decode cX9_emits 32 = .ok (.getfield 320, 3) := dk_180 1 64 (dk_at dksX9_emits_1 9 rfl rfl)
theorem dX9_emits_35 : decode cX9_emits 35 = .ok (.iadd, 1) := dk_96 (dk_at dksX9_emits_1 12 rfl rfl)
theorem dX9_emits_36 : decode cX9_emits 36 = .ok (.iload_n 2, 1) := dk_28 (dk_at dksX9_emits_1 13 rfl rfl)
theorem dX9_emits_37 : decode cX9_emits 37 = .ok (.iastore, 1) := dk_79 (dk_at dksX9_emits_1 14 rfl rfl)
theorem dX9_emits_38 : decode cX9_emits 38 = .ok (.aload_n 0, 1) := dk_42 (dk_at dksX9_emits_1 15 rfl rfl)
theorem dX9_emits_39 : decode cX9_emits 39 = .ok (.dup, 1) := dk_89 (dk_at dksX9_emits_1 16 rfl rfl)
theorem dX9_emits_40 : decode cX9_emits 40 = .ok (.getfield 320, 3) := dk_180 1 64 (dk_at dksX9_emits_1 17 rfl rfl)
theorem dX9_emits_43 : decode cX9_emits 43 = .ok (.iconst 1, 1) := dk_4 (dk_at dksX9_emits_1 20 rfl rfl)
theorem dX9_emits_44 : decode cX9_emits 44 = .ok (.iadd, 1) := dk_96 (dk_at dksX9_emits_1 21 rfl rfl)
theorem dX9_emits_45 : decode cX9_emits 45 = .ok (.putfield 320, 3) := dk_181 1 64 (dk_at dksX9_emits_2 0 rfl rfl)
theorem dX9_emits_48 : decode cX9_emits 48 = .ok (.return_, 1) := dk_177 (dk_at dksX9_emits_2 3 rfl rfl)
theorem okX9_emits_0 : XOkL xms rX9_emits bX9_emits_0 := xcP (xok_aload_n dX9_emits_0 rfl) rfl (xcP (xok_getfield (ref := "WaysAtlasModel") (Or.inr ⟨rfl, by decide⟩) dX9_emits_1 (Or.inl ⟨q1942, (Or.inl rfl)⟩) xh1061) rfl (xcP (xok_sipush dX9_emits_4 rfl) rfl (xcP (xok_aload_n dX9_emits_7 rfl) rfl (xcP (xok_getfield (ref := "WaysAtlasModel") (Or.inl ⟨rfl, by decide⟩) dX9_emits_8 (Or.inl ⟨q1938, (Or.inl rfl)⟩) xh45) rfl (xcP (xok_imul dX9_emits_11) rfl (xcP (xok_aload_n dX9_emits_12 rfl) rfl (xcP (xok_getfield (ref := "WaysAtlasModel") (Or.inl ⟨rfl, by decide⟩) dX9_emits_13 (Or.inl ⟨q1953, (Or.inl rfl)⟩) xh47) rfl (xcP (xok_iadd dX9_emits_16) rfl (xcP (xok_iload_n dX9_emits_17 rfl) rfl (xcP (xok_iastore dX9_emits_18) rfl (xcP (xok_aload_n dX9_emits_19 rfl) rfl (xcP (xok_getfield (ref := "WaysAtlasModel") (Or.inr ⟨rfl, by decide⟩) dX9_emits_20 (Or.inl ⟨q1943, (Or.inl rfl)⟩) xh1062) rfl (xcP (xok_sipush dX9_emits_23 rfl) rfl (xcP (xok_aload_n dX9_emits_26 rfl) rfl (xcP (xok_getfield (ref := "WaysAtlasModel") (Or.inl ⟨rfl, by decide⟩) dX9_emits_27 (Or.inl ⟨q1938, (Or.inl rfl)⟩) xh45) rfl (xcP (xok_imul dX9_emits_30) rfl (xcP (xok_aload_n dX9_emits_31 rfl) rfl (xcP (xok_getfield (ref := "WaysAtlasModel") (Or.inl ⟨rfl, by decide⟩) dX9_emits_32 (Or.inl ⟨q1953, (Or.inl rfl)⟩) xh47) rfl (xcP (xok_iadd dX9_emits_35) rfl (xcP (xok_iload_n dX9_emits_36 rfl) rfl (xcP (xok_iastore dX9_emits_37) rfl (xcP (xok_aload_n dX9_emits_38 rfl) rfl (xcP (xok_dup dX9_emits_39) rfl (xcP (xok_getfield (ref := "WaysAtlasModel") (Or.inl ⟨rfl, by decide⟩) dX9_emits_40 (Or.inl ⟨q1953, (Or.inl rfl)⟩) xh47) rfl (xcP (xok_iconst dX9_emits_43 rfl) rfl (xcP (xok_iadd dX9_emits_44) rfl (xcP (xok_putfield (ref := "WaysAtlasModel") (Or.inl ⟨rfl, by decide, rfl⟩) dX9_emits_45 (Or.inl ⟨q1953, (Or.inl rfl)⟩) (Or.inl rfl) xh47) rfl (xcR ⟨dX9_emits_48, rfl⟩))))))))))))))))))))))))))))
theorem okM_X9_emits : XOkM xms rX9_emits := xokM0 (List.forall_mem_cons.mpr ⟨⟨rfl, okX9_emits_0⟩, fun _ h => nomatch h⟩) (xokH0 rfl (fun _ _ => rfl)) (by decide +kernel) (by decide)
abbrev cX9_takeRow : ByteArray := prog_36_method_24_code
def dkwX9_takeRow_2 : List UInt8 := [180, 1, 35, 154, 0, 7, 42, 182, 1, 54, 27, 172]
abbrev dktX9_takeRow_2 : List UInt8 := dkwX9_takeRow_2 ++ []
def dkwX9_takeRow_1 : List UInt8 := [60, 42, 180, 1, 35, 154, 0, 17, 27, 5, 164, 0, 12, 42, 5, 42, 180, 1, 23, 182, 1, 41, 42]
abbrev dktX9_takeRow_1 : List UInt8 := dkwX9_takeRow_1 ++ dktX9_takeRow_2
def dkwX9_takeRow_0 : List UInt8 := [42, 180, 1, 35, 154, 0, 16, 42, 16, 114, 182, 1, 57, 154, 0, 7, 42, 182, 1, 51, 42, 180, 0, 250]
abbrev dktX9_takeRow_0 : List UInt8 := dkwX9_takeRow_0 ++ dktX9_takeRow_1
theorem dksX9_takeRow_0 : cX9_takeRow.data.toList.drop 0 = dktX9_takeRow_0 := by decide +kernel
theorem dksX9_takeRow_1 : cX9_takeRow.data.toList.drop 24 = dktX9_takeRow_1 := dk_seg dksX9_takeRow_0 24 rfl rfl
theorem dksX9_takeRow_2 : cX9_takeRow.data.toList.drop 47 = dktX9_takeRow_2 := dk_seg dksX9_takeRow_1 23 rfl rfl
theorem dX9_takeRow_0 : decode cX9_takeRow 0 = .ok (.aload_n 0, 1) := dk_42 (dk_at dksX9_takeRow_0 0 rfl rfl)
theorem dX9_takeRow_1 : decode cX9_takeRow 1 = .ok (.getfield 291, 3) := dk_180 1 35 (dk_at dksX9_takeRow_0 1 rfl rfl)
theorem dX9_takeRow_4 : decode cX9_takeRow 4 = .ok (.ifCond .ne 16, 3) := dk_154 0 16 (dk_at dksX9_takeRow_0 4 rfl rfl)
theorem dX9_takeRow_7 : decode cX9_takeRow 7 = .ok (.aload_n 0, 1) := dk_42 (dk_at dksX9_takeRow_0 7 rfl rfl)
theorem dX9_takeRow_8 : decode cX9_takeRow 8 = .ok (.bipush 114, 2) := dk_16 114 (dk_at dksX9_takeRow_0 8 rfl rfl)
theorem dX9_takeRow_10 : decode cX9_takeRow 10 = .ok (.invokevirtual 313, 3) := dk_182 1 57 (dk_at dksX9_takeRow_0 10 rfl rfl)
theorem dX9_takeRow_13 : decode cX9_takeRow 13 = .ok (.ifCond .ne 7, 3) := dk_154 0 7 (dk_at dksX9_takeRow_0 13 rfl rfl)
theorem dX9_takeRow_16 : decode cX9_takeRow 16 = .ok (.aload_n 0, 1) := dk_42 (dk_at dksX9_takeRow_0 16 rfl rfl)
theorem dX9_takeRow_17 : decode cX9_takeRow 17 = .ok (.invokevirtual 307, 3) := dk_182 1 51 (dk_at dksX9_takeRow_0 17 rfl rfl)
theorem dX9_takeRow_20 : decode cX9_takeRow 20 = .ok (.aload_n 0, 1) := dk_42 (dk_at dksX9_takeRow_0 20 rfl rfl)
theorem dX9_takeRow_21 : decode cX9_takeRow 21 = .ok (.getfield 250, 3) := dk_180 0 250 (dk_at dksX9_takeRow_0 21 rfl rfl)
theorem dX9_takeRow_24 : decode cX9_takeRow 24 = .ok (.istore_n 1, 1) := dk_60 (dk_at dksX9_takeRow_1 0 rfl rfl)
theorem dX9_takeRow_25 : decode cX9_takeRow 25 = .ok (.aload_n 0, 1) := dk_42 (dk_at dksX9_takeRow_1 1 rfl rfl)
theorem dX9_takeRow_26 : decode cX9_takeRow 26 = .ok (.getfield 291, 3) := dk_180 1 35 (dk_at dksX9_takeRow_1 2 rfl rfl)
theorem dX9_takeRow_29 : decode cX9_takeRow 29 = .ok (.ifCond .ne 17, 3) := dk_154 0 17 (dk_at dksX9_takeRow_1 5 rfl rfl)
theorem dX9_takeRow_32 : decode cX9_takeRow 32 = .ok (.iload_n 1, 1) := dk_27 (dk_at dksX9_takeRow_1 8 rfl rfl)
theorem dX9_takeRow_33 : decode cX9_takeRow 33 = .ok (.iconst 2, 1) := dk_5 (dk_at dksX9_takeRow_1 9 rfl rfl)
theorem dX9_takeRow_34 : decode cX9_takeRow 34 = .ok (.if_icmp .le 12, 3) := dk_164 0 12 (dk_at dksX9_takeRow_1 10 rfl rfl)
theorem dX9_takeRow_37 : decode cX9_takeRow 37 = .ok (.aload_n 0, 1) := dk_42 (dk_at dksX9_takeRow_1 13 rfl rfl)
theorem dX9_takeRow_38 : decode cX9_takeRow 38 = .ok (.iconst 2, 1) := dk_5 (dk_at dksX9_takeRow_1 14 rfl rfl)
theorem dX9_takeRow_39 : decode cX9_takeRow 39 = .ok (.aload_n 0, 1) := dk_42 (dk_at dksX9_takeRow_1 15 rfl rfl)
theorem dX9_takeRow_40 : decode cX9_takeRow 40 = .ok (.getfield 279, 3) := dk_180 1 23 (dk_at dksX9_takeRow_1 16 rfl rfl)
theorem dX9_takeRow_43 : decode cX9_takeRow 43 = .ok (.invokevirtual 297, 3) := dk_182 1 41 (dk_at dksX9_takeRow_1 19 rfl rfl)
theorem dX9_takeRow_46 : decode cX9_takeRow 46 = .ok (.aload_n 0, 1) := dk_42 (dk_at dksX9_takeRow_1 22 rfl rfl)
theorem dX9_takeRow_47 : decode cX9_takeRow 47 = .ok (.getfield 291, 3) := dk_180 1 35 (dk_at dksX9_takeRow_2 0 rfl rfl)
theorem dX9_takeRow_50 : decode cX9_takeRow 50 = .ok (.ifCond .ne 7, 3) := dk_154 0 7 (dk_at dksX9_takeRow_2 3 rfl rfl)
theorem dX9_takeRow_53 : decode cX9_takeRow 53 = .ok (.aload_n 0, 1) := dk_42 (dk_at dksX9_takeRow_2 6 rfl rfl)
theorem dX9_takeRow_54 : decode cX9_takeRow 54 = .ok (.invokevirtual 310, 3) := dk_182 1 54 (dk_at dksX9_takeRow_2 7 rfl rfl)
theorem dX9_takeRow_57 : decode cX9_takeRow 57 = .ok (.iload_n 1, 1) := dk_27 (dk_at dksX9_takeRow_2 10 rfl rfl)
theorem dX9_takeRow_58 : decode cX9_takeRow 58 = .ok (.ireturn, 1) := dk_172 (dk_at dksX9_takeRow_2 11 rfl rfl)
theorem okX9_takeRow_0 : XOkL xms rX9_takeRow bX9_takeRow_0 := xcP (xok_aload_n dX9_takeRow_0 rfl) rfl (xcP (xok_getfield (ref := "WaysAtlasModel") (Or.inl ⟨rfl, by decide⟩) dX9_takeRow_1 (Or.inl ⟨q1955, (Or.inl rfl)⟩) xh49) rfl (xcP (xok_ifne dX9_takeRow_4 (by decide)) rfl (xcP (xok_aload_n dX9_takeRow_7 rfl) rfl (xcP (xok_bipush dX9_takeRow_8 rfl) rfl (xcC0 (xokc_list (List.forall_mem_cons.mpr ⟨xokc_V (r := (RX9, TX9, 96)) xm114 (List.mem_of_getElem? (i := 9) rfl) (by decide) rfl dX9_takeRow_10 q2285 q2287 qs64 q149 q2288 (by decide +kernel), fun _ h => nomatch h⟩)) rfl (xcP (xok_ifne dX9_takeRow_13 (by decide)) rfl (xcP (xok_aload_n dX9_takeRow_16 rfl) rfl (xcC0 (xokc_list (List.forall_mem_cons.mpr ⟨xokc_V (r := (RX9, TX9, 96)) xm112 (List.mem_of_getElem? (i := 9) rfl) (by decide) rfl dX9_takeRow_17 q2277 q2279 qs62 q149 q2280 (by decide +kernel), fun _ h => nomatch h⟩)) rfl (xcP xok_fal rfl trivial)))))))))
theorem okX9_takeRow_20 : XOkL xms rX9_takeRow bX9_takeRow_20 := xcP (xok_aload_n dX9_takeRow_20 rfl) rfl (xcP (xok_getfield (ref := "WaysAtlasModel") (Or.inl ⟨rfl, by decide⟩) dX9_takeRow_21 (Or.inl ⟨q1936, (Or.inl rfl)⟩) xh43) rfl (xcP (xok_istore_n dX9_takeRow_24 rfl) rfl (xcP (xok_aload_n dX9_takeRow_25 rfl) rfl (xcP (xok_getfield (ref := "WaysAtlasModel") (Or.inl ⟨rfl, by decide⟩) dX9_takeRow_26 (Or.inl ⟨q1955, (Or.inl rfl)⟩) xh49) rfl (xcP (xok_ifne dX9_takeRow_29 (by decide)) rfl (xcP (xok_iload_n dX9_takeRow_32 rfl) rfl (xcP (xok_iconst dX9_takeRow_33 rfl) rfl (xcP (xok_icmple dX9_takeRow_34 (by decide)) rfl (xcP (xok_aload_n dX9_takeRow_37 rfl) rfl (xcP (xok_iconst dX9_takeRow_38 rfl) rfl (xcP (xok_aload_n dX9_takeRow_39 rfl) rfl (xcP (xok_getfield (ref := "WaysAtlasModel") (Or.inl ⟨rfl, by decide⟩) dX9_takeRow_40 (Or.inl ⟨q1934, (Or.inl rfl)⟩) xh41) rfl (xcC0 (xokc_list (List.forall_mem_cons.mpr ⟨xokc_V (r := (RX9, TX9, 96)) xm111 (List.mem_of_getElem? (i := 9) rfl) (by decide) rfl dX9_takeRow_43 q2273 q2275 qs61 q149 q2276 (by decide +kernel), fun _ h => nomatch h⟩)) rfl (xcP xok_fal rfl trivial))))))))))))))
theorem okX9_takeRow_46 : XOkL xms rX9_takeRow bX9_takeRow_46 := xcP (xok_aload_n dX9_takeRow_46 rfl) rfl (xcP (xok_getfield (ref := "WaysAtlasModel") (Or.inl ⟨rfl, by decide⟩) dX9_takeRow_47 (Or.inl ⟨q1955, (Or.inl rfl)⟩) xh49) rfl (xcP (xok_ifne dX9_takeRow_50 (by decide)) rfl (xcP (xok_aload_n dX9_takeRow_53 rfl) rfl (xcC0 (xokc_list (List.forall_mem_cons.mpr ⟨xokc_V (r := (RX9, TX9, 96)) xm102 (List.mem_of_getElem? (i := 9) rfl) (by decide) rfl dX9_takeRow_54 q2235 q2237 qs53 q149 q2238 (by decide +kernel), fun _ h => nomatch h⟩)) rfl (xcP xok_fal rfl trivial)))))
theorem okX9_takeRow_57 : XOkL xms rX9_takeRow bX9_takeRow_57 := xcP (xok_iload_n dX9_takeRow_57 rfl) rfl (xcR ⟨dX9_takeRow_58, rfl⟩)
theorem okM_X9_takeRow : XOkM xms rX9_takeRow := xokM0 (List.forall_mem_cons.mpr ⟨⟨rfl, okX9_takeRow_0⟩, List.forall_mem_cons.mpr ⟨⟨rfl, okX9_takeRow_20⟩, List.forall_mem_cons.mpr ⟨⟨rfl, okX9_takeRow_46⟩, List.forall_mem_cons.mpr ⟨⟨rfl, okX9_takeRow_57⟩, fun _ h => nomatch h⟩⟩⟩⟩) (xokH0 rfl (fun _ _ => rfl)) (by decide +kernel) (by decide)
abbrev cX9_goesOn : ByteArray := prog_36_method_33_code
def dkwX9_goesOn_9 : List UInt8 := [4, 100, 181, 1, 70, 42, 182, 1, 54, 167, 0, 7, 42, 182, 1, 51, 3, 172]
abbrev dktX9_goesOn_9 : List UInt8 := dkwX9_goesOn_9 ++ []
def dkwX9_goesOn_8 : List UInt8 := [16, 91, 160, 0, 17, 42, 5, 42, 180, 0, 111, 42, 180, 1, 67, 46, 182, 1, 76, 42, 89, 180, 1, 70]
abbrev dktX9_goesOn_8 : List UInt8 := dkwX9_goesOn_8 ++ dktX9_goesOn_9
def dkwX9_goesOn_7 : List UInt8 := [160, 0, 59, 42, 16, 93, 182, 1, 48, 153, 0, 50, 42, 89, 180, 1, 67, 4, 100, 181, 1, 67, 27]
abbrev dktX9_goesOn_7 : List UInt8 := dkwX9_goesOn_7 ++ dktX9_goesOn_8
def dkwX9_goesOn_6 : List UInt8 := [182, 1, 73, 60, 27, 16, 40, 160, 0, 12, 42, 16, 41, 182, 1, 48, 154, 0, 18, 27, 16, 91]
abbrev dktX9_goesOn_6 : List UInt8 := dkwX9_goesOn_6 ++ dktX9_goesOn_7
def dkwX9_goesOn_5 : List UInt8 := [182, 1, 54, 4, 172, 42, 182, 1, 98, 42, 180, 1, 67, 154, 0, 10, 42, 4, 181, 1, 104, 3, 172, 42]
abbrev dktX9_goesOn_5 : List UInt8 := dkwX9_goesOn_5 ++ dktX9_goesOn_6
def dkwX9_goesOn_4 : List UInt8 := [167, 0, 19, 42, 180, 1, 16, 16, 47, 160, 0, 8, 16, 8, 167, 0, 5, 16, 9, 3, 182, 1, 83, 42]
abbrev dktX9_goesOn_4 : List UInt8 := dkwX9_goesOn_4 ++ dktX9_goesOn_5
def dkwX9_goesOn_3 : List UInt8 := [16, 37, 182, 1, 48, 153, 0, 48, 42, 182, 1, 101, 42, 42, 180, 1, 16, 16, 42, 160, 0, 8, 16, 7]
abbrev dktX9_goesOn_3 : List UInt8 := dkwX9_goesOn_3 ++ dktX9_goesOn_4
def dkwX9_goesOn_2 : List UInt8 := [182, 1, 54, 4, 172, 42, 16, 42, 182, 1, 48, 154, 0, 21, 42, 16, 47, 182, 1, 48, 154, 0, 12, 42]
abbrev dktX9_goesOn_2 : List UInt8 := dkwX9_goesOn_2 ++ dktX9_goesOn_3
def dkwX9_goesOn_1 : List UInt8 := [182, 1, 98, 42, 42, 180, 1, 16, 16, 43, 160, 0, 7, 8, 167, 0, 5, 16, 6, 3, 182, 1, 83, 42]
abbrev dktX9_goesOn_1 : List UInt8 := dkwX9_goesOn_1 ++ dktX9_goesOn_2
def dkwX9_goesOn_0 : List UInt8 := [42, 182, 1, 95, 42, 16, 43, 182, 1, 48, 154, 0, 12, 42, 16, 45, 182, 1, 48, 153, 0, 33, 42]
abbrev dktX9_goesOn_0 : List UInt8 := dkwX9_goesOn_0 ++ dktX9_goesOn_1
theorem dksX9_goesOn_0 : cX9_goesOn.data.toList.drop 0 = dktX9_goesOn_0 := by decide +kernel
theorem dksX9_goesOn_1 : cX9_goesOn.data.toList.drop 23 = dktX9_goesOn_1 := dk_seg dksX9_goesOn_0 23 rfl rfl
theorem dksX9_goesOn_2 : cX9_goesOn.data.toList.drop 47 = dktX9_goesOn_2 := dk_seg dksX9_goesOn_1 24 rfl rfl
theorem dksX9_goesOn_3 : cX9_goesOn.data.toList.drop 71 = dktX9_goesOn_3 := dk_seg dksX9_goesOn_2 24 rfl rfl
theorem dksX9_goesOn_4 : cX9_goesOn.data.toList.drop 95 = dktX9_goesOn_4 := dk_seg dksX9_goesOn_3 24 rfl rfl
theorem dksX9_goesOn_5 : cX9_goesOn.data.toList.drop 119 = dktX9_goesOn_5 := dk_seg dksX9_goesOn_4 24 rfl rfl
theorem dksX9_goesOn_6 : cX9_goesOn.data.toList.drop 143 = dktX9_goesOn_6 := dk_seg dksX9_goesOn_5 24 rfl rfl
theorem dksX9_goesOn_7 : cX9_goesOn.data.toList.drop 165 = dktX9_goesOn_7 := dk_seg dksX9_goesOn_6 22 rfl rfl
theorem dksX9_goesOn_8 : cX9_goesOn.data.toList.drop 188 = dktX9_goesOn_8 := dk_seg dksX9_goesOn_7 23 rfl rfl
theorem dksX9_goesOn_9 : cX9_goesOn.data.toList.drop 212 = dktX9_goesOn_9 := dk_seg dksX9_goesOn_8 24 rfl rfl
theorem dX9_goesOn_0 : decode cX9_goesOn 0 = .ok (.aload_n 0, 1) := dk_42 (dk_at dksX9_goesOn_0 0 rfl rfl)
theorem dX9_goesOn_1 : decode cX9_goesOn 1 = .ok (.invokevirtual 351, 3) := dk_182 1 95 (dk_at dksX9_goesOn_0 1 rfl rfl)
theorem dX9_goesOn_4 : decode cX9_goesOn 4 = .ok (.aload_n 0, 1) := dk_42 (dk_at dksX9_goesOn_0 4 rfl rfl)
theorem dX9_goesOn_5 : decode cX9_goesOn 5 = .ok (.bipush 43, 2) := dk_16 43 (dk_at dksX9_goesOn_0 5 rfl rfl)
theorem dX9_goesOn_7 : decode cX9_goesOn 7 = .ok (.invokevirtual 304, 3) := dk_182 1 48 (dk_at dksX9_goesOn_0 7 rfl rfl)
theorem dX9_goesOn_10 : decode cX9_goesOn 10 = .ok (.ifCond .ne 12, 3) := dk_154 0 12 (dk_at dksX9_goesOn_0 10 rfl rfl)
theorem dX9_goesOn_13 : decode cX9_goesOn 13 = .ok (.aload_n 0, 1) := dk_42 (dk_at dksX9_goesOn_0 13 rfl rfl)
theorem dX9_goesOn_14 : decode cX9_goesOn 14 = .ok (.bipush 45, 2) := dk_16 45 (dk_at dksX9_goesOn_0 14 rfl rfl)
theorem dX9_goesOn_16 : decode cX9_goesOn 16 = .ok (.invokevirtual 304, 3) := dk_182 1 48 (dk_at dksX9_goesOn_0 16 rfl rfl)
theorem dX9_goesOn_19 : decode cX9_goesOn 19 = .ok (.ifCond .eq 33, 3) := dk_153 0 33 (dk_at dksX9_goesOn_0 19 rfl rfl)
theorem dX9_goesOn_22 : decode cX9_goesOn 22 = .ok (.aload_n 0, 1) := dk_42 (dk_at dksX9_goesOn_0 22 rfl rfl)
theorem dX9_goesOn_23 : decode cX9_goesOn 23 = .ok (.invokevirtual 354, 3) := dk_182 1 98 (dk_at dksX9_goesOn_1 0 rfl rfl)
theorem dX9_goesOn_26 : decode cX9_goesOn 26 = .ok (.aload_n 0, 1) := dk_42 (dk_at dksX9_goesOn_1 3 rfl rfl)
theorem dX9_goesOn_27 : decode cX9_goesOn 27 = .ok (.aload_n 0, 1) := dk_42 (dk_at dksX9_goesOn_1 4 rfl rfl)
theorem dX9_goesOn_28 : decode cX9_goesOn 28 = .ok (.getfield 272, 3) := dk_180 1 16 (dk_at dksX9_goesOn_1 5 rfl rfl)
theorem dX9_goesOn_31 : decode cX9_goesOn 31 = .ok (.bipush 43, 2) := dk_16 43 (dk_at dksX9_goesOn_1 8 rfl rfl)
theorem dX9_goesOn_33 : decode cX9_goesOn 33 = .ok (.if_icmp .ne 7, 3) := dk_160 0 7 (dk_at dksX9_goesOn_1 10 rfl rfl)
theorem dX9_goesOn_36 : decode cX9_goesOn 36 = .ok (.iconst 5, 1) := dk_8 (dk_at dksX9_goesOn_1 13 rfl rfl)
theorem dX9_goesOn_37 : decode cX9_goesOn 37 = .ok (.goto 5, 3) := dk_167 0 5 (dk_at dksX9_goesOn_1 14 rfl rfl)
theorem dX9_goesOn_40 : decode cX9_goesOn 40 = .ok (.bipush 6, 2) := dk_16 6 (dk_at dksX9_goesOn_1 17 rfl rfl)
theorem dX9_goesOn_42 : decode cX9_goesOn 42 = .ok (.iconst 0, 1) := dk_3 (dk_at dksX9_goesOn_1 19 rfl rfl)
theorem dX9_goesOn_43 : decode cX9_goesOn 43 = .ok (.invokevirtual 339, 3) := dk_182 1 83 (dk_at dksX9_goesOn_1 20 rfl rfl)
theorem dX9_goesOn_46 : decode cX9_goesOn 46 = .ok (.aload_n 0, 1) := dk_42 (dk_at dksX9_goesOn_1 23 rfl rfl)
theorem dX9_goesOn_47 : decode cX9_goesOn 47 = .ok (.invokevirtual 310, 3) := dk_182 1 54 (dk_at dksX9_goesOn_2 0 rfl rfl)
theorem dX9_goesOn_50 : decode cX9_goesOn 50 = .ok (.iconst 1, 1) := dk_4 (dk_at dksX9_goesOn_2 3 rfl rfl)
theorem dX9_goesOn_51 : decode cX9_goesOn 51 = .ok (.ireturn, 1) := dk_172 (dk_at dksX9_goesOn_2 4 rfl rfl)
theorem dX9_goesOn_52 : decode cX9_goesOn 52 = .ok (.aload_n 0, 1) := dk_42 (dk_at dksX9_goesOn_2 5 rfl rfl)
theorem dX9_goesOn_53 : decode cX9_goesOn 53 = .ok (.bipush 42, 2) := dk_16 42 (dk_at dksX9_goesOn_2 6 rfl rfl)
theorem dX9_goesOn_55 : decode cX9_goesOn 55 = .ok (.invokevirtual 304, 3) := dk_182 1 48 (dk_at dksX9_goesOn_2 8 rfl rfl)
theorem dX9_goesOn_58 : decode cX9_goesOn 58 = .ok (.ifCond .ne 21, 3) := dk_154 0 21 (dk_at dksX9_goesOn_2 11 rfl rfl)
theorem dX9_goesOn_61 : decode cX9_goesOn 61 = .ok (.aload_n 0, 1) := dk_42 (dk_at dksX9_goesOn_2 14 rfl rfl)
theorem dX9_goesOn_62 : decode cX9_goesOn 62 = .ok (.bipush 47, 2) := dk_16 47 (dk_at dksX9_goesOn_2 15 rfl rfl)
theorem dX9_goesOn_64 : decode cX9_goesOn 64 = .ok (.invokevirtual 304, 3) := dk_182 1 48 (dk_at dksX9_goesOn_2 17 rfl rfl)
theorem dX9_goesOn_67 : decode cX9_goesOn 67 = .ok (.ifCond .ne 12, 3) := dk_154 0 12 (dk_at dksX9_goesOn_2 20 rfl rfl)
theorem dX9_goesOn_70 : decode cX9_goesOn 70 = .ok (.aload_n 0, 1) := dk_42 (dk_at dksX9_goesOn_2 23 rfl rfl)
theorem dX9_goesOn_71 : decode cX9_goesOn 71 = .ok (.bipush 37, 2) := dk_16 37 (dk_at dksX9_goesOn_3 0 rfl rfl)
theorem dX9_goesOn_73 : decode cX9_goesOn 73 = .ok (.invokevirtual 304, 3) := dk_182 1 48 (dk_at dksX9_goesOn_3 2 rfl rfl)
theorem dX9_goesOn_76 : decode cX9_goesOn 76 = .ok (.ifCond .eq 48, 3) := dk_153 0 48 (dk_at dksX9_goesOn_3 5 rfl rfl)
theorem dX9_goesOn_79 : decode cX9_goesOn 79 = .ok (.aload_n 0, 1) := dk_42 (dk_at dksX9_goesOn_3 8 rfl rfl)
theorem dX9_goesOn_80 : decode cX9_goesOn 80 = .ok (.invokevirtual 357, 3) := dk_182 1 101 (dk_at dksX9_goesOn_3 9 rfl rfl)
theorem dX9_goesOn_83 : decode cX9_goesOn 83 = .ok (.aload_n 0, 1) := dk_42 (dk_at dksX9_goesOn_3 12 rfl rfl)
theorem dX9_goesOn_84 : decode cX9_goesOn 84 = .ok (.aload_n 0, 1) := dk_42 (dk_at dksX9_goesOn_3 13 rfl rfl)
theorem dX9_goesOn_85 : decode cX9_goesOn 85 = .ok (.getfield 272, 3) := dk_180 1 16 (dk_at dksX9_goesOn_3 14 rfl rfl)
theorem dX9_goesOn_88 : decode cX9_goesOn 88 = .ok (.bipush 42, 2) := dk_16 42 (dk_at dksX9_goesOn_3 17 rfl rfl)
theorem dX9_goesOn_90 : decode cX9_goesOn 90 = .ok (.if_icmp .ne 8, 3) := dk_160 0 8 (dk_at dksX9_goesOn_3 19 rfl rfl)
theorem dX9_goesOn_93 : decode cX9_goesOn 93 = .ok (.bipush 7, 2) := dk_16 7 (dk_at dksX9_goesOn_3 22 rfl rfl)
theorem dX9_goesOn_95 : decode cX9_goesOn 95 = .ok (.goto 19, 3) := dk_167 0 19 (dk_at dksX9_goesOn_4 0 rfl rfl)
theorem dX9_goesOn_98 : decode cX9_goesOn 98 = .ok (.aload_n 0, 1) := dk_42 (dk_at dksX9_goesOn_4 3 rfl rfl)
theorem dX9_goesOn_99 : decode cX9_goesOn 99 = .ok (.getfield 272, 3) := dk_180 1 16 (dk_at dksX9_goesOn_4 4 rfl rfl)
theorem dX9_goesOn_102 : decode cX9_goesOn 102 = .ok (.bipush 47, 2) := dk_16 47 (dk_at dksX9_goesOn_4 7 rfl rfl)
theorem dX9_goesOn_104 : decode cX9_goesOn 104 = .ok (.if_icmp .ne 8, 3) := dk_160 0 8 (dk_at dksX9_goesOn_4 9 rfl rfl)
theorem dX9_goesOn_107 : decode cX9_goesOn 107 = .ok (.bipush 8, 2) := dk_16 8 (dk_at dksX9_goesOn_4 12 rfl rfl)
theorem dX9_goesOn_109 : decode cX9_goesOn 109 = .ok (.goto 5, 3) := dk_167 0 5 (dk_at dksX9_goesOn_4 14 rfl rfl)
theorem dX9_goesOn_112 : decode cX9_goesOn 112 = .ok (.bipush 9, 2) := dk_16 9 (dk_at dksX9_goesOn_4 17 rfl rfl)
theorem dX9_goesOn_114 : decode cX9_goesOn 114 = .ok (.iconst 0, 1) := dk_3 (dk_at dksX9_goesOn_4 19 rfl rfl)
theorem dX9_goesOn_115 : decode cX9_goesOn 115 = .ok (.invokevirtual 339, 3) := dk_182 1 83 (dk_at dksX9_goesOn_4 20 rfl rfl)
theorem dX9_goesOn_118 : decode cX9_goesOn 118 = .ok (.aload_n 0, 1) := dk_42 (dk_at dksX9_goesOn_4 23 rfl rfl)
theorem dX9_goesOn_119 : decode cX9_goesOn 119 = .ok (.invokevirtual 310, 3) := dk_182 1 54 (dk_at dksX9_goesOn_5 0 rfl rfl)
theorem dX9_goesOn_122 : decode cX9_goesOn 122 = .ok (.iconst 1, 1) := dk_4 (dk_at dksX9_goesOn_5 3 rfl rfl)
theorem dX9_goesOn_123 : decode cX9_goesOn 123 = .ok (.ireturn, 1) := dk_172 (dk_at dksX9_goesOn_5 4 rfl rfl)
theorem dX9_goesOn_124 : decode cX9_goesOn 124 = .ok (.aload_n 0, 1) := dk_42 (dk_at dksX9_goesOn_5 5 rfl rfl)
theorem dX9_goesOn_125 : decode cX9_goesOn 125 = .ok (.invokevirtual 354, 3) := dk_182 1 98 (dk_at dksX9_goesOn_5 6 rfl rfl)
theorem dX9_goesOn_128 : decode cX9_goesOn 128 = .ok (.aload_n 0, 1) := dk_42 (dk_at dksX9_goesOn_5 9 rfl rfl)
theorem dX9_goesOn_129 : decode cX9_goesOn 129 = .ok (.getfield 323, 3) := dk_180 1 67 (dk_at dksX9_goesOn_5 10 rfl rfl)
theorem dX9_goesOn_132 : decode cX9_goesOn 132 = .ok (.ifCond .ne 10, 3) := dk_154 0 10 (dk_at dksX9_goesOn_5 13 rfl rfl)
theorem dX9_goesOn_135 : decode cX9_goesOn 135 = .ok (.aload_n 0, 1) := dk_42 (dk_at dksX9_goesOn_5 16 rfl rfl)
theorem dX9_goesOn_136 : decode cX9_goesOn 136 = .ok (.iconst 1, 1) := dk_4 (dk_at dksX9_goesOn_5 17 rfl rfl)
theorem dX9_goesOn_137 : decode cX9_goesOn 137 = .ok (.putfield 360, 3) := dk_181 1 104 (dk_at dksX9_goesOn_5 18 rfl rfl)
theorem dX9_goesOn_140 : decode cX9_goesOn 140 = .ok (.iconst 0, 1) := dk_3 (dk_at dksX9_goesOn_5 21 rfl rfl)
theorem dX9_goesOn_141 : decode cX9_goesOn 141 = .ok (.ireturn, 1) := dk_172 (dk_at dksX9_goesOn_5 22 rfl rfl)
theorem dX9_goesOn_142 : decode cX9_goesOn 142 = .ok (.aload_n 0, 1) := dk_42 (dk_at dksX9_goesOn_5 23 rfl rfl)
theorem dX9_goesOn_143 : decode cX9_goesOn 143 = .ok (.invokevirtual 329, 3) := dk_182 1 73 (dk_at dksX9_goesOn_6 0 rfl rfl)
theorem dX9_goesOn_146 : decode cX9_goesOn 146 = .ok (.istore_n 1, 1) := dk_60 (dk_at dksX9_goesOn_6 3 rfl rfl)
theorem dX9_goesOn_147 : decode cX9_goesOn 147 = .ok (.iload_n 1, 1) := dk_27 (dk_at dksX9_goesOn_6 4 rfl rfl)
theorem dX9_goesOn_148 : decode cX9_goesOn 148 = .ok (.bipush 40, 2) := dk_16 40 (dk_at dksX9_goesOn_6 5 rfl rfl)
theorem dX9_goesOn_150 : decode cX9_goesOn 150 = .ok (.if_icmp .ne 12, 3) := dk_160 0 12 (dk_at dksX9_goesOn_6 7 rfl rfl)
theorem dX9_goesOn_153 : decode cX9_goesOn 153 = .ok (.aload_n 0, 1) := dk_42 (dk_at dksX9_goesOn_6 10 rfl rfl)
theorem dX9_goesOn_154 : decode cX9_goesOn 154 = .ok (.bipush 41, 2) := dk_16 41 (dk_at dksX9_goesOn_6 11 rfl rfl)
theorem dX9_goesOn_156 : decode cX9_goesOn 156 = .ok (.invokevirtual 304, 3) := dk_182 1 48 (dk_at dksX9_goesOn_6 13 rfl rfl)
theorem dX9_goesOn_159 : decode cX9_goesOn 159 = .ok (.ifCond .ne 18, 3) := dk_154 0 18 (dk_at dksX9_goesOn_6 16 rfl rfl)
theorem dX9_goesOn_162 : decode cX9_goesOn 162 = .ok (.iload_n 1, 1) := dk_27 (dk_at dksX9_goesOn_6 19 rfl rfl)
theorem dX9_goesOn_163 : decode cX9_goesOn 163 = .ok (.bipush 91, 2) := dk_16 91 (dk_at dksX9_goesOn_6 20 rfl rfl)
theorem dX9_goesOn_165 : decode cX9_goesOn 165 = .ok (.if_icmp .ne 59, 3) := dk_160 0 59 (dk_at dksX9_goesOn_7 0 rfl rfl)
theorem dX9_goesOn_168 : decode cX9_goesOn 168 = .ok (.aload_n 0, 1) := dk_42 (dk_at dksX9_goesOn_7 3 rfl rfl)
theorem dX9_goesOn_169 : decode cX9_goesOn 169 = .ok (.bipush 93, 2) := dk_16 93 (dk_at dksX9_goesOn_7 4 rfl rfl)
theorem dX9_goesOn_171 : decode cX9_goesOn 171 = .ok (.invokevirtual 304, 3) := dk_182 1 48 (dk_at dksX9_goesOn_7 6 rfl rfl)
theorem dX9_goesOn_174 : decode cX9_goesOn 174 = .ok (.ifCond .eq 50, 3) := dk_153 0 50 (dk_at dksX9_goesOn_7 9 rfl rfl)
theorem dX9_goesOn_177 : decode cX9_goesOn 177 = .ok (.aload_n 0, 1) := dk_42 (dk_at dksX9_goesOn_7 12 rfl rfl)
theorem dX9_goesOn_178 : decode cX9_goesOn 178 = .ok (.dup, 1) := dk_89 (dk_at dksX9_goesOn_7 13 rfl rfl)
theorem dX9_goesOn_179 : decode cX9_goesOn 179 = .ok (.getfield 323, 3) := dk_180 1 67 (dk_at dksX9_goesOn_7 14 rfl rfl)
theorem dX9_goesOn_182 : decode cX9_goesOn 182 = .ok (.iconst 1, 1) := dk_4 (dk_at dksX9_goesOn_7 17 rfl rfl)
theorem dX9_goesOn_183 : decode cX9_goesOn 183 = .ok (.isub, 1) := dk_100 (dk_at dksX9_goesOn_7 18 rfl rfl)
theorem dX9_goesOn_184 : decode cX9_goesOn 184 = .ok (.putfield 323, 3) := dk_181 1 67 (dk_at dksX9_goesOn_7 19 rfl rfl)
theorem dX9_goesOn_187 : decode cX9_goesOn 187 = .ok (.iload_n 1, 1) := dk_27 (dk_at dksX9_goesOn_7 22 rfl rfl)
theorem dX9_goesOn_188 : decode cX9_goesOn 188 = .ok (.bipush 91, 2) := dk_16 91 (dk_at dksX9_goesOn_8 0 rfl rfl)
theorem dX9_goesOn_190 : decode cX9_goesOn 190 = .ok (.if_icmp .ne 17, 3) := dk_160 0 17 (dk_at dksX9_goesOn_8 2 rfl rfl)
theorem dX9_goesOn_193 : decode cX9_goesOn 193 = .ok (.aload_n 0, 1) := dk_42 (dk_at dksX9_goesOn_8 5 rfl rfl)
theorem dX9_goesOn_194 : decode cX9_goesOn 194 = .ok (.iconst 2, 1) := dk_5 (dk_at dksX9_goesOn_8 6 rfl rfl)
theorem dX9_goesOn_195 : decode cX9_goesOn 195 = .ok (.aload_n 0, 1) := dk_42 (dk_at dksX9_goesOn_8 7 rfl rfl)
theorem dX9_goesOn_196 : decode cX9_goesOn 196 = .ok (.getfield 111, 3) := dk_180 0 111 (dk_at dksX9_goesOn_8 8 rfl rfl)
theorem dX9_goesOn_199 : decode cX9_goesOn 199 = .ok (.aload_n 0, 1) := dk_42 (dk_at dksX9_goesOn_8 11 rfl rfl)
theorem dX9_goesOn_200 : decode cX9_goesOn 200 = .ok (.getfield 323, 3) := dk_180 1 67 (dk_at dksX9_goesOn_8 12 rfl rfl)
theorem dX9_goesOn_203 : decode cX9_goesOn 203 = .ok (.iaload, 1) := dk_46 (dk_at dksX9_goesOn_8 15 rfl rfl)
theorem dX9_goesOn_204 : decode cX9_goesOn 204 = .ok (.invokevirtual 332, 3) := dk_182 1 76 (dk_at dksX9_goesOn_8 16 rfl rfl)
theorem dX9_goesOn_207 : decode cX9_goesOn 207 = .ok (.aload_n 0, 1) := dk_42 (dk_at dksX9_goesOn_8 19 rfl rfl)
theorem dX9_goesOn_208 : decode cX9_goesOn 208 = .ok (.dup, 1) := dk_89 (dk_at dksX9_goesOn_8 20 rfl rfl)
theorem dX9_goesOn_209 : decode cX9_goesOn 209 = .ok (.getfield 326, 3) := dk_180 1 70 (dk_at dksX9_goesOn_8 21 rfl rfl)
theorem dX9_goesOn_212 : decode cX9_goesOn 212 = .ok (.iconst 1, 1) := dk_4 (dk_at dksX9_goesOn_9 0 rfl rfl)
theorem dX9_goesOn_213 : decode cX9_goesOn 213 = .ok (.isub, 1) := dk_100 (dk_at dksX9_goesOn_9 1 rfl rfl)
theorem dX9_goesOn_214 : decode cX9_goesOn 214 = .ok (.putfield 326, 3) := dk_181 1 70 (dk_at dksX9_goesOn_9 2 rfl rfl)
theorem dX9_goesOn_217 : decode cX9_goesOn 217 = .ok (.aload_n 0, 1) := dk_42 (dk_at dksX9_goesOn_9 5 rfl rfl)
theorem dX9_goesOn_218 : decode cX9_goesOn 218 = .ok (.invokevirtual 310, 3) := dk_182 1 54 (dk_at dksX9_goesOn_9 6 rfl rfl)
theorem dX9_goesOn_221 : decode cX9_goesOn 221 = .ok (.goto 7, 3) := dk_167 0 7 (dk_at dksX9_goesOn_9 9 rfl rfl)
theorem dX9_goesOn_224 : decode cX9_goesOn 224 = .ok (.aload_n 0, 1) := dk_42 (dk_at dksX9_goesOn_9 12 rfl rfl)
theorem dX9_goesOn_225 : decode cX9_goesOn 225 = .ok (.invokevirtual 307, 3) := dk_182 1 51 (dk_at dksX9_goesOn_9 13 rfl rfl)
theorem dX9_goesOn_228 : decode cX9_goesOn 228 = .ok (.iconst 0, 1) := dk_3 (dk_at dksX9_goesOn_9 16 rfl rfl)
theorem dX9_goesOn_229 : decode cX9_goesOn 229 = .ok (.ireturn, 1) := dk_172 (dk_at dksX9_goesOn_9 17 rfl rfl)
theorem okX9_goesOn_0 : XOkL xms rX9_goesOn bX9_goesOn_0 := xcP (xok_aload_n dX9_goesOn_0 rfl) rfl (xcC0 (xokc_list (List.forall_mem_cons.mpr ⟨xokc_V (r := (RX9, TX9, 96)) xm137 (List.mem_of_getElem? (i := 9) rfl) (by decide) rfl dX9_goesOn_1 q2377 q2379 qs87 q149 q2380 (by decide +kernel), fun _ h => nomatch h⟩)) rfl (xcP (xok_aload_n dX9_goesOn_4 rfl) rfl (xcP (xok_bipush dX9_goesOn_5 rfl) rfl (xcC0 (xokc_list (List.forall_mem_cons.mpr ⟨xokc_V (r := (RX9, TX9, 96)) xm117 (List.mem_of_getElem? (i := 9) rfl) (by decide) rfl dX9_goesOn_7 q2297 q2299 qs67 q149 q2300 (by decide +kernel), fun _ h => nomatch h⟩)) rfl (xcP (xok_ifne dX9_goesOn_10 (by decide)) rfl (xcP (xok_aload_n dX9_goesOn_13 rfl) rfl (xcP (xok_bipush dX9_goesOn_14 rfl) rfl (xcC0 (xokc_list (List.forall_mem_cons.mpr ⟨xokc_V (r := (RX9, TX9, 96)) xm117 (List.mem_of_getElem? (i := 9) rfl) (by decide) rfl dX9_goesOn_16 q2297 q2299 qs67 q149 q2300 (by decide +kernel), fun _ h => nomatch h⟩)) rfl (xcP (xok_ifeq dX9_goesOn_19 (by decide)) rfl (xcP xok_fal rfl trivial))))))))))
theorem okX9_goesOn_22 : XOkL xms rX9_goesOn bX9_goesOn_22 := xcP (xok_aload_n dX9_goesOn_22 rfl) rfl (xcC0 (xokc_list (List.forall_mem_cons.mpr ⟨xokc_V (r := (RX9, TX9, 96)) xm139 (List.mem_of_getElem? (i := 9) rfl) (by decide) rfl dX9_goesOn_23 q2385 q2387 qs89 q149 q2388 (by decide +kernel), fun _ h => nomatch h⟩)) rfl (xcP (xok_aload_n dX9_goesOn_26 rfl) rfl (xcP (xok_aload_n dX9_goesOn_27 rfl) rfl (xcP (xok_getfield (ref := "WaysAtlasModel") (Or.inl ⟨rfl, by decide⟩) dX9_goesOn_28 (Or.inl ⟨q1935, (Or.inl rfl)⟩) xh42) rfl (xcP (xok_bipush dX9_goesOn_31 rfl) rfl (xcP (xok_icmpne dX9_goesOn_33 (by decide)) rfl (xcP (xok_iconst dX9_goesOn_36 rfl) rfl (xcP (xok_goto dX9_goesOn_37 (by decide)) rfl trivial))))))))
theorem okX9_goesOn_40 : XOkL xms rX9_goesOn bX9_goesOn_40 := xcP (xok_bipush dX9_goesOn_40 rfl) rfl (xcP xok_fal rfl trivial)
theorem okX9_goesOn_42 : XOkL xms rX9_goesOn bX9_goesOn_42 := xcP (xok_iconst dX9_goesOn_42 rfl) rfl (xcC0 (xokc_list (List.forall_mem_cons.mpr ⟨xokc_V (r := (RX9, TX9, 96)) xm132 (List.mem_of_getElem? (i := 9) rfl) (by decide) rfl dX9_goesOn_43 q2357 q2359 qs82 q149 q2360 (by decide +kernel), fun _ h => nomatch h⟩)) rfl (xcP (xok_aload_n dX9_goesOn_46 rfl) rfl (xcC0 (xokc_list (List.forall_mem_cons.mpr ⟨xokc_V (r := (RX9, TX9, 96)) xm102 (List.mem_of_getElem? (i := 9) rfl) (by decide) rfl dX9_goesOn_47 q2235 q2237 qs53 q149 q2238 (by decide +kernel), fun _ h => nomatch h⟩)) rfl (xcP (xok_iconst dX9_goesOn_50 rfl) rfl (xcR ⟨dX9_goesOn_51, rfl⟩)))))
theorem okX9_goesOn_52 : XOkL xms rX9_goesOn bX9_goesOn_52 := xcP (xok_aload_n dX9_goesOn_52 rfl) rfl (xcP (xok_bipush dX9_goesOn_53 rfl) rfl (xcC0 (xokc_list (List.forall_mem_cons.mpr ⟨xokc_V (r := (RX9, TX9, 96)) xm117 (List.mem_of_getElem? (i := 9) rfl) (by decide) rfl dX9_goesOn_55 q2297 q2299 qs67 q149 q2300 (by decide +kernel), fun _ h => nomatch h⟩)) rfl (xcP (xok_ifne dX9_goesOn_58 (by decide)) rfl (xcP (xok_aload_n dX9_goesOn_61 rfl) rfl (xcP (xok_bipush dX9_goesOn_62 rfl) rfl (xcC0 (xokc_list (List.forall_mem_cons.mpr ⟨xokc_V (r := (RX9, TX9, 96)) xm117 (List.mem_of_getElem? (i := 9) rfl) (by decide) rfl dX9_goesOn_64 q2297 q2299 qs67 q149 q2300 (by decide +kernel), fun _ h => nomatch h⟩)) rfl (xcP (xok_ifne dX9_goesOn_67 (by decide)) rfl (xcP (xok_aload_n dX9_goesOn_70 rfl) rfl (xcP (xok_bipush dX9_goesOn_71 rfl) rfl (xcC0 (xokc_list (List.forall_mem_cons.mpr ⟨xokc_V (r := (RX9, TX9, 96)) xm117 (List.mem_of_getElem? (i := 9) rfl) (by decide) rfl dX9_goesOn_73 q2297 q2299 qs67 q149 q2300 (by decide +kernel), fun _ h => nomatch h⟩)) rfl (xcP (xok_ifeq dX9_goesOn_76 (by decide)) rfl (xcP xok_fal rfl trivial))))))))))))
theorem okX9_goesOn_79 : XOkL xms rX9_goesOn bX9_goesOn_79 := xcP (xok_aload_n dX9_goesOn_79 rfl) rfl (xcC0 (xokc_list (List.forall_mem_cons.mpr ⟨xokc_V (r := (RX9, TX9, 96)) xm140 (List.mem_of_getElem? (i := 9) rfl) (by decide) rfl dX9_goesOn_80 q2389 q2391 qs90 q149 q2392 (by decide +kernel), fun _ h => nomatch h⟩)) rfl (xcP (xok_aload_n dX9_goesOn_83 rfl) rfl (xcP (xok_aload_n dX9_goesOn_84 rfl) rfl (xcP (xok_getfield (ref := "WaysAtlasModel") (Or.inl ⟨rfl, by decide⟩) dX9_goesOn_85 (Or.inl ⟨q1935, (Or.inl rfl)⟩) xh42) rfl (xcP (xok_bipush dX9_goesOn_88 rfl) rfl (xcP (xok_icmpne dX9_goesOn_90 (by decide)) rfl (xcP (xok_bipush dX9_goesOn_93 rfl) rfl (xcP (xok_goto dX9_goesOn_95 (by decide)) rfl trivial))))))))
theorem okX9_goesOn_98 : XOkL xms rX9_goesOn bX9_goesOn_98 := xcP (xok_aload_n dX9_goesOn_98 rfl) rfl (xcP (xok_getfield (ref := "WaysAtlasModel") (Or.inl ⟨rfl, by decide⟩) dX9_goesOn_99 (Or.inl ⟨q1935, (Or.inl rfl)⟩) xh42) rfl (xcP (xok_bipush dX9_goesOn_102 rfl) rfl (xcP (xok_icmpne dX9_goesOn_104 (by decide)) rfl (xcP (xok_bipush dX9_goesOn_107 rfl) rfl (xcP (xok_goto dX9_goesOn_109 (by decide)) rfl trivial)))))
theorem okX9_goesOn_112 : XOkL xms rX9_goesOn bX9_goesOn_112 := xcP (xok_bipush dX9_goesOn_112 rfl) rfl (xcP xok_fal rfl trivial)
theorem okX9_goesOn_114 : XOkL xms rX9_goesOn bX9_goesOn_114 := xcP (xok_iconst dX9_goesOn_114 rfl) rfl (xcC0 (xokc_list (List.forall_mem_cons.mpr ⟨xokc_V (r := (RX9, TX9, 96)) xm132 (List.mem_of_getElem? (i := 9) rfl) (by decide) rfl dX9_goesOn_115 q2357 q2359 qs82 q149 q2360 (by decide +kernel), fun _ h => nomatch h⟩)) rfl (xcP (xok_aload_n dX9_goesOn_118 rfl) rfl (xcC0 (xokc_list (List.forall_mem_cons.mpr ⟨xokc_V (r := (RX9, TX9, 96)) xm102 (List.mem_of_getElem? (i := 9) rfl) (by decide) rfl dX9_goesOn_119 q2235 q2237 qs53 q149 q2238 (by decide +kernel), fun _ h => nomatch h⟩)) rfl (xcP (xok_iconst dX9_goesOn_122 rfl) rfl (xcR ⟨dX9_goesOn_123, rfl⟩)))))
theorem okX9_goesOn_124 : XOkL xms rX9_goesOn bX9_goesOn_124 := xcP (xok_aload_n dX9_goesOn_124 rfl) rfl (xcC0 (xokc_list (List.forall_mem_cons.mpr ⟨xokc_V (r := (RX9, TX9, 96)) xm139 (List.mem_of_getElem? (i := 9) rfl) (by decide) rfl dX9_goesOn_125 q2385 q2387 qs89 q149 q2388 (by decide +kernel), fun _ h => nomatch h⟩)) rfl (xcP (xok_aload_n dX9_goesOn_128 rfl) rfl (xcP (xok_getfield (ref := "WaysAtlasModel") (Or.inl ⟨rfl, by decide⟩) dX9_goesOn_129 (Or.inl ⟨q1962, (Or.inl rfl)⟩) xh53) rfl (xcP (xok_ifne dX9_goesOn_132 (by decide)) rfl (xcP (xok_aload_n dX9_goesOn_135 rfl) rfl (xcP (xok_iconst dX9_goesOn_136 rfl) rfl (xcP (xok_putfield (ref := "WaysAtlasModel") (Or.inr (Or.inl ⟨rfl, by decide, rfl⟩)) dX9_goesOn_137 (Or.inl ⟨q1966, (Or.inl rfl)⟩) (Or.inl rfl) xh55) rfl (xcP (xok_iconst dX9_goesOn_140 rfl) rfl (xcR ⟨dX9_goesOn_141, rfl⟩)))))))))
theorem okX9_goesOn_142 : XOkL xms rX9_goesOn bX9_goesOn_142 := xcP (xok_aload_n dX9_goesOn_142 rfl) rfl (xcC0 (xokc_list (List.forall_mem_cons.mpr ⟨xokc_V (r := (RX9, TX9, 96)) xm138 (List.mem_of_getElem? (i := 9) rfl) (by decide) rfl dX9_goesOn_143 q2381 q2383 qs88 q149 q2384 (by decide +kernel), fun _ h => nomatch h⟩)) rfl (xcP (xok_istore_n dX9_goesOn_146 rfl) rfl (xcP (xok_iload_n dX9_goesOn_147 rfl) rfl (xcP (xok_bipush dX9_goesOn_148 rfl) rfl (xcP (xok_icmpne dX9_goesOn_150 (by decide)) rfl (xcP (xok_aload_n dX9_goesOn_153 rfl) rfl (xcP (xok_bipush dX9_goesOn_154 rfl) rfl (xcC0 (xokc_list (List.forall_mem_cons.mpr ⟨xokc_V (r := (RX9, TX9, 96)) xm117 (List.mem_of_getElem? (i := 9) rfl) (by decide) rfl dX9_goesOn_156 q2297 q2299 qs67 q149 q2300 (by decide +kernel), fun _ h => nomatch h⟩)) rfl (xcP (xok_ifne dX9_goesOn_159 (by decide)) rfl (xcP xok_fal rfl trivial))))))))))
theorem okX9_goesOn_162 : XOkL xms rX9_goesOn bX9_goesOn_162 := xcP (xok_iload_n dX9_goesOn_162 rfl) rfl (xcP (xok_bipush dX9_goesOn_163 rfl) rfl (xcP (xok_icmpne dX9_goesOn_165 (by decide)) rfl (xcP (xok_aload_n dX9_goesOn_168 rfl) rfl (xcP (xok_bipush dX9_goesOn_169 rfl) rfl (xcC0 (xokc_list (List.forall_mem_cons.mpr ⟨xokc_V (r := (RX9, TX9, 96)) xm117 (List.mem_of_getElem? (i := 9) rfl) (by decide) rfl dX9_goesOn_171 q2297 q2299 qs67 q149 q2300 (by decide +kernel), fun _ h => nomatch h⟩)) rfl (xcP (xok_ifeq dX9_goesOn_174 (by decide)) rfl (xcP xok_fal rfl trivial)))))))
theorem okX9_goesOn_177 : XOkL xms rX9_goesOn bX9_goesOn_177 := xcP (xok_aload_n dX9_goesOn_177 rfl) rfl (xcP (xok_dup dX9_goesOn_178) rfl (xcP (xok_getfield (ref := "WaysAtlasModel") (Or.inl ⟨rfl, by decide⟩) dX9_goesOn_179 (Or.inl ⟨q1962, (Or.inl rfl)⟩) xh53) rfl (xcP (xok_iconst dX9_goesOn_182 rfl) rfl (xcP (xok_isub dX9_goesOn_183) rfl (xcP (xok_putfield (ref := "WaysAtlasModel") (Or.inl ⟨rfl, by decide, rfl⟩) dX9_goesOn_184 (Or.inl ⟨q1962, (Or.inl rfl)⟩) (Or.inl rfl) xh53) rfl (xcP (xok_iload_n dX9_goesOn_187 rfl) rfl (xcP (xok_bipush dX9_goesOn_188 rfl) rfl (xcP (xok_icmpne dX9_goesOn_190 (by decide)) rfl (xcP (xok_aload_n dX9_goesOn_193 rfl) rfl (xcP (xok_iconst dX9_goesOn_194 rfl) rfl (xcP (xok_aload_n dX9_goesOn_195 rfl) rfl (xcP (xok_getfield (ref := "WaysAtlasModel") (Or.inr ⟨rfl, by decide⟩) dX9_goesOn_196 (Or.inl ⟨q1964, (Or.inl rfl)⟩) xh1076) rfl (xcP (xok_aload_n dX9_goesOn_199 rfl) rfl (xcP (xok_getfield (ref := "WaysAtlasModel") (Or.inl ⟨rfl, by decide⟩) dX9_goesOn_200 (Or.inl ⟨q1962, (Or.inl rfl)⟩) xh53) rfl (xcP (xok_iaload dX9_goesOn_203) rfl (xcC0 (xokc_list (List.forall_mem_cons.mpr ⟨xokc_V (r := (RX9, TX9, 96)) xm134 (List.mem_of_getElem? (i := 9) rfl) (by decide) rfl dX9_goesOn_204 q2365 q2367 qs84 q149 q2368 (by decide +kernel), fun _ h => nomatch h⟩)) rfl (xcP xok_fal rfl trivial)))))))))))))))))
theorem okX9_goesOn_207 : XOkL xms rX9_goesOn bX9_goesOn_207 := xcP (xok_aload_n dX9_goesOn_207 rfl) rfl (xcP (xok_dup dX9_goesOn_208) rfl (xcP (xok_getfield (ref := "WaysAtlasModel") (Or.inl ⟨rfl, by decide⟩) dX9_goesOn_209 (Or.inl ⟨q1965, (Or.inl rfl)⟩) xh54) rfl (xcP (xok_iconst dX9_goesOn_212 rfl) rfl (xcP (xok_isub dX9_goesOn_213) rfl (xcP (xok_putfield (ref := "WaysAtlasModel") (Or.inl ⟨rfl, by decide, rfl⟩) dX9_goesOn_214 (Or.inl ⟨q1965, (Or.inl rfl)⟩) (Or.inl rfl) xh54) rfl (xcP (xok_aload_n dX9_goesOn_217 rfl) rfl (xcC0 (xokc_list (List.forall_mem_cons.mpr ⟨xokc_V (r := (RX9, TX9, 96)) xm102 (List.mem_of_getElem? (i := 9) rfl) (by decide) rfl dX9_goesOn_218 q2235 q2237 qs53 q149 q2238 (by decide +kernel), fun _ h => nomatch h⟩)) rfl (xcP (xok_goto dX9_goesOn_221 (by decide)) rfl trivial))))))))
theorem okX9_goesOn_224 : XOkL xms rX9_goesOn bX9_goesOn_224 := xcP (xok_aload_n dX9_goesOn_224 rfl) rfl (xcC0 (xokc_list (List.forall_mem_cons.mpr ⟨xokc_V (r := (RX9, TX9, 96)) xm112 (List.mem_of_getElem? (i := 9) rfl) (by decide) rfl dX9_goesOn_225 q2277 q2279 qs62 q149 q2280 (by decide +kernel), fun _ h => nomatch h⟩)) rfl (xcP xok_fal rfl trivial))
theorem okX9_goesOn_228 : XOkL xms rX9_goesOn bX9_goesOn_228 := xcP (xok_iconst dX9_goesOn_228 rfl) rfl (xcR ⟨dX9_goesOn_229, rfl⟩)
theorem okM_X9_goesOn : XOkM xms rX9_goesOn := xokM0 (List.forall_mem_cons.mpr ⟨⟨rfl, okX9_goesOn_0⟩, List.forall_mem_cons.mpr ⟨⟨rfl, okX9_goesOn_22⟩, List.forall_mem_cons.mpr ⟨⟨rfl, okX9_goesOn_40⟩, List.forall_mem_cons.mpr ⟨⟨rfl, okX9_goesOn_42⟩, List.forall_mem_cons.mpr ⟨⟨rfl, okX9_goesOn_52⟩, List.forall_mem_cons.mpr ⟨⟨rfl, okX9_goesOn_79⟩, List.forall_mem_cons.mpr ⟨⟨rfl, okX9_goesOn_98⟩, List.forall_mem_cons.mpr ⟨⟨rfl, okX9_goesOn_112⟩, List.forall_mem_cons.mpr ⟨⟨rfl, okX9_goesOn_114⟩, List.forall_mem_cons.mpr ⟨⟨rfl, okX9_goesOn_124⟩, List.forall_mem_cons.mpr ⟨⟨rfl, okX9_goesOn_142⟩, List.forall_mem_cons.mpr ⟨⟨rfl, okX9_goesOn_162⟩, List.forall_mem_cons.mpr ⟨⟨rfl, okX9_goesOn_177⟩, List.forall_mem_cons.mpr ⟨⟨rfl, okX9_goesOn_207⟩, List.forall_mem_cons.mpr ⟨⟨rfl, okX9_goesOn_224⟩, List.forall_mem_cons.mpr ⟨⟨rfl, okX9_goesOn_228⟩, fun _ h => nomatch h⟩⟩⟩⟩⟩⟩⟩⟩⟩⟩⟩⟩⟩⟩⟩⟩) (xokH0 rfl (fun _ _ => rfl)) (by decide +kernel) (by decide)
abbrev cX9_endFactor : ByteArray := prog_36_method_29_code
def dkwX9_endFactor_1 : List UInt8 := [42, 89, 180, 1, 70, 4, 100, 181, 1, 70, 167, 255, 222, 177]
abbrev dktX9_endFactor_1 : List UInt8 := dkwX9_endFactor_1 ++ []
def dkwX9_endFactor_0 : List UInt8 := [42, 182, 1, 73, 7, 160, 0, 32, 42, 89, 180, 1, 67, 4, 100, 181, 1, 67, 42, 7, 3, 182, 1, 76]
abbrev dktX9_endFactor_0 : List UInt8 := dkwX9_endFactor_0 ++ dktX9_endFactor_1
theorem dksX9_endFactor_0 : cX9_endFactor.data.toList.drop 0 = dktX9_endFactor_0 := by decide +kernel
theorem dksX9_endFactor_1 : cX9_endFactor.data.toList.drop 24 = dktX9_endFactor_1 := dk_seg dksX9_endFactor_0 24 rfl rfl
theorem dX9_endFactor_0 : decode cX9_endFactor 0 = .ok (.aload_n 0, 1) := dk_42 (dk_at dksX9_endFactor_0 0 rfl rfl)
theorem dX9_endFactor_1 : decode cX9_endFactor 1 = .ok (.invokevirtual 329, 3) := dk_182 1 73 (dk_at dksX9_endFactor_0 1 rfl rfl)
theorem dX9_endFactor_4 : decode cX9_endFactor 4 = .ok (.iconst 4, 1) := dk_7 (dk_at dksX9_endFactor_0 4 rfl rfl)
theorem dX9_endFactor_5 : decode cX9_endFactor 5 = .ok (.if_icmp .ne 32, 3) := dk_160 0 32 (dk_at dksX9_endFactor_0 5 rfl rfl)
theorem dX9_endFactor_8 : decode cX9_endFactor 8 = .ok (.aload_n 0, 1) := dk_42 (dk_at dksX9_endFactor_0 8 rfl rfl)
theorem dX9_endFactor_9 : decode cX9_endFactor 9 = .ok (.dup, 1) := dk_89 (dk_at dksX9_endFactor_0 9 rfl rfl)
theorem dX9_endFactor_10 : decode cX9_endFactor 10 = .ok (.getfield 323, 3) := dk_180 1 67 (dk_at dksX9_endFactor_0 10 rfl rfl)
theorem dX9_endFactor_13 : decode cX9_endFactor 13 = .ok (.iconst 1, 1) := dk_4 (dk_at dksX9_endFactor_0 13 rfl rfl)
theorem dX9_endFactor_14 : decode cX9_endFactor 14 = .ok (.isub, 1) := dk_100 (dk_at dksX9_endFactor_0 14 rfl rfl)
theorem dX9_endFactor_15 : decode cX9_endFactor 15 = .ok (.putfield 323, 3) := dk_181 1 67 (dk_at dksX9_endFactor_0 15 rfl rfl)
theorem dX9_endFactor_18 : decode cX9_endFactor 18 = .ok (.aload_n 0, 1) := dk_42 (dk_at dksX9_endFactor_0 18 rfl rfl)
theorem dX9_endFactor_19 : decode cX9_endFactor 19 = .ok (.iconst 4, 1) := dk_7 (dk_at dksX9_endFactor_0 19 rfl rfl)
theorem dX9_endFactor_20 : decode cX9_endFactor 20 = .ok (.iconst 0, 1) := dk_3 (dk_at dksX9_endFactor_0 20 rfl rfl)
theorem dX9_endFactor_21 : decode cX9_endFactor 21 = .ok (.invokevirtual 332, 3) := dk_182 1 76 (dk_at dksX9_endFactor_0 21 rfl rfl)
theorem dX9_endFactor_24 : decode cX9_endFactor 24 = .ok (.aload_n 0, 1) := dk_42 (dk_at dksX9_endFactor_1 0 rfl rfl)
theorem dX9_endFactor_25 : decode cX9_endFactor 25 = .ok (.dup, 1) := dk_89 (dk_at dksX9_endFactor_1 1 rfl rfl)
theorem dX9_endFactor_26 : decode cX9_endFactor 26 = .ok (.getfield 326, 3) := dk_180 1 70 (dk_at dksX9_endFactor_1 2 rfl rfl)
theorem dX9_endFactor_29 : decode cX9_endFactor 29 = .ok (.iconst 1, 1) := dk_4 (dk_at dksX9_endFactor_1 5 rfl rfl)
theorem dX9_endFactor_30 : decode cX9_endFactor 30 = .ok (.isub, 1) := dk_100 (dk_at dksX9_endFactor_1 6 rfl rfl)
theorem dX9_endFactor_31 : decode cX9_endFactor 31 = .ok (.putfield 326, 3) := dk_181 1 70 (dk_at dksX9_endFactor_1 7 rfl rfl)
theorem dX9_endFactor_34 : decode cX9_endFactor 34 = .ok (.goto (-34), 3) := dk_167 255 222 (dk_at dksX9_endFactor_1 10 rfl rfl)
theorem dX9_endFactor_37 : decode cX9_endFactor 37 = .ok (.return_, 1) := dk_177 (dk_at dksX9_endFactor_1 13 rfl rfl)
theorem okX9_endFactor_0 : XOkL xms rX9_endFactor bX9_endFactor_0 := xcP (xok_aload_n dX9_endFactor_0 rfl) rfl (xcC0 (xokc_list (List.forall_mem_cons.mpr ⟨xokc_V (r := (RX9, TX9, 96)) xm138 (List.mem_of_getElem? (i := 9) rfl) (by decide) rfl dX9_endFactor_1 q2381 q2383 qs88 q149 q2384 (by decide +kernel), fun _ h => nomatch h⟩)) rfl (xcP (xok_iconst dX9_endFactor_4 rfl) rfl (xcP (xok_icmpne dX9_endFactor_5 (by decide)) rfl (xcP (xok_aload_n dX9_endFactor_8 rfl) rfl (xcP (xok_dup dX9_endFactor_9) rfl (xcP (xok_getfield (ref := "WaysAtlasModel") (Or.inl ⟨rfl, by decide⟩) dX9_endFactor_10 (Or.inl ⟨q1962, (Or.inl rfl)⟩) xh53) rfl (xcP (xok_iconst dX9_endFactor_13 rfl) rfl (xcP (xok_isub dX9_endFactor_14) rfl (xcP (xok_putfield (ref := "WaysAtlasModel") (Or.inl ⟨rfl, by decide, rfl⟩) dX9_endFactor_15 (Or.inl ⟨q1962, (Or.inl rfl)⟩) (Or.inl rfl) xh53) rfl (xcP (xok_aload_n dX9_endFactor_18 rfl) rfl (xcP (xok_iconst dX9_endFactor_19 rfl) rfl (xcP (xok_iconst dX9_endFactor_20 rfl) rfl (xcC0 (xokc_list (List.forall_mem_cons.mpr ⟨xokc_V (r := (RX9, TX9, 96)) xm134 (List.mem_of_getElem? (i := 9) rfl) (by decide) rfl dX9_endFactor_21 q2365 q2367 qs84 q149 q2368 (by decide +kernel), fun _ h => nomatch h⟩)) rfl (xcP (xok_aload_n dX9_endFactor_24 rfl) rfl (xcP (xok_dup dX9_endFactor_25) rfl (xcP (xok_getfield (ref := "WaysAtlasModel") (Or.inl ⟨rfl, by decide⟩) dX9_endFactor_26 (Or.inl ⟨q1965, (Or.inl rfl)⟩) xh54) rfl (xcP (xok_iconst dX9_endFactor_29 rfl) rfl (xcP (xok_isub dX9_endFactor_30) rfl (xcP (xok_putfield (ref := "WaysAtlasModel") (Or.inl ⟨rfl, by decide, rfl⟩) dX9_endFactor_31 (Or.inl ⟨q1965, (Or.inl rfl)⟩) (Or.inl rfl) xh54) rfl (xcP (xok_goto dX9_endFactor_34 (by decide)) rfl trivial))))))))))))))))))))
theorem okX9_endFactor_37 : XOkL xms rX9_endFactor bX9_endFactor_37 := xcR ⟨dX9_endFactor_37, rfl⟩
theorem okM_X9_endFactor : XOkM xms rX9_endFactor := xokM0 (List.forall_mem_cons.mpr ⟨⟨rfl, okX9_endFactor_0⟩, List.forall_mem_cons.mpr ⟨⟨rfl, okX9_endFactor_37⟩, fun _ h => nomatch h⟩⟩) (xokH0 rfl (fun _ _ => rfl)) (by decide +kernel) (by decide)
abbrev cX9_top : ByteArray := prog_36_method_28_code
def dkwX9_top_0 : List UInt8 := [42, 180, 1, 67, 154, 0, 7, 2, 167, 0, 14, 42, 180, 0, 108, 42, 180, 1, 67, 4, 100, 46, 172]
abbrev dktX9_top_0 : List UInt8 := dkwX9_top_0 ++ []
theorem dksX9_top_0 : cX9_top.data.toList.drop 0 = dktX9_top_0 := by decide +kernel
theorem dX9_top_0 : decode cX9_top 0 = .ok (.aload_n 0, 1) := dk_42 (dk_at dksX9_top_0 0 rfl rfl)
theorem dX9_top_1 : decode cX9_top 1 = .ok (.getfield 323, 3) := dk_180 1 67 (dk_at dksX9_top_0 1 rfl rfl)
theorem dX9_top_4 : decode cX9_top 4 = .ok (.ifCond .ne 7, 3) := dk_154 0 7 (dk_at dksX9_top_0 4 rfl rfl)
theorem dX9_top_7 : decode cX9_top 7 = .ok (.iconst (-1), 1) := dk_2 (dk_at dksX9_top_0 7 rfl rfl)
theorem dX9_top_8 : decode cX9_top 8 = .ok (.goto 14, 3) := dk_167 0 14 (dk_at dksX9_top_0 8 rfl rfl)
theorem dX9_top_11 : decode cX9_top 11 = .ok (.aload_n 0, 1) := dk_42 (dk_at dksX9_top_0 11 rfl rfl)
theorem dX9_top_12 : decode cX9_top 12 = .ok (.getfield 108, 3) := dk_180 0 108 (dk_at dksX9_top_0 12 rfl rfl)
theorem dX9_top_15 : decode cX9_top 15 = .ok (.aload_n 0, 1) := dk_42 (dk_at dksX9_top_0 15 rfl rfl)
theorem dX9_top_16 : decode cX9_top 16 = .ok (.getfield 323, 3) := dk_180 1 67 (dk_at dksX9_top_0 16 rfl rfl)
theorem dX9_top_19 : decode cX9_top 19 = .ok (.iconst 1, 1) := dk_4 (dk_at dksX9_top_0 19 rfl rfl)
theorem dX9_top_20 : decode cX9_top 20 = .ok (.isub, 1) := dk_100 (dk_at dksX9_top_0 20 rfl rfl)
theorem dX9_top_21 : decode cX9_top 21 = .ok (.iaload, 1) := dk_46 (dk_at dksX9_top_0 21 rfl rfl)
theorem dX9_top_22 : decode cX9_top 22 = .ok (.ireturn, 1) := dk_172 (dk_at dksX9_top_0 22 rfl rfl)
theorem okX9_top_0 : XOkL xms rX9_top bX9_top_0 := xcP (xok_aload_n dX9_top_0 rfl) rfl (xcP (xok_getfield (ref := "WaysAtlasModel") (Or.inl ⟨rfl, by decide⟩) dX9_top_1 (Or.inl ⟨q1962, (Or.inl rfl)⟩) xh53) rfl (xcP (xok_ifne dX9_top_4 (by decide)) rfl (xcP (xok_iconst dX9_top_7 rfl) rfl (xcP (xok_goto dX9_top_8 (by decide)) rfl trivial))))
theorem okX9_top_11 : XOkL xms rX9_top bX9_top_11 := xcP (xok_aload_n dX9_top_11 rfl) rfl (xcP (xok_getfield (ref := "WaysAtlasModel") (Or.inr ⟨rfl, by decide⟩) dX9_top_12 (Or.inl ⟨q1963, (Or.inl rfl)⟩) xh1075) rfl (xcP (xok_aload_n dX9_top_15 rfl) rfl (xcP (xok_getfield (ref := "WaysAtlasModel") (Or.inl ⟨rfl, by decide⟩) dX9_top_16 (Or.inl ⟨q1962, (Or.inl rfl)⟩) xh53) rfl (xcP (xok_iconst dX9_top_19 rfl) rfl (xcP (xok_isub dX9_top_20) rfl (xcP (xok_iaload dX9_top_21) rfl (xcP xok_fal rfl trivial)))))))
theorem okX9_top_22 : XOkL xms rX9_top bX9_top_22 := xcR ⟨dX9_top_22, rfl⟩
theorem okM_X9_top : XOkM xms rX9_top := xokM0 (List.forall_mem_cons.mpr ⟨⟨rfl, okX9_top_0⟩, List.forall_mem_cons.mpr ⟨⟨rfl, okX9_top_11⟩, List.forall_mem_cons.mpr ⟨⟨rfl, okX9_top_22⟩, fun _ h => nomatch h⟩⟩⟩) (xokH0 rfl (fun _ _ => rfl)) (by decide +kernel) (by decide)
abbrev cX9_endSum : ByteArray := prog_36_method_31_code
def dkwX9_endSum_1 : List UInt8 := [42, 180, 0, 108, 42, 180, 1, 67, 46, 3, 182, 1, 76, 167, 255, 219, 177]
abbrev dktX9_endSum_1 : List UInt8 := dkwX9_endSum_1 ++ []
def dkwX9_endSum_0 : List UInt8 := [42, 182, 1, 73, 8, 16, 9, 184, 0, 239, 153, 0, 30, 42, 89, 180, 1, 67, 4, 100, 181, 1, 67, 42]
abbrev dktX9_endSum_0 : List UInt8 := dkwX9_endSum_0 ++ dktX9_endSum_1
theorem dksX9_endSum_0 : cX9_endSum.data.toList.drop 0 = dktX9_endSum_0 := by decide +kernel
theorem dksX9_endSum_1 : cX9_endSum.data.toList.drop 24 = dktX9_endSum_1 := dk_seg dksX9_endSum_0 24 rfl rfl
theorem dX9_endSum_0 : decode cX9_endSum 0 = .ok (.aload_n 0, 1) := dk_42 (dk_at dksX9_endSum_0 0 rfl rfl)
theorem dX9_endSum_1 : decode cX9_endSum 1 = .ok (.invokevirtual 329, 3) := dk_182 1 73 (dk_at dksX9_endSum_0 1 rfl rfl)
theorem dX9_endSum_4 : decode cX9_endSum 4 = .ok (.iconst 5, 1) := dk_8 (dk_at dksX9_endSum_0 4 rfl rfl)
theorem dX9_endSum_5 : decode cX9_endSum 5 = .ok (.bipush 9, 2) := dk_16 9 (dk_at dksX9_endSum_0 5 rfl rfl)
theorem dX9_endSum_7 : decode cX9_endSum 7 = .ok (.invokestatic 239, 3) := dk_184 0 239 (dk_at dksX9_endSum_0 7 rfl rfl)
theorem dX9_endSum_10 : decode cX9_endSum 10 = .ok (.ifCond .eq 30, 3) := dk_153 0 30 (dk_at dksX9_endSum_0 10 rfl rfl)
theorem dX9_endSum_13 : decode cX9_endSum 13 = .ok (.aload_n 0, 1) := dk_42 (dk_at dksX9_endSum_0 13 rfl rfl)
theorem dX9_endSum_14 : decode cX9_endSum 14 = .ok (.dup, 1) := dk_89 (dk_at dksX9_endSum_0 14 rfl rfl)
theorem dX9_endSum_15 : decode cX9_endSum 15 = .ok (.getfield 323, 3) := dk_180 1 67 (dk_at dksX9_endSum_0 15 rfl rfl)
theorem dX9_endSum_18 : decode cX9_endSum 18 = .ok (.iconst 1, 1) := dk_4 (dk_at dksX9_endSum_0 18 rfl rfl)
theorem dX9_endSum_19 : decode cX9_endSum 19 = .ok (.isub, 1) := dk_100 (dk_at dksX9_endSum_0 19 rfl rfl)
theorem dX9_endSum_20 : decode cX9_endSum 20 = .ok (.putfield 323, 3) := dk_181 1 67 (dk_at dksX9_endSum_0 20 rfl rfl)
theorem dX9_endSum_23 : decode cX9_endSum 23 = .ok (.aload_n 0, 1) := dk_42 (dk_at dksX9_endSum_0 23 rfl rfl)
theorem dX9_endSum_24 : decode cX9_endSum 24 = .ok (.aload_n 0, 1) := dk_42 (dk_at dksX9_endSum_1 0 rfl rfl)
theorem dX9_endSum_25 : decode cX9_endSum 25 = .ok (.getfield 108, 3) := dk_180 0 108 (dk_at dksX9_endSum_1 1 rfl rfl)
theorem dX9_endSum_28 : decode cX9_endSum 28 = .ok (.aload_n 0, 1) := dk_42 (dk_at dksX9_endSum_1 4 rfl rfl)
theorem dX9_endSum_29 : decode cX9_endSum 29 = .ok (.getfield 323, 3) := dk_180 1 67 (dk_at dksX9_endSum_1 5 rfl rfl)
theorem dX9_endSum_32 : decode cX9_endSum 32 = .ok (.iaload, 1) := dk_46 (dk_at dksX9_endSum_1 8 rfl rfl)
theorem dX9_endSum_33 : decode cX9_endSum 33 = .ok (.iconst 0, 1) := dk_3 (dk_at dksX9_endSum_1 9 rfl rfl)
theorem dX9_endSum_34 : decode cX9_endSum 34 = .ok (.invokevirtual 332, 3) := dk_182 1 76 (dk_at dksX9_endSum_1 10 rfl rfl)
theorem dX9_endSum_37 : decode cX9_endSum 37 = .ok (.goto (-37), 3) := dk_167 255 219 (dk_at dksX9_endSum_1 13 rfl rfl)
theorem dX9_endSum_40 : decode cX9_endSum 40 = .ok (.return_, 1) := dk_177 (dk_at dksX9_endSum_1 16 rfl rfl)
theorem okX9_endSum_0 : XOkL xms rX9_endSum bX9_endSum_0 := xcP (xok_aload_n dX9_endSum_0 rfl) rfl (xcC0 (xokc_list (List.forall_mem_cons.mpr ⟨xokc_V (r := (RX9, TX9, 96)) xm138 (List.mem_of_getElem? (i := 9) rfl) (by decide) rfl dX9_endSum_1 q2381 q2383 qs88 q149 q2384 (by decide +kernel), fun _ h => nomatch h⟩)) rfl (xcP (xok_iconst dX9_endSum_4 rfl) rfl (xcP (xok_bipush dX9_endSum_5 rfl) rfl (xcC0 (xokc_S xm99 rfl dX9_endSum_7 q2224 q2225 q149 q2226 (by decide +kernel)) rfl (xcP (xok_ifeq dX9_endSum_10 (by decide)) rfl (xcP (xok_aload_n dX9_endSum_13 rfl) rfl (xcP (xok_dup dX9_endSum_14) rfl (xcP (xok_getfield (ref := "WaysAtlasModel") (Or.inl ⟨rfl, by decide⟩) dX9_endSum_15 (Or.inl ⟨q1962, (Or.inl rfl)⟩) xh53) rfl (xcP (xok_iconst dX9_endSum_18 rfl) rfl (xcP (xok_isub dX9_endSum_19) rfl (xcP (xok_putfield (ref := "WaysAtlasModel") (Or.inl ⟨rfl, by decide, rfl⟩) dX9_endSum_20 (Or.inl ⟨q1962, (Or.inl rfl)⟩) (Or.inl rfl) xh53) rfl (xcP (xok_aload_n dX9_endSum_23 rfl) rfl (xcP (xok_aload_n dX9_endSum_24 rfl) rfl (xcP (xok_getfield (ref := "WaysAtlasModel") (Or.inr ⟨rfl, by decide⟩) dX9_endSum_25 (Or.inl ⟨q1963, (Or.inl rfl)⟩) xh1075) rfl (xcP (xok_aload_n dX9_endSum_28 rfl) rfl (xcP (xok_getfield (ref := "WaysAtlasModel") (Or.inl ⟨rfl, by decide⟩) dX9_endSum_29 (Or.inl ⟨q1962, (Or.inl rfl)⟩) xh53) rfl (xcP (xok_iaload dX9_endSum_32) rfl (xcP (xok_iconst dX9_endSum_33 rfl) rfl (xcC0 (xokc_list (List.forall_mem_cons.mpr ⟨xokc_V (r := (RX9, TX9, 96)) xm134 (List.mem_of_getElem? (i := 9) rfl) (by decide) rfl dX9_endSum_34 q2365 q2367 qs84 q149 q2368 (by decide +kernel), fun _ h => nomatch h⟩)) rfl (xcP (xok_goto dX9_endSum_37 (by decide)) rfl trivial))))))))))))))))))))
theorem okX9_endSum_40 : XOkL xms rX9_endSum bX9_endSum_40 := xcR ⟨dX9_endSum_40, rfl⟩
theorem okM_X9_endSum : XOkM xms rX9_endSum := xokM0 (List.forall_mem_cons.mpr ⟨⟨rfl, okX9_endSum_0⟩, List.forall_mem_cons.mpr ⟨⟨rfl, okX9_endSum_40⟩, fun _ h => nomatch h⟩⟩) (xokH0 rfl (fun _ _ => rfl)) (by decide +kernel) (by decide)
abbrev cX9_endProduct : ByteArray := prog_36_method_30_code
def dkwX9_endProduct_1 : List UInt8 := [42, 42, 180, 0, 108, 42, 180, 1, 67, 46, 3, 182, 1, 76, 167, 255, 218, 177]
abbrev dktX9_endProduct_1 : List UInt8 := dkwX9_endProduct_1 ++ []
def dkwX9_endProduct_0 : List UInt8 := [42, 182, 1, 73, 16, 7, 16, 9, 184, 0, 239, 153, 0, 30, 42, 89, 180, 1, 67, 4, 100, 181, 1, 67]
abbrev dktX9_endProduct_0 : List UInt8 := dkwX9_endProduct_0 ++ dktX9_endProduct_1
theorem dksX9_endProduct_0 : cX9_endProduct.data.toList.drop 0 = dktX9_endProduct_0 := by decide +kernel
theorem dksX9_endProduct_1 : cX9_endProduct.data.toList.drop 24 = dktX9_endProduct_1 := dk_seg dksX9_endProduct_0 24 rfl rfl
theorem dX9_endProduct_0 : decode cX9_endProduct 0 = .ok (.aload_n 0, 1) := dk_42 (dk_at dksX9_endProduct_0 0 rfl rfl)
theorem dX9_endProduct_1 : decode cX9_endProduct 1 = .ok (.invokevirtual 329, 3) := dk_182 1 73 (dk_at dksX9_endProduct_0 1 rfl rfl)
theorem dX9_endProduct_4 : decode cX9_endProduct 4 = .ok (.bipush 7, 2) := dk_16 7 (dk_at dksX9_endProduct_0 4 rfl rfl)
theorem dX9_endProduct_6 : decode cX9_endProduct 6 = .ok (.bipush 9, 2) := dk_16 9 (dk_at dksX9_endProduct_0 6 rfl rfl)
theorem dX9_endProduct_8 : decode cX9_endProduct 8 = .ok (.invokestatic 239, 3) := dk_184 0 239 (dk_at dksX9_endProduct_0 8 rfl rfl)
theorem dX9_endProduct_11 : decode cX9_endProduct 11 = .ok (.ifCond .eq 30, 3) := dk_153 0 30 (dk_at dksX9_endProduct_0 11 rfl rfl)
theorem dX9_endProduct_14 : decode cX9_endProduct 14 = .ok (.aload_n 0, 1) := dk_42 (dk_at dksX9_endProduct_0 14 rfl rfl)
theorem dX9_endProduct_15 : decode cX9_endProduct 15 = .ok (.dup, 1) := dk_89 (dk_at dksX9_endProduct_0 15 rfl rfl)
theorem dX9_endProduct_16 : decode cX9_endProduct 16 = .ok (.getfield 323, 3) := dk_180 1 67 (dk_at dksX9_endProduct_0 16 rfl rfl)
theorem dX9_endProduct_19 : decode cX9_endProduct 19 = .ok (.iconst 1, 1) := dk_4 (dk_at dksX9_endProduct_0 19 rfl rfl)
theorem dX9_endProduct_20 : decode cX9_endProduct 20 = .ok (.isub, 1) := dk_100 (dk_at dksX9_endProduct_0 20 rfl rfl)
theorem dX9_endProduct_21 : decode cX9_endProduct 21 = .ok (.putfield 323, 3) := dk_181 1 67 (dk_at dksX9_endProduct_0 21 rfl rfl)
theorem dX9_endProduct_24 : decode cX9_endProduct 24 = .ok (.aload_n 0, 1) := dk_42 (dk_at dksX9_endProduct_1 0 rfl rfl)
theorem dX9_endProduct_25 : decode cX9_endProduct 25 = .ok (.aload_n 0, 1) := dk_42 (dk_at dksX9_endProduct_1 1 rfl rfl)
theorem dX9_endProduct_26 : decode cX9_endProduct 26 = .ok (.getfield 108, 3) := dk_180 0 108 (dk_at dksX9_endProduct_1 2 rfl rfl)
theorem dX9_endProduct_29 : decode cX9_endProduct 29 = .ok (.aload_n 0, 1) := dk_42 (dk_at dksX9_endProduct_1 5 rfl rfl)
theorem dX9_endProduct_30 : decode cX9_endProduct 30 = .ok (.getfield 323, 3) := dk_180 1 67 (dk_at dksX9_endProduct_1 6 rfl rfl)
theorem dX9_endProduct_33 : decode cX9_endProduct 33 = .ok (.iaload, 1) := dk_46 (dk_at dksX9_endProduct_1 9 rfl rfl)
theorem dX9_endProduct_34 : decode cX9_endProduct 34 = .ok (.iconst 0, 1) := dk_3 (dk_at dksX9_endProduct_1 10 rfl rfl)
theorem dX9_endProduct_35 : decode cX9_endProduct 35 = .ok (.invokevirtual 332, 3) := dk_182 1 76 (dk_at dksX9_endProduct_1 11 rfl rfl)
theorem dX9_endProduct_38 : decode cX9_endProduct 38 = .ok (.goto (-38), 3) := dk_167 255 218 (dk_at dksX9_endProduct_1 14 rfl rfl)
theorem dX9_endProduct_41 : decode cX9_endProduct 41 = .ok (.return_, 1) := dk_177 (dk_at dksX9_endProduct_1 17 rfl rfl)
theorem okX9_endProduct_0 : XOkL xms rX9_endProduct bX9_endProduct_0 := xcP (xok_aload_n dX9_endProduct_0 rfl) rfl (xcC0 (xokc_list (List.forall_mem_cons.mpr ⟨xokc_V (r := (RX9, TX9, 96)) xm138 (List.mem_of_getElem? (i := 9) rfl) (by decide) rfl dX9_endProduct_1 q2381 q2383 qs88 q149 q2384 (by decide +kernel), fun _ h => nomatch h⟩)) rfl (xcP (xok_bipush dX9_endProduct_4 rfl) rfl (xcP (xok_bipush dX9_endProduct_6 rfl) rfl (xcC0 (xokc_S xm99 rfl dX9_endProduct_8 q2224 q2225 q149 q2226 (by decide +kernel)) rfl (xcP (xok_ifeq dX9_endProduct_11 (by decide)) rfl (xcP (xok_aload_n dX9_endProduct_14 rfl) rfl (xcP (xok_dup dX9_endProduct_15) rfl (xcP (xok_getfield (ref := "WaysAtlasModel") (Or.inl ⟨rfl, by decide⟩) dX9_endProduct_16 (Or.inl ⟨q1962, (Or.inl rfl)⟩) xh53) rfl (xcP (xok_iconst dX9_endProduct_19 rfl) rfl (xcP (xok_isub dX9_endProduct_20) rfl (xcP (xok_putfield (ref := "WaysAtlasModel") (Or.inl ⟨rfl, by decide, rfl⟩) dX9_endProduct_21 (Or.inl ⟨q1962, (Or.inl rfl)⟩) (Or.inl rfl) xh53) rfl (xcP (xok_aload_n dX9_endProduct_24 rfl) rfl (xcP (xok_aload_n dX9_endProduct_25 rfl) rfl (xcP (xok_getfield (ref := "WaysAtlasModel") (Or.inr ⟨rfl, by decide⟩) dX9_endProduct_26 (Or.inl ⟨q1963, (Or.inl rfl)⟩) xh1075) rfl (xcP (xok_aload_n dX9_endProduct_29 rfl) rfl (xcP (xok_getfield (ref := "WaysAtlasModel") (Or.inl ⟨rfl, by decide⟩) dX9_endProduct_30 (Or.inl ⟨q1962, (Or.inl rfl)⟩) xh53) rfl (xcP (xok_iaload dX9_endProduct_33) rfl (xcP (xok_iconst dX9_endProduct_34 rfl) rfl (xcC0 (xokc_list (List.forall_mem_cons.mpr ⟨xokc_V (r := (RX9, TX9, 96)) xm134 (List.mem_of_getElem? (i := 9) rfl) (by decide) rfl dX9_endProduct_35 q2365 q2367 qs84 q149 q2368 (by decide +kernel), fun _ h => nomatch h⟩)) rfl (xcP (xok_goto dX9_endProduct_38 (by decide)) rfl trivial))))))))))))))))))))
theorem okX9_endProduct_41 : XOkL xms rX9_endProduct bX9_endProduct_41 := xcR ⟨dX9_endProduct_41, rfl⟩
theorem okM_X9_endProduct : XOkM xms rX9_endProduct := xokM0 (List.forall_mem_cons.mpr ⟨⟨rfl, okX9_endProduct_0⟩, List.forall_mem_cons.mpr ⟨⟨rfl, okX9_endProduct_41⟩, fun _ h => nomatch h⟩⟩) (xokH0 rfl (fun _ _ => rfl)) (by decide +kernel) (by decide)
abbrev cX9_ofRow : ByteArray := prog_36_method_41_code
def dkwX9_ofRow_7 : List UInt8 := [16, 59, 182, 1, 129, 177]
abbrev dktX9_ofRow_7 : List UInt8 := dkwX9_ofRow_7 ++ []
def dkwX9_ofRow_6 : List UInt8 := [27, 3, 7, 182, 1, 120, 42, 182, 1, 54, 167, 0, 13, 42, 27, 5, 42, 182, 1, 92, 182, 1, 120, 42]
abbrev dktX9_ofRow_6 : List UInt8 := dkwX9_ofRow_6 ++ dktX9_ofRow_7
def dkwX9_ofRow_5 : List UInt8 := [6, 7, 182, 1, 133, 167, 0, 42, 42, 180, 1, 35, 154, 0, 25, 42, 6, 182, 1, 89, 153, 0, 17, 42]
abbrev dktX9_ofRow_5 : List UInt8 := dkwX9_ofRow_5 ++ dktX9_ofRow_6
def dkwX9_ofRow_4 : List UInt8 := [154, 0, 32, 42, 5, 182, 1, 89, 153, 0, 24, 42, 27, 3, 6, 182, 1, 120, 42, 182, 1, 54, 42, 27]
abbrev dktX9_ofRow_4 : List UInt8 := dkwX9_ofRow_4 ++ dktX9_ofRow_5
def dkwX9_ofRow_3 : List UInt8 := [27, 8, 16, 6, 182, 1, 133, 42, 16, 59, 182, 1, 129, 177, 42, 16, 61, 182, 1, 129, 42, 180, 1, 35]
abbrev dktX9_ofRow_3 : List UInt8 := dkwX9_ofRow_3 ++ dktX9_ofRow_4
def dkwX9_ofRow_2 : List UInt8 := [7, 182, 1, 133, 42, 16, 93, 182, 1, 129, 42, 16, 61, 182, 1, 129, 42, 180, 1, 35, 154, 0, 11, 42]
abbrev dktX9_ofRow_2 : List UInt8 := dkwX9_ofRow_2 ++ dktX9_ofRow_3
def dkwX9_ofRow_1 : List UInt8 := [42, 16, 91, 182, 1, 48, 153, 0, 56, 42, 27, 3, 16, 6, 182, 1, 120, 42, 182, 1, 54, 42, 27, 6]
abbrev dktX9_ofRow_1 : List UInt8 := dkwX9_ofRow_1 ++ dktX9_ofRow_2
def dkwX9_ofRow_0 : List UInt8 := [42, 8, 182, 1, 136, 60, 42, 27, 4, 42, 182, 1, 92, 182, 1, 120, 42, 180, 1, 35, 153, 0, 4, 177]
abbrev dktX9_ofRow_0 : List UInt8 := dkwX9_ofRow_0 ++ dktX9_ofRow_1
theorem dksX9_ofRow_0 : cX9_ofRow.data.toList.drop 0 = dktX9_ofRow_0 := by decide +kernel
theorem dksX9_ofRow_1 : cX9_ofRow.data.toList.drop 24 = dktX9_ofRow_1 := dk_seg dksX9_ofRow_0 24 rfl rfl
theorem dksX9_ofRow_2 : cX9_ofRow.data.toList.drop 48 = dktX9_ofRow_2 := dk_seg dksX9_ofRow_1 24 rfl rfl
theorem dksX9_ofRow_3 : cX9_ofRow.data.toList.drop 72 = dktX9_ofRow_3 := dk_seg dksX9_ofRow_2 24 rfl rfl
theorem dksX9_ofRow_4 : cX9_ofRow.data.toList.drop 96 = dktX9_ofRow_4 := dk_seg dksX9_ofRow_3 24 rfl rfl
theorem dksX9_ofRow_5 : cX9_ofRow.data.toList.drop 120 = dktX9_ofRow_5 := dk_seg dksX9_ofRow_4 24 rfl rfl
theorem dksX9_ofRow_6 : cX9_ofRow.data.toList.drop 144 = dktX9_ofRow_6 := dk_seg dksX9_ofRow_5 24 rfl rfl
theorem dksX9_ofRow_7 : cX9_ofRow.data.toList.drop 168 = dktX9_ofRow_7 := dk_seg dksX9_ofRow_6 24 rfl rfl
theorem dX9_ofRow_0 : decode cX9_ofRow 0 = .ok (.aload_n 0, 1) := dk_42 (dk_at dksX9_ofRow_0 0 rfl rfl)
theorem dX9_ofRow_1 : decode cX9_ofRow 1 = .ok (.iconst 5, 1) := dk_8 (dk_at dksX9_ofRow_0 1 rfl rfl)
theorem dX9_ofRow_2 : decode cX9_ofRow 2 = .ok (.invokevirtual 392, 3) := dk_182 1 136 (dk_at dksX9_ofRow_0 2 rfl rfl)
theorem dX9_ofRow_5 : decode cX9_ofRow 5 = .ok (.istore_n 1, 1) := dk_60 (dk_at dksX9_ofRow_0 5 rfl rfl)
theorem dX9_ofRow_6 : decode cX9_ofRow 6 = .ok (.aload_n 0, 1) := dk_42 (dk_at dksX9_ofRow_0 6 rfl rfl)
theorem dX9_ofRow_7 : decode cX9_ofRow 7 = .ok (.iload_n 1, 1) := dk_27 (dk_at dksX9_ofRow_0 7 rfl rfl)
theorem dX9_ofRow_8 : decode cX9_ofRow 8 = .ok (.iconst 1, 1) := dk_4 (dk_at dksX9_ofRow_0 8 rfl rfl)
theorem dX9_ofRow_9 : decode cX9_ofRow 9 = .ok (.aload_n 0, 1) := dk_42 (dk_at dksX9_ofRow_0 9 rfl rfl)
theorem dX9_ofRow_10 : decode cX9_ofRow 10 = .ok (.invokevirtual 348, 3) := dk_182 1 92 (dk_at dksX9_ofRow_0 10 rfl rfl)
theorem dX9_ofRow_13 : decode cX9_ofRow 13 = .ok (.invokevirtual 376, 3) := dk_182 1 120 (dk_at dksX9_ofRow_0 13 rfl rfl)
theorem dX9_ofRow_16 : decode cX9_ofRow 16 = .ok (.aload_n 0, 1) := dk_42 (dk_at dksX9_ofRow_0 16 rfl rfl)
theorem dX9_ofRow_17 : decode cX9_ofRow 17 = .ok (.getfield 291, 3) := dk_180 1 35 (dk_at dksX9_ofRow_0 17 rfl rfl)
theorem dX9_ofRow_20 : decode cX9_ofRow 20 = .ok (.ifCond .eq 4, 3) := dk_153 0 4 (dk_at dksX9_ofRow_0 20 rfl rfl)
theorem dX9_ofRow_23 : decode cX9_ofRow 23 = .ok (.return_, 1) := dk_177 (dk_at dksX9_ofRow_0 23 rfl rfl)
theorem dX9_ofRow_24 : decode cX9_ofRow 24 = .ok (.aload_n 0, 1) := dk_42 (dk_at dksX9_ofRow_1 0 rfl rfl)
theorem dX9_ofRow_25 : decode cX9_ofRow 25 = .ok (.bipush 91, 2) := dk_16 91 (dk_at dksX9_ofRow_1 1 rfl rfl)
theorem dX9_ofRow_27 : decode cX9_ofRow 27 = .ok (.invokevirtual 304, 3) := dk_182 1 48 (dk_at dksX9_ofRow_1 3 rfl rfl)
theorem dX9_ofRow_30 : decode cX9_ofRow 30 = .ok (.ifCond .eq 56, 3) := dk_153 0 56 (dk_at dksX9_ofRow_1 6 rfl rfl)
theorem dX9_ofRow_33 : decode cX9_ofRow 33 = .ok (.aload_n 0, 1) := dk_42 (dk_at dksX9_ofRow_1 9 rfl rfl)
theorem dX9_ofRow_34 : decode cX9_ofRow 34 = .ok (.iload_n 1, 1) := dk_27 (dk_at dksX9_ofRow_1 10 rfl rfl)
theorem dX9_ofRow_35 : decode cX9_ofRow 35 = .ok (.iconst 0, 1) := dk_3 (dk_at dksX9_ofRow_1 11 rfl rfl)
theorem dX9_ofRow_36 : decode cX9_ofRow 36 = .ok (.bipush 6, 2) := dk_16 6 (dk_at dksX9_ofRow_1 12 rfl rfl)
theorem dX9_ofRow_38 : decode cX9_ofRow 38 = .ok (.invokevirtual 376, 3) := dk_182 1 120 (dk_at dksX9_ofRow_1 14 rfl rfl)
theorem dX9_ofRow_41 : decode cX9_ofRow 41 = .ok (.aload_n 0, 1) := dk_42 (dk_at dksX9_ofRow_1 17 rfl rfl)
theorem dX9_ofRow_42 : decode cX9_ofRow 42 = .ok (.invokevirtual 310, 3) := dk_182 1 54 (dk_at dksX9_ofRow_1 18 rfl rfl)
theorem dX9_ofRow_45 : decode cX9_ofRow 45 = .ok (.aload_n 0, 1) := dk_42 (dk_at dksX9_ofRow_1 21 rfl rfl)
theorem dX9_ofRow_46 : decode cX9_ofRow 46 = .ok (.iload_n 1, 1) := dk_27 (dk_at dksX9_ofRow_1 22 rfl rfl)
theorem dX9_ofRow_47 : decode cX9_ofRow 47 = .ok (.iconst 3, 1) := dk_6 (dk_at dksX9_ofRow_1 23 rfl rfl)
theorem dX9_ofRow_48 : decode cX9_ofRow 48 = .ok (.iconst 4, 1) := dk_7 (dk_at dksX9_ofRow_2 0 rfl rfl)
theorem dX9_ofRow_49 : decode cX9_ofRow 49 = .ok (.invokevirtual 389, 3) := dk_182 1 133 (dk_at dksX9_ofRow_2 1 rfl rfl)
theorem dX9_ofRow_52 : decode cX9_ofRow 52 = .ok (.aload_n 0, 1) := dk_42 (dk_at dksX9_ofRow_2 4 rfl rfl)
theorem dX9_ofRow_53 : decode cX9_ofRow 53 = .ok (.bipush 93, 2) := dk_16 93 (dk_at dksX9_ofRow_2 5 rfl rfl)
theorem dX9_ofRow_55 : decode cX9_ofRow 55 = .ok (.invokevirtual 385, 3) := dk_182 1 129 (dk_at dksX9_ofRow_2 7 rfl rfl)
theorem dX9_ofRow_58 : decode cX9_ofRow 58 = .ok (.aload_n 0, 1) := dk_42 (dk_at dksX9_ofRow_2 10 rfl rfl)
theorem dX9_ofRow_59 : decode cX9_ofRow 59 = .ok (.bipush 61, 2) := dk_16 61 (dk_at dksX9_ofRow_2 11 rfl rfl)
theorem dX9_ofRow_61 : decode cX9_ofRow 61 = .ok (.invokevirtual 385, 3) := dk_182 1 129 (dk_at dksX9_ofRow_2 13 rfl rfl)
theorem dX9_ofRow_64 : decode cX9_ofRow 64 = .ok (.aload_n 0, 1) := dk_42 (dk_at dksX9_ofRow_2 16 rfl rfl)
theorem dX9_ofRow_65 : decode cX9_ofRow 65 = .ok (.getfield 291, 3) := dk_180 1 35 (dk_at dksX9_ofRow_2 17 rfl rfl)
theorem dX9_ofRow_68 : decode cX9_ofRow 68 = .ok (.ifCond .ne 11, 3) := dk_154 0 11 (dk_at dksX9_ofRow_2 20 rfl rfl)
theorem dX9_ofRow_71 : decode cX9_ofRow 71 = .ok (.aload_n 0, 1) := dk_42 (dk_at dksX9_ofRow_2 23 rfl rfl)
theorem dX9_ofRow_72 : decode cX9_ofRow 72 = .ok (.iload_n 1, 1) := dk_27 (dk_at dksX9_ofRow_3 0 rfl rfl)
theorem dX9_ofRow_73 : decode cX9_ofRow 73 = .ok (.iconst 5, 1) := dk_8 (dk_at dksX9_ofRow_3 1 rfl rfl)
theorem dX9_ofRow_74 : decode cX9_ofRow 74 = .ok (.bipush 6, 2) := dk_16 6 (dk_at dksX9_ofRow_3 2 rfl rfl)
theorem dX9_ofRow_76 : decode cX9_ofRow 76 = .ok (.invokevirtual 389, 3) := dk_182 1 133 (dk_at dksX9_ofRow_3 4 rfl rfl)
theorem dX9_ofRow_79 : decode cX9_ofRow 79 = .ok (.aload_n 0, 1) := dk_42 (dk_at dksX9_ofRow_3 7 rfl rfl)
theorem dX9_ofRow_80 : decode cX9_ofRow 80 = .ok (.bipush 59, 2) := dk_16 59 (dk_at dksX9_ofRow_3 8 rfl rfl)
theorem dX9_ofRow_82 : decode cX9_ofRow 82 = .ok (.invokevirtual 385, 3) := dk_182 1 129 (dk_at dksX9_ofRow_3 10 rfl rfl)
theorem dX9_ofRow_85 : decode cX9_ofRow 85 = .ok (.return_, 1) := dk_177 (dk_at dksX9_ofRow_3 13 rfl rfl)
theorem dX9_ofRow_86 : decode cX9_ofRow 86 = .ok (.aload_n 0, 1) := dk_42 (dk_at dksX9_ofRow_3 14 rfl rfl)
theorem dX9_ofRow_87 : decode cX9_ofRow 87 = .ok (.bipush 61, 2) := dk_16 61 (dk_at dksX9_ofRow_3 15 rfl rfl)
theorem dX9_ofRow_89 : decode cX9_ofRow 89 = .ok (.invokevirtual 385, 3) := dk_182 1 129 (dk_at dksX9_ofRow_3 17 rfl rfl)
theorem dX9_ofRow_92 : decode cX9_ofRow 92 = .ok (.aload_n 0, 1) := dk_42 (dk_at dksX9_ofRow_3 20 rfl rfl)
theorem dX9_ofRow_93 : decode cX9_ofRow 93 = .ok (.getfield 291, 3) := dk_180 1 35 (dk_at dksX9_ofRow_3 21 rfl rfl)
theorem dX9_ofRow_96 : decode cX9_ofRow 96 = .ok (.ifCond .ne 32, 3) := dk_154 0 32 (dk_at dksX9_ofRow_4 0 rfl rfl)
theorem dX9_ofRow_99 : decode cX9_ofRow 99 = .ok (.aload_n 0, 1) := dk_42 (dk_at dksX9_ofRow_4 3 rfl rfl)
theorem dX9_ofRow_100 : decode cX9_ofRow 100 = .ok (.iconst 2, 1) := dk_5 (dk_at dksX9_ofRow_4 4 rfl rfl)
theorem dX9_ofRow_101 : decode cX9_ofRow 101 = .ok (.invokevirtual 345, 3) := dk_182 1 89 (dk_at dksX9_ofRow_4 5 rfl rfl)
theorem dX9_ofRow_104 : decode cX9_ofRow 104 = .ok (.ifCond .eq 24, 3) := dk_153 0 24 (dk_at dksX9_ofRow_4 8 rfl rfl)
theorem dX9_ofRow_107 : decode cX9_ofRow 107 = .ok (.aload_n 0, 1) := dk_42 (dk_at dksX9_ofRow_4 11 rfl rfl)
theorem dX9_ofRow_108 : decode cX9_ofRow 108 = .ok (.iload_n 1, 1) := dk_27 (dk_at dksX9_ofRow_4 12 rfl rfl)
theorem dX9_ofRow_109 : decode cX9_ofRow 109 = .ok (.iconst 0, 1) := dk_3 (dk_at dksX9_ofRow_4 13 rfl rfl)
theorem dX9_ofRow_110 : decode cX9_ofRow 110 = .ok (.iconst 3, 1) := dk_6 (dk_at dksX9_ofRow_4 14 rfl rfl)
theorem dX9_ofRow_111 : decode cX9_ofRow 111 = .ok (.invokevirtual 376, 3) := dk_182 1 120 (dk_at dksX9_ofRow_4 15 rfl rfl)
theorem dX9_ofRow_114 : decode cX9_ofRow 114 = .ok (.aload_n 0, 1) := dk_42 (dk_at dksX9_ofRow_4 18 rfl rfl)
theorem dX9_ofRow_115 : decode cX9_ofRow 115 = .ok (.invokevirtual 310, 3) := dk_182 1 54 (dk_at dksX9_ofRow_4 19 rfl rfl)
theorem dX9_ofRow_118 : decode cX9_ofRow 118 = .ok (.aload_n 0, 1) := dk_42 (dk_at dksX9_ofRow_4 22 rfl rfl)
theorem dX9_ofRow_119 : decode cX9_ofRow 119 = .ok (.iload_n 1, 1) := dk_27 (dk_at dksX9_ofRow_4 23 rfl rfl)
theorem dX9_ofRow_120 : decode cX9_ofRow 120 = .ok (.iconst 3, 1) := dk_6 (dk_at dksX9_ofRow_5 0 rfl rfl)
theorem dX9_ofRow_121 : decode cX9_ofRow 121 = .ok (.iconst 4, 1) := dk_7 (dk_at dksX9_ofRow_5 1 rfl rfl)
theorem dX9_ofRow_122 : decode cX9_ofRow 122 = .ok (.invokevirtual 389, 3) := dk_182 1 133 (dk_at dksX9_ofRow_5 2 rfl rfl)
theorem dX9_ofRow_125 : decode cX9_ofRow 125 = .ok (.goto 42, 3) := dk_167 0 42 (dk_at dksX9_ofRow_5 5 rfl rfl)
theorem dX9_ofRow_128 : decode cX9_ofRow 128 = .ok (.aload_n 0, 1) := dk_42 (dk_at dksX9_ofRow_5 8 rfl rfl)
theorem dX9_ofRow_129 : decode cX9_ofRow 129 = .ok (.getfield 291, 3) := dk_180 1 35 (dk_at dksX9_ofRow_5 9 rfl rfl)
theorem dX9_ofRow_132 : decode cX9_ofRow 132 = .ok (.ifCond .ne 25, 3) := dk_154 0 25 (dk_at dksX9_ofRow_5 12 rfl rfl)
theorem dX9_ofRow_135 : decode cX9_ofRow 135 = .ok (.aload_n 0, 1) := dk_42 (dk_at dksX9_ofRow_5 15 rfl rfl)
theorem dX9_ofRow_136 : decode cX9_ofRow 136 = .ok (.iconst 3, 1) := dk_6 (dk_at dksX9_ofRow_5 16 rfl rfl)
theorem dX9_ofRow_137 : decode cX9_ofRow 137 = .ok (.invokevirtual 345, 3) := dk_182 1 89 (dk_at dksX9_ofRow_5 17 rfl rfl)
theorem dX9_ofRow_140 : decode cX9_ofRow 140 = .ok (.ifCond .eq 17, 3) := dk_153 0 17 (dk_at dksX9_ofRow_5 20 rfl rfl)
theorem dX9_ofRow_143 : decode cX9_ofRow 143 = .ok (.aload_n 0, 1) := dk_42 (dk_at dksX9_ofRow_5 23 rfl rfl)
theorem dX9_ofRow_144 : decode cX9_ofRow 144 = .ok (.iload_n 1, 1) := dk_27 (dk_at dksX9_ofRow_6 0 rfl rfl)
theorem dX9_ofRow_145 : decode cX9_ofRow 145 = .ok (.iconst 0, 1) := dk_3 (dk_at dksX9_ofRow_6 1 rfl rfl)
theorem dX9_ofRow_146 : decode cX9_ofRow 146 = .ok (.iconst 4, 1) := dk_7 (dk_at dksX9_ofRow_6 2 rfl rfl)
theorem dX9_ofRow_147 : decode cX9_ofRow 147 = .ok (.invokevirtual 376, 3) := dk_182 1 120 (dk_at dksX9_ofRow_6 3 rfl rfl)
theorem dX9_ofRow_150 : decode cX9_ofRow 150 = .ok (.aload_n 0, 1) := dk_42 (dk_at dksX9_ofRow_6 6 rfl rfl)
theorem dX9_ofRow_151 : decode cX9_ofRow 151 = .ok (.invokevirtual 310, 3) := dk_182 1 54 (dk_at dksX9_ofRow_6 7 rfl rfl)
theorem dX9_ofRow_154 : decode cX9_ofRow 154 = .ok (.goto 13, 3) := dk_167 0 13 (dk_at dksX9_ofRow_6 10 rfl rfl)
theorem dX9_ofRow_157 : decode cX9_ofRow 157 = .ok (.aload_n 0, 1) := dk_42 (dk_at dksX9_ofRow_6 13 rfl rfl)
theorem dX9_ofRow_158 : decode cX9_ofRow 158 = .ok (.iload_n 1, 1) := dk_27 (dk_at dksX9_ofRow_6 14 rfl rfl)
theorem dX9_ofRow_159 : decode cX9_ofRow 159 = .ok (.iconst 2, 1) := dk_5 (dk_at dksX9_ofRow_6 15 rfl rfl)
theorem dX9_ofRow_160 : decode cX9_ofRow 160 = .ok (.aload_n 0, 1) := dk_42 (dk_at dksX9_ofRow_6 16 rfl rfl)
theorem dX9_ofRow_161 : decode cX9_ofRow 161 = .ok (.invokevirtual 348, 3) := dk_182 1 92 (dk_at dksX9_ofRow_6 17 rfl rfl)
theorem dX9_ofRow_164 : decode cX9_ofRow 164 = .ok (.invokevirtual 376, 3) := dk_182 1 120 (dk_at dksX9_ofRow_6 20 rfl rfl)
theorem dX9_ofRow_167 : decode cX9_ofRow 167 = .ok (.aload_n 0, 1) := dk_42 (dk_at dksX9_ofRow_6 23 rfl rfl)
theorem dX9_ofRow_168 : decode cX9_ofRow 168 = .ok (.bipush 59, 2) := dk_16 59 (dk_at dksX9_ofRow_7 0 rfl rfl)
theorem dX9_ofRow_170 : decode cX9_ofRow 170 = .ok (.invokevirtual 385, 3) := dk_182 1 129 (dk_at dksX9_ofRow_7 2 rfl rfl)
theorem dX9_ofRow_173 : decode cX9_ofRow 173 = .ok (.return_, 1) := dk_177 (dk_at dksX9_ofRow_7 5 rfl rfl)
theorem okX9_ofRow_0 : XOkL xms rX9_ofRow bX9_ofRow_0 := xcP (xok_aload_n dX9_ofRow_0 rfl) rfl (xcP (xok_iconst dX9_ofRow_1 rfl) rfl (xcC0 (xokc_list (List.forall_mem_cons.mpr ⟨xokc_V (r := (RX9, TX9, 96)) xm125 (List.mem_of_getElem? (i := 9) rfl) (by decide) rfl dX9_ofRow_2 q2329 q2331 qs75 q149 q2332 (by decide +kernel), fun _ h => nomatch h⟩)) rfl (xcP (xok_istore_n dX9_ofRow_5 rfl) rfl (xcP (xok_aload_n dX9_ofRow_6 rfl) rfl (xcP (xok_iload_n dX9_ofRow_7 rfl) rfl (xcP (xok_iconst dX9_ofRow_8 rfl) rfl (xcP (xok_aload_n dX9_ofRow_9 rfl) rfl (xcC0 (xokc_list (List.forall_mem_cons.mpr ⟨xokc_V (r := (RX9, TX9, 96)) xm135 (List.mem_of_getElem? (i := 9) rfl) (by decide) rfl dX9_ofRow_10 q2369 q2371 qs85 q149 q2372 (by decide +kernel), fun _ h => nomatch h⟩)) rfl (xcC0 (xokc_list (List.forall_mem_cons.mpr ⟨xokc_V (r := (RX9, TX9, 96)) xm120 (List.mem_of_getElem? (i := 9) rfl) (by decide) rfl dX9_ofRow_13 q2309 q2311 qs70 q149 q2312 (by decide +kernel), fun _ h => nomatch h⟩)) rfl (xcP (xok_aload_n dX9_ofRow_16 rfl) rfl (xcP (xok_getfield (ref := "WaysAtlasModel") (Or.inl ⟨rfl, by decide⟩) dX9_ofRow_17 (Or.inl ⟨q1955, (Or.inl rfl)⟩) xh49) rfl (xcP (xok_ifeq dX9_ofRow_20 (by decide)) rfl (xcR ⟨dX9_ofRow_23, rfl⟩)))))))))))))
theorem okX9_ofRow_24 : XOkL xms rX9_ofRow bX9_ofRow_24 := xcP (xok_aload_n dX9_ofRow_24 rfl) rfl (xcP (xok_bipush dX9_ofRow_25 rfl) rfl (xcC0 (xokc_list (List.forall_mem_cons.mpr ⟨xokc_V (r := (RX9, TX9, 96)) xm117 (List.mem_of_getElem? (i := 9) rfl) (by decide) rfl dX9_ofRow_27 q2297 q2299 qs67 q149 q2300 (by decide +kernel), fun _ h => nomatch h⟩)) rfl (xcP (xok_ifeq dX9_ofRow_30 (by decide)) rfl (xcP (xok_aload_n dX9_ofRow_33 rfl) rfl (xcP (xok_iload_n dX9_ofRow_34 rfl) rfl (xcP (xok_iconst dX9_ofRow_35 rfl) rfl (xcP (xok_bipush dX9_ofRow_36 rfl) rfl (xcC0 (xokc_list (List.forall_mem_cons.mpr ⟨xokc_V (r := (RX9, TX9, 96)) xm120 (List.mem_of_getElem? (i := 9) rfl) (by decide) rfl dX9_ofRow_38 q2309 q2311 qs70 q149 q2312 (by decide +kernel), fun _ h => nomatch h⟩)) rfl (xcP (xok_aload_n dX9_ofRow_41 rfl) rfl (xcC0 (xokc_list (List.forall_mem_cons.mpr ⟨xokc_V (r := (RX9, TX9, 96)) xm102 (List.mem_of_getElem? (i := 9) rfl) (by decide) rfl dX9_ofRow_42 q2235 q2237 qs53 q149 q2238 (by decide +kernel), fun _ h => nomatch h⟩)) rfl (xcP (xok_aload_n dX9_ofRow_45 rfl) rfl (xcP (xok_iload_n dX9_ofRow_46 rfl) rfl (xcP (xok_iconst dX9_ofRow_47 rfl) rfl (xcP (xok_iconst dX9_ofRow_48 rfl) rfl (xcC0 (xokc_list (List.forall_mem_cons.mpr ⟨xokc_V (r := (RX9, TX9, 96)) xm128 (List.mem_of_getElem? (i := 9) rfl) (by decide) rfl dX9_ofRow_49 q2341 q2343 qs78 q149 q2344 (by decide +kernel), fun _ h => nomatch h⟩)) rfl (xcP (xok_aload_n dX9_ofRow_52 rfl) rfl (xcP (xok_bipush dX9_ofRow_53 rfl) rfl (xcC0 (xokc_list (List.forall_mem_cons.mpr ⟨xokc_V (r := (RX9, TX9, 96)) xm116 (List.mem_of_getElem? (i := 9) rfl) (by decide) rfl dX9_ofRow_55 q2293 q2295 qs66 q149 q2296 (by decide +kernel), fun _ h => nomatch h⟩)) rfl (xcP (xok_aload_n dX9_ofRow_58 rfl) rfl (xcP (xok_bipush dX9_ofRow_59 rfl) rfl (xcC0 (xokc_list (List.forall_mem_cons.mpr ⟨xokc_V (r := (RX9, TX9, 96)) xm116 (List.mem_of_getElem? (i := 9) rfl) (by decide) rfl dX9_ofRow_61 q2293 q2295 qs66 q149 q2296 (by decide +kernel), fun _ h => nomatch h⟩)) rfl (xcP (xok_aload_n dX9_ofRow_64 rfl) rfl (xcP (xok_getfield (ref := "WaysAtlasModel") (Or.inl ⟨rfl, by decide⟩) dX9_ofRow_65 (Or.inl ⟨q1955, (Or.inl rfl)⟩) xh49) rfl (xcP (xok_ifne dX9_ofRow_68 (by decide)) rfl (xcP (xok_aload_n dX9_ofRow_71 rfl) rfl (xcP (xok_iload_n dX9_ofRow_72 rfl) rfl (xcP (xok_iconst dX9_ofRow_73 rfl) rfl (xcP (xok_bipush dX9_ofRow_74 rfl) rfl (xcC0 (xokc_list (List.forall_mem_cons.mpr ⟨xokc_V (r := (RX9, TX9, 96)) xm128 (List.mem_of_getElem? (i := 9) rfl) (by decide) rfl dX9_ofRow_76 q2341 q2343 qs78 q149 q2344 (by decide +kernel), fun _ h => nomatch h⟩)) rfl (xcP xok_fal rfl trivial))))))))))))))))))))))))))))))
theorem okX9_ofRow_79 : XOkL xms rX9_ofRow bX9_ofRow_79 := xcP (xok_aload_n dX9_ofRow_79 rfl) rfl (xcP (xok_bipush dX9_ofRow_80 rfl) rfl (xcC0 (xokc_list (List.forall_mem_cons.mpr ⟨xokc_V (r := (RX9, TX9, 96)) xm116 (List.mem_of_getElem? (i := 9) rfl) (by decide) rfl dX9_ofRow_82 q2293 q2295 qs66 q149 q2296 (by decide +kernel), fun _ h => nomatch h⟩)) rfl (xcR ⟨dX9_ofRow_85, rfl⟩)))
theorem okX9_ofRow_86 : XOkL xms rX9_ofRow bX9_ofRow_86 := xcP (xok_aload_n dX9_ofRow_86 rfl) rfl (xcP (xok_bipush dX9_ofRow_87 rfl) rfl (xcC0 (xokc_list (List.forall_mem_cons.mpr ⟨xokc_V (r := (RX9, TX9, 96)) xm116 (List.mem_of_getElem? (i := 9) rfl) (by decide) rfl dX9_ofRow_89 q2293 q2295 qs66 q149 q2296 (by decide +kernel), fun _ h => nomatch h⟩)) rfl (xcP (xok_aload_n dX9_ofRow_92 rfl) rfl (xcP (xok_getfield (ref := "WaysAtlasModel") (Or.inl ⟨rfl, by decide⟩) dX9_ofRow_93 (Or.inl ⟨q1955, (Or.inl rfl)⟩) xh49) rfl (xcP (xok_ifne dX9_ofRow_96 (by decide)) rfl (xcP (xok_aload_n dX9_ofRow_99 rfl) rfl (xcP (xok_iconst dX9_ofRow_100 rfl) rfl (xcC0 (xokc_list (List.forall_mem_cons.mpr ⟨xokc_V (r := (RX9, TX9, 96)) xm110 (List.mem_of_getElem? (i := 9) rfl) (by decide) rfl dX9_ofRow_101 q2269 q2271 qs60 q149 q2272 (by decide +kernel), fun _ h => nomatch h⟩)) rfl (xcP (xok_ifeq dX9_ofRow_104 (by decide)) rfl (xcP (xok_aload_n dX9_ofRow_107 rfl) rfl (xcP (xok_iload_n dX9_ofRow_108 rfl) rfl (xcP (xok_iconst dX9_ofRow_109 rfl) rfl (xcP (xok_iconst dX9_ofRow_110 rfl) rfl (xcC0 (xokc_list (List.forall_mem_cons.mpr ⟨xokc_V (r := (RX9, TX9, 96)) xm120 (List.mem_of_getElem? (i := 9) rfl) (by decide) rfl dX9_ofRow_111 q2309 q2311 qs70 q149 q2312 (by decide +kernel), fun _ h => nomatch h⟩)) rfl (xcP (xok_aload_n dX9_ofRow_114 rfl) rfl (xcC0 (xokc_list (List.forall_mem_cons.mpr ⟨xokc_V (r := (RX9, TX9, 96)) xm102 (List.mem_of_getElem? (i := 9) rfl) (by decide) rfl dX9_ofRow_115 q2235 q2237 qs53 q149 q2238 (by decide +kernel), fun _ h => nomatch h⟩)) rfl (xcP (xok_aload_n dX9_ofRow_118 rfl) rfl (xcP (xok_iload_n dX9_ofRow_119 rfl) rfl (xcP (xok_iconst dX9_ofRow_120 rfl) rfl (xcP (xok_iconst dX9_ofRow_121 rfl) rfl (xcC0 (xokc_list (List.forall_mem_cons.mpr ⟨xokc_V (r := (RX9, TX9, 96)) xm128 (List.mem_of_getElem? (i := 9) rfl) (by decide) rfl dX9_ofRow_122 q2341 q2343 qs78 q149 q2344 (by decide +kernel), fun _ h => nomatch h⟩)) rfl (xcP (xok_goto dX9_ofRow_125 (by decide)) rfl trivial))))))))))))))))))))))
theorem okX9_ofRow_128 : XOkL xms rX9_ofRow bX9_ofRow_128 := xcP (xok_aload_n dX9_ofRow_128 rfl) rfl (xcP (xok_getfield (ref := "WaysAtlasModel") (Or.inl ⟨rfl, by decide⟩) dX9_ofRow_129 (Or.inl ⟨q1955, (Or.inl rfl)⟩) xh49) rfl (xcP (xok_ifne dX9_ofRow_132 (by decide)) rfl (xcP (xok_aload_n dX9_ofRow_135 rfl) rfl (xcP (xok_iconst dX9_ofRow_136 rfl) rfl (xcC0 (xokc_list (List.forall_mem_cons.mpr ⟨xokc_V (r := (RX9, TX9, 96)) xm110 (List.mem_of_getElem? (i := 9) rfl) (by decide) rfl dX9_ofRow_137 q2269 q2271 qs60 q149 q2272 (by decide +kernel), fun _ h => nomatch h⟩)) rfl (xcP (xok_ifeq dX9_ofRow_140 (by decide)) rfl (xcP (xok_aload_n dX9_ofRow_143 rfl) rfl (xcP (xok_iload_n dX9_ofRow_144 rfl) rfl (xcP (xok_iconst dX9_ofRow_145 rfl) rfl (xcP (xok_iconst dX9_ofRow_146 rfl) rfl (xcC0 (xokc_list (List.forall_mem_cons.mpr ⟨xokc_V (r := (RX9, TX9, 96)) xm120 (List.mem_of_getElem? (i := 9) rfl) (by decide) rfl dX9_ofRow_147 q2309 q2311 qs70 q149 q2312 (by decide +kernel), fun _ h => nomatch h⟩)) rfl (xcP (xok_aload_n dX9_ofRow_150 rfl) rfl (xcC0 (xokc_list (List.forall_mem_cons.mpr ⟨xokc_V (r := (RX9, TX9, 96)) xm102 (List.mem_of_getElem? (i := 9) rfl) (by decide) rfl dX9_ofRow_151 q2235 q2237 qs53 q149 q2238 (by decide +kernel), fun _ h => nomatch h⟩)) rfl (xcP (xok_goto dX9_ofRow_154 (by decide)) rfl trivial))))))))))))))
theorem okX9_ofRow_157 : XOkL xms rX9_ofRow bX9_ofRow_157 := xcP (xok_aload_n dX9_ofRow_157 rfl) rfl (xcP (xok_iload_n dX9_ofRow_158 rfl) rfl (xcP (xok_iconst dX9_ofRow_159 rfl) rfl (xcP (xok_aload_n dX9_ofRow_160 rfl) rfl (xcC0 (xokc_list (List.forall_mem_cons.mpr ⟨xokc_V (r := (RX9, TX9, 96)) xm135 (List.mem_of_getElem? (i := 9) rfl) (by decide) rfl dX9_ofRow_161 q2369 q2371 qs85 q149 q2372 (by decide +kernel), fun _ h => nomatch h⟩)) rfl (xcC0 (xokc_list (List.forall_mem_cons.mpr ⟨xokc_V (r := (RX9, TX9, 96)) xm120 (List.mem_of_getElem? (i := 9) rfl) (by decide) rfl dX9_ofRow_164 q2309 q2311 qs70 q149 q2312 (by decide +kernel), fun _ h => nomatch h⟩)) rfl (xcP xok_fal rfl trivial))))))
theorem okX9_ofRow_167 : XOkL xms rX9_ofRow bX9_ofRow_167 := xcP (xok_aload_n dX9_ofRow_167 rfl) rfl (xcP (xok_bipush dX9_ofRow_168 rfl) rfl (xcC0 (xokc_list (List.forall_mem_cons.mpr ⟨xokc_V (r := (RX9, TX9, 96)) xm116 (List.mem_of_getElem? (i := 9) rfl) (by decide) rfl dX9_ofRow_170 q2293 q2295 qs66 q149 q2296 (by decide +kernel), fun _ h => nomatch h⟩)) rfl (xcR ⟨dX9_ofRow_173, rfl⟩)))
theorem okM_X9_ofRow : XOkM xms rX9_ofRow := xokM0 (List.forall_mem_cons.mpr ⟨⟨rfl, okX9_ofRow_0⟩, List.forall_mem_cons.mpr ⟨⟨rfl, okX9_ofRow_24⟩, List.forall_mem_cons.mpr ⟨⟨rfl, okX9_ofRow_79⟩, List.forall_mem_cons.mpr ⟨⟨rfl, okX9_ofRow_86⟩, List.forall_mem_cons.mpr ⟨⟨rfl, okX9_ofRow_128⟩, List.forall_mem_cons.mpr ⟨⟨rfl, okX9_ofRow_157⟩, List.forall_mem_cons.mpr ⟨⟨rfl, okX9_ofRow_167⟩, fun _ h => nomatch h⟩⟩⟩⟩⟩⟩⟩) (xokH0 rfl (fun _ _ => rfl)) (by decide +kernel) (by decide)
abbrev cX9_ofIf : ByteArray := prog_36_method_43_code
def dkwX9_ofIf_4 : List UInt8 := [182, 1, 133, 42, 27, 16, 7, 42, 4, 27, 182, 1, 145, 182, 1, 120, 177]
abbrev dktX9_ofIf_4 : List UInt8 := dkwX9_ofIf_4 ++ []
def dkwX9_ofIf_3 : List UInt8 := [154, 0, 7, 42, 182, 1, 51, 42, 180, 1, 35, 154, 0, 15, 42, 182, 1, 54, 42, 27, 8, 16, 6]
abbrev dktX9_ofIf_3 : List UInt8 := dkwX9_ofIf_3 ++ dktX9_ofIf_4
def dkwX9_ofIf_2 : List UInt8 := [167, 0, 4, 3, 61, 42, 27, 4, 42, 180, 1, 16, 182, 1, 120, 42, 180, 1, 35, 154, 0, 11, 28]
abbrev dktX9_ofIf_2 : List UInt8 := dkwX9_ofIf_2 ++ dktX9_ofIf_3
def dkwX9_ofIf_1 : List UInt8 := [154, 0, 21, 42, 16, 60, 182, 1, 48, 154, 0, 12, 42, 16, 62, 182, 1, 48, 153, 0, 7, 4]
abbrev dktX9_ofIf_1 : List UInt8 := dkwX9_ofIf_1 ++ dktX9_ofIf_2
def dkwX9_ofIf_0 : List UInt8 := [42, 16, 9, 182, 1, 136, 60, 42, 182, 1, 54, 42, 27, 6, 7, 182, 1, 133, 42, 16, 61, 182, 1, 48]
abbrev dktX9_ofIf_0 : List UInt8 := dkwX9_ofIf_0 ++ dktX9_ofIf_1
theorem dksX9_ofIf_0 : cX9_ofIf.data.toList.drop 0 = dktX9_ofIf_0 := by decide +kernel
theorem dksX9_ofIf_1 : cX9_ofIf.data.toList.drop 24 = dktX9_ofIf_1 := dk_seg dksX9_ofIf_0 24 rfl rfl
theorem dksX9_ofIf_2 : cX9_ofIf.data.toList.drop 46 = dktX9_ofIf_2 := dk_seg dksX9_ofIf_1 22 rfl rfl
theorem dksX9_ofIf_3 : cX9_ofIf.data.toList.drop 69 = dktX9_ofIf_3 := dk_seg dksX9_ofIf_2 23 rfl rfl
theorem dksX9_ofIf_4 : cX9_ofIf.data.toList.drop 92 = dktX9_ofIf_4 := dk_seg dksX9_ofIf_3 23 rfl rfl
theorem dX9_ofIf_0 : decode cX9_ofIf 0 = .ok (.aload_n 0, 1) := dk_42 (dk_at dksX9_ofIf_0 0 rfl rfl)
theorem dX9_ofIf_1 : decode cX9_ofIf 1 = .ok (.bipush 9, 2) := dk_16 9 (dk_at dksX9_ofIf_0 1 rfl rfl)
theorem dX9_ofIf_3 : decode cX9_ofIf 3 = .ok (.invokevirtual 392, 3) := dk_182 1 136 (dk_at dksX9_ofIf_0 3 rfl rfl)
theorem dX9_ofIf_6 : decode cX9_ofIf 6 = .ok (.istore_n 1, 1) := dk_60 (dk_at dksX9_ofIf_0 6 rfl rfl)
theorem dX9_ofIf_7 : decode cX9_ofIf 7 = .ok (.aload_n 0, 1) := dk_42 (dk_at dksX9_ofIf_0 7 rfl rfl)
theorem dX9_ofIf_8 : decode cX9_ofIf 8 = .ok (.invokevirtual 310, 3) := dk_182 1 54 (dk_at dksX9_ofIf_0 8 rfl rfl)
theorem dX9_ofIf_11 : decode cX9_ofIf 11 = .ok (.aload_n 0, 1) := dk_42 (dk_at dksX9_ofIf_0 11 rfl rfl)
theorem dX9_ofIf_12 : decode cX9_ofIf 12 = .ok (.iload_n 1, 1) := dk_27 (dk_at dksX9_ofIf_0 12 rfl rfl)
theorem dX9_ofIf_13 : decode cX9_ofIf 13 = .ok (.iconst 3, 1) := dk_6 (dk_at dksX9_ofIf_0 13 rfl rfl)
theorem dX9_ofIf_14 : decode cX9_ofIf 14 = .ok (.iconst 4, 1) := dk_7 (dk_at dksX9_ofIf_0 14 rfl rfl)
theorem dX9_ofIf_15 : decode cX9_ofIf 15 = .ok (.invokevirtual 389, 3) := dk_182 1 133 (dk_at dksX9_ofIf_0 15 rfl rfl)
theorem dX9_ofIf_18 : decode cX9_ofIf 18 = .ok (.aload_n 0, 1) := dk_42 (dk_at dksX9_ofIf_0 18 rfl rfl)
theorem dX9_ofIf_19 : decode cX9_ofIf 19 = .ok (.bipush 61, 2) := dk_16 61 (dk_at dksX9_ofIf_0 19 rfl rfl)
theorem dX9_ofIf_21 : decode cX9_ofIf 21 = .ok (.invokevirtual 304, 3) := dk_182 1 48 (dk_at dksX9_ofIf_0 21 rfl rfl)
theorem dX9_ofIf_24 : decode cX9_ofIf 24 = .ok (.ifCond .ne 21, 3) := dk_154 0 21 (dk_at dksX9_ofIf_1 0 rfl rfl)
theorem dX9_ofIf_27 : decode cX9_ofIf 27 = .ok (.aload_n 0, 1) := dk_42 (dk_at dksX9_ofIf_1 3 rfl rfl)
theorem dX9_ofIf_28 : decode cX9_ofIf 28 = .ok (.bipush 60, 2) := dk_16 60 (dk_at dksX9_ofIf_1 4 rfl rfl)
theorem dX9_ofIf_30 : decode cX9_ofIf 30 = .ok (.invokevirtual 304, 3) := dk_182 1 48 (dk_at dksX9_ofIf_1 6 rfl rfl)
theorem dX9_ofIf_33 : decode cX9_ofIf 33 = .ok (.ifCond .ne 12, 3) := dk_154 0 12 (dk_at dksX9_ofIf_1 9 rfl rfl)
theorem dX9_ofIf_36 : decode cX9_ofIf 36 = .ok (.aload_n 0, 1) := dk_42 (dk_at dksX9_ofIf_1 12 rfl rfl)
theorem dX9_ofIf_37 : decode cX9_ofIf 37 = .ok (.bipush 62, 2) := dk_16 62 (dk_at dksX9_ofIf_1 13 rfl rfl)
theorem dX9_ofIf_39 : decode cX9_ofIf 39 = .ok (.invokevirtual 304, 3) := dk_182 1 48 (dk_at dksX9_ofIf_1 15 rfl rfl)
theorem dX9_ofIf_42 : decode cX9_ofIf 42 = .ok (.ifCond .eq 7, 3) := dk_153 0 7 (dk_at dksX9_ofIf_1 18 rfl rfl)
theorem dX9_ofIf_45 : decode cX9_ofIf 45 = .ok (.iconst 1, 1) := dk_4 (dk_at dksX9_ofIf_1 21 rfl rfl)
theorem dX9_ofIf_46 : decode cX9_ofIf 46 = .ok (.goto 4, 3) := dk_167 0 4 (dk_at dksX9_ofIf_2 0 rfl rfl)
theorem dX9_ofIf_49 : decode cX9_ofIf 49 = .ok (.iconst 0, 1) := dk_3 (dk_at dksX9_ofIf_2 3 rfl rfl)
theorem dX9_ofIf_50 : decode cX9_ofIf 50 = .ok (.istore_n 2, 1) := dk_61 (dk_at dksX9_ofIf_2 4 rfl rfl)
theorem dX9_ofIf_51 : decode cX9_ofIf 51 = .ok (.aload_n 0, 1) := dk_42 (dk_at dksX9_ofIf_2 5 rfl rfl)
theorem dX9_ofIf_52 : decode cX9_ofIf 52 = .ok (.iload_n 1, 1) := dk_27 (dk_at dksX9_ofIf_2 6 rfl rfl)
theorem dX9_ofIf_53 : decode cX9_ofIf 53 = .ok (.iconst 1, 1) := dk_4 (dk_at dksX9_ofIf_2 7 rfl rfl)
theorem dX9_ofIf_54 : decode cX9_ofIf 54 = .ok (.aload_n 0, 1) := dk_42 (dk_at dksX9_ofIf_2 8 rfl rfl)
theorem dX9_ofIf_55 : decode cX9_ofIf 55 = .ok (.getfield 272, 3) := dk_180 1 16 (dk_at dksX9_ofIf_2 9 rfl rfl)
theorem dX9_ofIf_58 : decode cX9_ofIf 58 = .ok (.invokevirtual 376, 3) := dk_182 1 120 (dk_at dksX9_ofIf_2 12 rfl rfl)
theorem dX9_ofIf_61 : decode cX9_ofIf 61 = .ok (.aload_n 0, 1) := dk_42 (dk_at dksX9_ofIf_2 15 rfl rfl)
theorem dX9_ofIf_62 : decode cX9_ofIf 62 = .ok (.getfield 291, 3) := dk_180 1 35 (dk_at dksX9_ofIf_2 16 rfl rfl)
theorem dX9_ofIf_65 : decode cX9_ofIf 65 = .ok (.ifCond .ne 11, 3) := dk_154 0 11 (dk_at dksX9_ofIf_2 19 rfl rfl)
theorem dX9_ofIf_68 : decode cX9_ofIf 68 = .ok (.iload_n 2, 1) := dk_28 (dk_at dksX9_ofIf_2 22 rfl rfl)
theorem dX9_ofIf_69 : decode cX9_ofIf 69 = .ok (.ifCond .ne 7, 3) := dk_154 0 7 (dk_at dksX9_ofIf_3 0 rfl rfl)
theorem dX9_ofIf_72 : decode cX9_ofIf 72 = .ok (.aload_n 0, 1) := dk_42 (dk_at dksX9_ofIf_3 3 rfl rfl)
theorem dX9_ofIf_73 : decode cX9_ofIf 73 = .ok (.invokevirtual 307, 3) := dk_182 1 51 (dk_at dksX9_ofIf_3 4 rfl rfl)
theorem dX9_ofIf_76 : decode cX9_ofIf 76 = .ok (.aload_n 0, 1) := dk_42 (dk_at dksX9_ofIf_3 7 rfl rfl)
theorem dX9_ofIf_77 : decode cX9_ofIf 77 = .ok (.getfield 291, 3) := dk_180 1 35 (dk_at dksX9_ofIf_3 8 rfl rfl)
theorem dX9_ofIf_80 : decode cX9_ofIf 80 = .ok (.ifCond .ne 15, 3) := dk_154 0 15 (dk_at dksX9_ofIf_3 11 rfl rfl)
theorem dX9_ofIf_83 : decode cX9_ofIf 83 = .ok (.aload_n 0, 1) := dk_42 (dk_at dksX9_ofIf_3 14 rfl rfl)
theorem dX9_ofIf_84 : decode cX9_ofIf 84 = .ok (.invokevirtual 310, 3) := dk_182 1 54 (dk_at dksX9_ofIf_3 15 rfl rfl)
theorem dX9_ofIf_87 : decode cX9_ofIf 87 = .ok (.aload_n 0, 1) := dk_42 (dk_at dksX9_ofIf_3 18 rfl rfl)
theorem dX9_ofIf_88 : decode cX9_ofIf 88 = .ok (.iload_n 1, 1) := dk_27 (dk_at dksX9_ofIf_3 19 rfl rfl)
theorem dX9_ofIf_89 : decode cX9_ofIf 89 = .ok (.iconst 5, 1) := dk_8 (dk_at dksX9_ofIf_3 20 rfl rfl)
theorem dX9_ofIf_90 : decode cX9_ofIf 90 = .ok (.bipush 6, 2) := dk_16 6 (dk_at dksX9_ofIf_3 21 rfl rfl)
theorem dX9_ofIf_92 : decode cX9_ofIf 92 = .ok (.invokevirtual 389, 3) := dk_182 1 133 (dk_at dksX9_ofIf_4 0 rfl rfl)
theorem dX9_ofIf_95 : decode cX9_ofIf 95 = .ok (.aload_n 0, 1) := dk_42 (dk_at dksX9_ofIf_4 3 rfl rfl)
theorem dX9_ofIf_96 : decode cX9_ofIf 96 = .ok (.iload_n 1, 1) := dk_27 (dk_at dksX9_ofIf_4 4 rfl rfl)
theorem dX9_ofIf_97 : decode cX9_ofIf 97 = .ok (.bipush 7, 2) := dk_16 7 (dk_at dksX9_ofIf_4 5 rfl rfl)
theorem dX9_ofIf_99 : decode cX9_ofIf 99 = .ok (.aload_n 0, 1) := dk_42 (dk_at dksX9_ofIf_4 7 rfl rfl)
theorem dX9_ofIf_100 : decode cX9_ofIf 100 = .ok (.iconst 1, 1) := dk_4 (dk_at dksX9_ofIf_4 8 rfl rfl)
theorem dX9_ofIf_101 : decode cX9_ofIf 101 = .ok (.iload_n 1, 1) := dk_27 (dk_at dksX9_ofIf_4 9 rfl rfl)
theorem dX9_ofIf_102 : decode cX9_ofIf 102 = .ok (.invokevirtual 401, 3) := dk_182 1 145 (dk_at dksX9_ofIf_4 10 rfl rfl)
theorem dX9_ofIf_105 : decode cX9_ofIf 105 = .ok (.invokevirtual 376, 3) := dk_182 1 120 (dk_at dksX9_ofIf_4 13 rfl rfl)
theorem dX9_ofIf_108 : decode cX9_ofIf 108 = .ok (.return_, 1) := dk_177 (dk_at dksX9_ofIf_4 16 rfl rfl)
theorem okX9_ofIf_0 : XOkL xms rX9_ofIf bX9_ofIf_0 := xcP (xok_aload_n dX9_ofIf_0 rfl) rfl (xcP (xok_bipush dX9_ofIf_1 rfl) rfl (xcC0 (xokc_list (List.forall_mem_cons.mpr ⟨xokc_V (r := (RX9, TX9, 96)) xm125 (List.mem_of_getElem? (i := 9) rfl) (by decide) rfl dX9_ofIf_3 q2329 q2331 qs75 q149 q2332 (by decide +kernel), fun _ h => nomatch h⟩)) rfl (xcP (xok_istore_n dX9_ofIf_6 rfl) rfl (xcP (xok_aload_n dX9_ofIf_7 rfl) rfl (xcC0 (xokc_list (List.forall_mem_cons.mpr ⟨xokc_V (r := (RX9, TX9, 96)) xm102 (List.mem_of_getElem? (i := 9) rfl) (by decide) rfl dX9_ofIf_8 q2235 q2237 qs53 q149 q2238 (by decide +kernel), fun _ h => nomatch h⟩)) rfl (xcP (xok_aload_n dX9_ofIf_11 rfl) rfl (xcP (xok_iload_n dX9_ofIf_12 rfl) rfl (xcP (xok_iconst dX9_ofIf_13 rfl) rfl (xcP (xok_iconst dX9_ofIf_14 rfl) rfl (xcC0 (xokc_list (List.forall_mem_cons.mpr ⟨xokc_V (r := (RX9, TX9, 96)) xm128 (List.mem_of_getElem? (i := 9) rfl) (by decide) rfl dX9_ofIf_15 q2341 q2343 qs78 q149 q2344 (by decide +kernel), fun _ h => nomatch h⟩)) rfl (xcP (xok_aload_n dX9_ofIf_18 rfl) rfl (xcP (xok_bipush dX9_ofIf_19 rfl) rfl (xcC0 (xokc_list (List.forall_mem_cons.mpr ⟨xokc_V (r := (RX9, TX9, 96)) xm117 (List.mem_of_getElem? (i := 9) rfl) (by decide) rfl dX9_ofIf_21 q2297 q2299 qs67 q149 q2300 (by decide +kernel), fun _ h => nomatch h⟩)) rfl (xcP (xok_ifne dX9_ofIf_24 (by decide)) rfl (xcP (xok_aload_n dX9_ofIf_27 rfl) rfl (xcP (xok_bipush dX9_ofIf_28 rfl) rfl (xcC0 (xokc_list (List.forall_mem_cons.mpr ⟨xokc_V (r := (RX9, TX9, 96)) xm117 (List.mem_of_getElem? (i := 9) rfl) (by decide) rfl dX9_ofIf_30 q2297 q2299 qs67 q149 q2300 (by decide +kernel), fun _ h => nomatch h⟩)) rfl (xcP (xok_ifne dX9_ofIf_33 (by decide)) rfl (xcP (xok_aload_n dX9_ofIf_36 rfl) rfl (xcP (xok_bipush dX9_ofIf_37 rfl) rfl (xcC0 (xokc_list (List.forall_mem_cons.mpr ⟨xokc_V (r := (RX9, TX9, 96)) xm117 (List.mem_of_getElem? (i := 9) rfl) (by decide) rfl dX9_ofIf_39 q2297 q2299 qs67 q149 q2300 (by decide +kernel), fun _ h => nomatch h⟩)) rfl (xcP (xok_ifeq dX9_ofIf_42 (by decide)) rfl (xcP xok_fal rfl trivial)))))))))))))))))))))))
theorem okX9_ofIf_45 : XOkL xms rX9_ofIf bX9_ofIf_45 := xcP (xok_iconst dX9_ofIf_45 rfl) rfl (xcP (xok_goto dX9_ofIf_46 (by decide)) rfl trivial)
theorem okX9_ofIf_49 : XOkL xms rX9_ofIf bX9_ofIf_49 := xcP (xok_iconst dX9_ofIf_49 rfl) rfl (xcP xok_fal rfl trivial)
theorem okX9_ofIf_50 : XOkL xms rX9_ofIf bX9_ofIf_50 := xcP (xok_istore_n dX9_ofIf_50 rfl) rfl (xcP (xok_aload_n dX9_ofIf_51 rfl) rfl (xcP (xok_iload_n dX9_ofIf_52 rfl) rfl (xcP (xok_iconst dX9_ofIf_53 rfl) rfl (xcP (xok_aload_n dX9_ofIf_54 rfl) rfl (xcP (xok_getfield (ref := "WaysAtlasModel") (Or.inl ⟨rfl, by decide⟩) dX9_ofIf_55 (Or.inl ⟨q1935, (Or.inl rfl)⟩) xh42) rfl (xcC0 (xokc_list (List.forall_mem_cons.mpr ⟨xokc_V (r := (RX9, TX9, 96)) xm120 (List.mem_of_getElem? (i := 9) rfl) (by decide) rfl dX9_ofIf_58 q2309 q2311 qs70 q149 q2312 (by decide +kernel), fun _ h => nomatch h⟩)) rfl (xcP (xok_aload_n dX9_ofIf_61 rfl) rfl (xcP (xok_getfield (ref := "WaysAtlasModel") (Or.inl ⟨rfl, by decide⟩) dX9_ofIf_62 (Or.inl ⟨q1955, (Or.inl rfl)⟩) xh49) rfl (xcP (xok_ifne dX9_ofIf_65 (by decide)) rfl (xcP (xok_iload_n dX9_ofIf_68 rfl) rfl (xcP (xok_ifne dX9_ofIf_69 (by decide)) rfl (xcP (xok_aload_n dX9_ofIf_72 rfl) rfl (xcC0 (xokc_list (List.forall_mem_cons.mpr ⟨xokc_V (r := (RX9, TX9, 96)) xm112 (List.mem_of_getElem? (i := 9) rfl) (by decide) rfl dX9_ofIf_73 q2277 q2279 qs62 q149 q2280 (by decide +kernel), fun _ h => nomatch h⟩)) rfl (xcP xok_fal rfl trivial))))))))))))))
theorem okX9_ofIf_76 : XOkL xms rX9_ofIf bX9_ofIf_76 := xcP (xok_aload_n dX9_ofIf_76 rfl) rfl (xcP (xok_getfield (ref := "WaysAtlasModel") (Or.inl ⟨rfl, by decide⟩) dX9_ofIf_77 (Or.inl ⟨q1955, (Or.inl rfl)⟩) xh49) rfl (xcP (xok_ifne dX9_ofIf_80 (by decide)) rfl (xcP (xok_aload_n dX9_ofIf_83 rfl) rfl (xcC0 (xokc_list (List.forall_mem_cons.mpr ⟨xokc_V (r := (RX9, TX9, 96)) xm102 (List.mem_of_getElem? (i := 9) rfl) (by decide) rfl dX9_ofIf_84 q2235 q2237 qs53 q149 q2238 (by decide +kernel), fun _ h => nomatch h⟩)) rfl (xcP (xok_aload_n dX9_ofIf_87 rfl) rfl (xcP (xok_iload_n dX9_ofIf_88 rfl) rfl (xcP (xok_iconst dX9_ofIf_89 rfl) rfl (xcP (xok_bipush dX9_ofIf_90 rfl) rfl (xcC0 (xokc_list (List.forall_mem_cons.mpr ⟨xokc_V (r := (RX9, TX9, 96)) xm128 (List.mem_of_getElem? (i := 9) rfl) (by decide) rfl dX9_ofIf_92 q2341 q2343 qs78 q149 q2344 (by decide +kernel), fun _ h => nomatch h⟩)) rfl (xcP xok_fal rfl trivial))))))))))
theorem okX9_ofIf_95 : XOkL xms rX9_ofIf bX9_ofIf_95 := xcP (xok_aload_n dX9_ofIf_95 rfl) rfl (xcP (xok_iload_n dX9_ofIf_96 rfl) rfl (xcP (xok_bipush dX9_ofIf_97 rfl) rfl (xcP (xok_aload_n dX9_ofIf_99 rfl) rfl (xcP (xok_iconst dX9_ofIf_100 rfl) rfl (xcP (xok_iload_n dX9_ofIf_101 rfl) rfl (xcC0 (xokc_list (List.forall_mem_cons.mpr ⟨xokc_V (r := (RX9, TX9, 96)) xm118 (List.mem_of_getElem? (i := 9) rfl) (by decide) rfl dX9_ofIf_102 q2301 q2303 qs68 q149 q2304 (by decide +kernel), fun _ h => nomatch h⟩)) rfl (xcC0 (xokc_list (List.forall_mem_cons.mpr ⟨xokc_V (r := (RX9, TX9, 96)) xm120 (List.mem_of_getElem? (i := 9) rfl) (by decide) rfl dX9_ofIf_105 q2309 q2311 qs70 q149 q2312 (by decide +kernel), fun _ h => nomatch h⟩)) rfl (xcR ⟨dX9_ofIf_108, rfl⟩))))))))
theorem okM_X9_ofIf : XOkM xms rX9_ofIf := xokM0 (List.forall_mem_cons.mpr ⟨⟨rfl, okX9_ofIf_0⟩, List.forall_mem_cons.mpr ⟨⟨rfl, okX9_ofIf_45⟩, List.forall_mem_cons.mpr ⟨⟨rfl, okX9_ofIf_49⟩, List.forall_mem_cons.mpr ⟨⟨rfl, okX9_ofIf_50⟩, List.forall_mem_cons.mpr ⟨⟨rfl, okX9_ofIf_76⟩, List.forall_mem_cons.mpr ⟨⟨rfl, okX9_ofIf_95⟩, fun _ h => nomatch h⟩⟩⟩⟩⟩⟩) (xokH0 rfl (fun _ _ => rfl)) (by decide +kernel) (by decide)
abbrev cX9_loopNumber : ByteArray := prog_36_method_42_code
def dkwX9_loopNumber_2 : List UInt8 := [182, 1, 129, 177]
abbrev dktX9_loopNumber_2 : List UInt8 := dkwX9_loopNumber_2 ++ []
def dkwX9_loopNumber_1 : List UInt8 := [29, 4, 42, 6, 182, 1, 142, 184, 0, 239, 154, 0, 10, 42, 7, 28, 3, 182, 1, 60, 42, 16, 59]
abbrev dktX9_loopNumber_1 : List UInt8 := dkwX9_loopNumber_1 ++ dktX9_loopNumber_2
def dkwX9_loopNumber_0 : List UInt8 := [42, 180, 1, 23, 61, 42, 182, 1, 86, 62, 42, 27, 4, 29, 182, 1, 120, 42, 180, 1, 35, 154, 0, 23]
abbrev dktX9_loopNumber_0 : List UInt8 := dkwX9_loopNumber_0 ++ dktX9_loopNumber_1
theorem dksX9_loopNumber_0 : cX9_loopNumber.data.toList.drop 0 = dktX9_loopNumber_0 := by decide +kernel
theorem dksX9_loopNumber_1 : cX9_loopNumber.data.toList.drop 24 = dktX9_loopNumber_1 := dk_seg dksX9_loopNumber_0 24 rfl rfl
theorem dksX9_loopNumber_2 : cX9_loopNumber.data.toList.drop 47 = dktX9_loopNumber_2 := dk_seg dksX9_loopNumber_1 23 rfl rfl
theorem dX9_loopNumber_0 : decode cX9_loopNumber 0 = .ok (.aload_n 0, 1) := dk_42 (dk_at dksX9_loopNumber_0 0 rfl rfl)
theorem dX9_loopNumber_1 : decode cX9_loopNumber 1 = .ok (.getfield 279, 3) := dk_180 1 23 (dk_at dksX9_loopNumber_0 1 rfl rfl)
theorem dX9_loopNumber_4 : decode cX9_loopNumber 4 = .ok (.istore_n 2, 1) := dk_61 (dk_at dksX9_loopNumber_0 4 rfl rfl)
theorem dX9_loopNumber_5 : decode cX9_loopNumber 5 = .ok (.aload_n 0, 1) := dk_42 (dk_at dksX9_loopNumber_0 5 rfl rfl)
theorem dX9_loopNumber_6 : decode cX9_loopNumber 6 = .ok (.invokevirtual 342, 3) := dk_182 1 86 (dk_at dksX9_loopNumber_0 6 rfl rfl)
theorem dX9_loopNumber_9 : decode cX9_loopNumber 9 = .ok (.istore_n 3, 1) := dk_62 (dk_at dksX9_loopNumber_0 9 rfl rfl)
theorem dX9_loopNumber_10 : decode cX9_loopNumber 10 = .ok (.aload_n 0, 1) := dk_42 (dk_at dksX9_loopNumber_0 10 rfl rfl)
theorem dX9_loopNumber_11 : decode cX9_loopNumber 11 = .ok (.iload_n 1, 1) := dk_27 (dk_at dksX9_loopNumber_0 11 rfl rfl)
theorem dX9_loopNumber_12 : decode cX9_loopNumber 12 = .ok (.iconst 1, 1) := dk_4 (dk_at dksX9_loopNumber_0 12 rfl rfl)
theorem dX9_loopNumber_13 : decode cX9_loopNumber 13 = .ok (.iload_n 3, 1) := dk_29 (dk_at dksX9_loopNumber_0 13 rfl rfl)
theorem dX9_loopNumber_14 : decode cX9_loopNumber 14 = .ok (.invokevirtual 376, 3) := dk_182 1 120 (dk_at dksX9_loopNumber_0 14 rfl rfl)
theorem dX9_loopNumber_17 : decode cX9_loopNumber 17 = .ok (.aload_n 0, 1) := dk_42 (dk_at dksX9_loopNumber_0 17 rfl rfl)
theorem dX9_loopNumber_18 : decode cX9_loopNumber 18 = .ok (.getfield 291, 3) := dk_180 1 35 (dk_at dksX9_loopNumber_0 18 rfl rfl)
theorem dX9_loopNumber_21 : decode cX9_loopNumber 21 = .ok (.ifCond .ne 23, 3) := dk_154 0 23 (dk_at dksX9_loopNumber_0 21 rfl rfl)
theorem dX9_loopNumber_24 : decode cX9_loopNumber 24 = .ok (.iload_n 3, 1) := dk_29 (dk_at dksX9_loopNumber_1 0 rfl rfl)
theorem dX9_loopNumber_25 : decode cX9_loopNumber 25 = .ok (.iconst 1, 1) := dk_4 (dk_at dksX9_loopNumber_1 1 rfl rfl)
theorem dX9_loopNumber_26 : decode cX9_loopNumber 26 = .ok (.aload_n 0, 1) := dk_42 (dk_at dksX9_loopNumber_1 2 rfl rfl)
theorem dX9_loopNumber_27 : decode cX9_loopNumber 27 = .ok (.iconst 3, 1) := dk_6 (dk_at dksX9_loopNumber_1 3 rfl rfl)
theorem dX9_loopNumber_28 : decode cX9_loopNumber 28 = .ok (.invokevirtual 398, 3) := dk_182 1 142 (dk_at dksX9_loopNumber_1 4 rfl rfl)
theorem dX9_loopNumber_31 : decode cX9_loopNumber 31 = .ok (.invokestatic 239, 3) := dk_184 0 239 (dk_at dksX9_loopNumber_1 7 rfl rfl)
theorem dX9_loopNumber_34 : decode cX9_loopNumber 34 = .ok (.ifCond .ne 10, 3) := dk_154 0 10 (dk_at dksX9_loopNumber_1 10 rfl rfl)
theorem dX9_loopNumber_37 : decode cX9_loopNumber 37 = .ok (.aload_n 0, 1) := dk_42 (dk_at dksX9_loopNumber_1 13 rfl rfl)
theorem dX9_loopNumber_38 : decode cX9_loopNumber 38 = .ok (.iconst 4, 1) := dk_7 (dk_at dksX9_loopNumber_1 14 rfl rfl)
theorem dX9_loopNumber_39 : decode cX9_loopNumber 39 = .ok (.iload_n 2, 1) := dk_28 (dk_at dksX9_loopNumber_1 15 rfl rfl)
theorem dX9_loopNumber_40 : decode cX9_loopNumber 40 = .ok (.iconst 0, 1) := dk_3 (dk_at dksX9_loopNumber_1 16 rfl rfl)
theorem dX9_loopNumber_41 : decode cX9_loopNumber 41 = .ok (.invokevirtual 316, 3) := dk_182 1 60 (dk_at dksX9_loopNumber_1 17 rfl rfl)
theorem dX9_loopNumber_44 : decode cX9_loopNumber 44 = .ok (.aload_n 0, 1) := dk_42 (dk_at dksX9_loopNumber_1 20 rfl rfl)
theorem dX9_loopNumber_45 : decode cX9_loopNumber 45 = .ok (.bipush 59, 2) := dk_16 59 (dk_at dksX9_loopNumber_1 21 rfl rfl)
theorem dX9_loopNumber_47 : decode cX9_loopNumber 47 = .ok (.invokevirtual 385, 3) := dk_182 1 129 (dk_at dksX9_loopNumber_2 0 rfl rfl)
theorem dX9_loopNumber_50 : decode cX9_loopNumber 50 = .ok (.return_, 1) := dk_177 (dk_at dksX9_loopNumber_2 3 rfl rfl)
theorem okX9_loopNumber_0 : XOkL xms rX9_loopNumber bX9_loopNumber_0 := xcP (xok_aload_n dX9_loopNumber_0 rfl) rfl (xcP (xok_getfield (ref := "WaysAtlasModel") (Or.inl ⟨rfl, by decide⟩) dX9_loopNumber_1 (Or.inl ⟨q1934, (Or.inl rfl)⟩) xh41) rfl (xcP (xok_istore_n dX9_loopNumber_4 rfl) rfl (xcP (xok_aload_n dX9_loopNumber_5 rfl) rfl (xcC0 (xokc_list (List.forall_mem_cons.mpr ⟨xokc_V (r := (RX9, TX9, 96)) xm133 (List.mem_of_getElem? (i := 9) rfl) (by decide) rfl dX9_loopNumber_6 q2361 q2363 qs83 q149 q2364 (by decide +kernel), fun _ h => nomatch h⟩)) rfl (xcP (xok_istore_n dX9_loopNumber_9 rfl) rfl (xcP (xok_aload_n dX9_loopNumber_10 rfl) rfl (xcP (xok_iload_n dX9_loopNumber_11 rfl) rfl (xcP (xok_iconst dX9_loopNumber_12 rfl) rfl (xcP (xok_iload_n dX9_loopNumber_13 rfl) rfl (xcC0 (xokc_list (List.forall_mem_cons.mpr ⟨xokc_V (r := (RX9, TX9, 96)) xm120 (List.mem_of_getElem? (i := 9) rfl) (by decide) rfl dX9_loopNumber_14 q2309 q2311 qs70 q149 q2312 (by decide +kernel), fun _ h => nomatch h⟩)) rfl (xcP (xok_aload_n dX9_loopNumber_17 rfl) rfl (xcP (xok_getfield (ref := "WaysAtlasModel") (Or.inl ⟨rfl, by decide⟩) dX9_loopNumber_18 (Or.inl ⟨q1955, (Or.inl rfl)⟩) xh49) rfl (xcP (xok_ifne dX9_loopNumber_21 (by decide)) rfl (xcP (xok_iload_n dX9_loopNumber_24 rfl) rfl (xcP (xok_iconst dX9_loopNumber_25 rfl) rfl (xcP (xok_aload_n dX9_loopNumber_26 rfl) rfl (xcP (xok_iconst dX9_loopNumber_27 rfl) rfl (xcC0 (xokc_list (List.forall_mem_cons.mpr ⟨xokc_V (r := (RX9, TX9, 96)) xm144 (List.mem_of_getElem? (i := 9) rfl) (by decide) rfl dX9_loopNumber_28 q2405 q2407 qs94 q149 q2408 (by decide +kernel), fun _ h => nomatch h⟩)) rfl (xcC0 (xokc_S xm99 rfl dX9_loopNumber_31 q2224 q2225 q149 q2226 (by decide +kernel)) rfl (xcP (xok_ifne dX9_loopNumber_34 (by decide)) rfl (xcP (xok_aload_n dX9_loopNumber_37 rfl) rfl (xcP (xok_iconst dX9_loopNumber_38 rfl) rfl (xcP (xok_iload_n dX9_loopNumber_39 rfl) rfl (xcP (xok_iconst dX9_loopNumber_40 rfl) rfl (xcC0 (xokc_list (List.forall_mem_cons.mpr ⟨xokc_V (r := (RX9, TX9, 96)) xm115 (List.mem_of_getElem? (i := 9) rfl) (by decide) rfl dX9_loopNumber_41 q2289 q2291 qs65 q149 q2292 (by decide +kernel), fun _ h => nomatch h⟩)) rfl (xcP xok_fal rfl trivial))))))))))))))))))))))))))
theorem okX9_loopNumber_44 : XOkL xms rX9_loopNumber bX9_loopNumber_44 := xcP (xok_aload_n dX9_loopNumber_44 rfl) rfl (xcP (xok_bipush dX9_loopNumber_45 rfl) rfl (xcC0 (xokc_list (List.forall_mem_cons.mpr ⟨xokc_V (r := (RX9, TX9, 96)) xm116 (List.mem_of_getElem? (i := 9) rfl) (by decide) rfl dX9_loopNumber_47 q2293 q2295 qs66 q149 q2296 (by decide +kernel), fun _ h => nomatch h⟩)) rfl (xcR ⟨dX9_loopNumber_50, rfl⟩)))
theorem okM_X9_loopNumber : XOkM xms rX9_loopNumber := xokM0 (List.forall_mem_cons.mpr ⟨⟨rfl, okX9_loopNumber_0⟩, List.forall_mem_cons.mpr ⟨⟨rfl, okX9_loopNumber_44⟩, fun _ h => nomatch h⟩⟩) (xokH0 rfl (fun _ _ => rfl)) (by decide +kernel) (by decide)
abbrev cX9_around : ByteArray := prog_36_method_36_code
def dkwX9_around_1 : List UInt8 := [167, 0, 4, 3, 96, 61, 132, 3, 1, 167, 255, 227, 28, 172]
abbrev dktX9_around_1 : List UInt8 := dkwX9_around_1 ++ []
def dkwX9_around_0 : List UInt8 := [3, 61, 3, 62, 29, 42, 180, 1, 114, 162, 0, 27, 28, 42, 180, 0, 114, 29, 46, 27, 160, 0, 7, 4]
abbrev dktX9_around_0 : List UInt8 := dkwX9_around_0 ++ dktX9_around_1
theorem dksX9_around_0 : cX9_around.data.toList.drop 0 = dktX9_around_0 := by decide +kernel
theorem dksX9_around_1 : cX9_around.data.toList.drop 24 = dktX9_around_1 := dk_seg dksX9_around_0 24 rfl rfl
theorem dX9_around_0 : decode cX9_around 0 = .ok (.iconst 0, 1) := dk_3 (dk_at dksX9_around_0 0 rfl rfl)
theorem dX9_around_1 : decode cX9_around 1 = .ok (.istore_n 2, 1) := dk_61 (dk_at dksX9_around_0 1 rfl rfl)
theorem dX9_around_2 : decode cX9_around 2 = .ok (.iconst 0, 1) := dk_3 (dk_at dksX9_around_0 2 rfl rfl)
theorem dX9_around_3 : decode cX9_around 3 = .ok (.istore_n 3, 1) := dk_62 (dk_at dksX9_around_0 3 rfl rfl)
theorem dX9_around_4 : decode cX9_around 4 = .ok (.iload_n 3, 1) := dk_29 (dk_at dksX9_around_0 4 rfl rfl)
theorem dX9_around_5 : decode cX9_around 5 = .ok (.aload_n 0, 1) := dk_42 (dk_at dksX9_around_0 5 rfl rfl)
theorem dX9_around_6 : decode cX9_around 6 = .ok (.getfield 370, 3) := dk_180 1 114 (dk_at dksX9_around_0 6 rfl rfl)
theorem dX9_around_9 : decode cX9_around 9 = .ok (.if_icmp .ge 27, 3) := dk_162 0 27 (dk_at dksX9_around_0 9 rfl rfl)
theorem dX9_around_12 : decode cX9_around 12 = .ok (.iload_n 2, 1) := dk_28 (dk_at dksX9_around_0 12 rfl rfl)
theorem dX9_around_13 : decode cX9_around 13 = .ok (.aload_n 0, 1) := dk_42 (dk_at dksX9_around_0 13 rfl rfl)
theorem dX9_around_14 : decode cX9_around 14 = .ok (.getfield 114, 3) := dk_180 0 114 (dk_at dksX9_around_0 14 rfl rfl)
theorem dX9_around_17 : decode cX9_around 17 = .ok (.iload_n 3, 1) := dk_29 (dk_at dksX9_around_0 17 rfl rfl)
theorem dX9_around_18 : decode cX9_around 18 = .ok (.iaload, 1) := dk_46 (dk_at dksX9_around_0 18 rfl rfl)
theorem dX9_around_19 : decode cX9_around 19 = .ok (.iload_n 1, 1) := dk_27 (dk_at dksX9_around_0 19 rfl rfl)
theorem dX9_around_20 : decode cX9_around 20 = .ok (.if_icmp .ne 7, 3) := dk_160 0 7 (dk_at dksX9_around_0 20 rfl rfl)
theorem dX9_around_23 : decode cX9_around 23 = .ok (.iconst 1, 1) := dk_4 (dk_at dksX9_around_0 23 rfl rfl)
theorem dX9_around_24 : decode cX9_around 24 = .ok (.goto 4, 3) := dk_167 0 4 (dk_at dksX9_around_1 0 rfl rfl)
theorem dX9_around_27 : decode cX9_around 27 = .ok (.iconst 0, 1) := dk_3 (dk_at dksX9_around_1 3 rfl rfl)
theorem dX9_around_28 : decode cX9_around 28 = .ok (.iadd, 1) := dk_96 (dk_at dksX9_around_1 4 rfl rfl)
theorem dX9_around_29 : decode cX9_around 29 = .ok (.istore_n 2, 1) := dk_61 (dk_at dksX9_around_1 5 rfl rfl)
theorem dX9_around_30 : decode cX9_around 30 = .ok (.iinc 3 1, 3) := dk_132 3 1 (dk_at dksX9_around_1 6 rfl rfl)
theorem dX9_around_33 : decode cX9_around 33 = .ok (.goto (-29), 3) := dk_167 255 227 (dk_at dksX9_around_1 9 rfl rfl)
theorem dX9_around_36 : decode cX9_around 36 = .ok (.iload_n 2, 1) := dk_28 (dk_at dksX9_around_1 12 rfl rfl)
theorem dX9_around_37 : decode cX9_around 37 = .ok (.ireturn, 1) := dk_172 (dk_at dksX9_around_1 13 rfl rfl)
theorem okX9_around_0 : XOkL xms rX9_around bX9_around_0 := xcP (xok_iconst dX9_around_0 rfl) rfl (xcP (xok_istore_n dX9_around_1 rfl) rfl (xcP (xok_iconst dX9_around_2 rfl) rfl (xcP (xok_istore_n dX9_around_3 rfl) rfl (xcP xok_fal rfl trivial))))
theorem okX9_around_4 : XOkL xms rX9_around bX9_around_4 := xcP (xok_iload_n dX9_around_4 rfl) rfl (xcP (xok_aload_n dX9_around_5 rfl) rfl (xcP (xok_getfield (ref := "WaysAtlasModel") (Or.inl ⟨rfl, by decide⟩) dX9_around_6 (Or.inl ⟨q1967, (Or.inl rfl)⟩) xh56) rfl (xcP (xok_icmpge dX9_around_9 (by decide)) rfl (xcP (xok_iload_n dX9_around_12 rfl) rfl (xcP (xok_aload_n dX9_around_13 rfl) rfl (xcP (xok_getfield (ref := "WaysAtlasModel") (Or.inr ⟨rfl, by decide⟩) dX9_around_14 (Or.inl ⟨q1968, (Or.inl rfl)⟩) xh1077) rfl (xcP (xok_iload_n dX9_around_17 rfl) rfl (xcP (xok_iaload dX9_around_18) rfl (xcP (xok_iload_n dX9_around_19 rfl) rfl (xcP (xok_icmpne dX9_around_20 (by decide)) rfl (xcP (xok_iconst dX9_around_23 rfl) rfl (xcP (xok_goto dX9_around_24 (by decide)) rfl trivial))))))))))))
theorem okX9_around_27 : XOkL xms rX9_around bX9_around_27 := xcP (xok_iconst dX9_around_27 rfl) rfl (xcP xok_fal rfl trivial)
theorem okX9_around_28 : XOkL xms rX9_around bX9_around_28 := xcP (xok_iadd dX9_around_28) rfl (xcP (xok_istore_n dX9_around_29 rfl) rfl (xcP (xok_iinc dX9_around_30 rfl) rfl (xcP (xok_goto dX9_around_33 (by decide)) rfl trivial)))
theorem okX9_around_36 : XOkL xms rX9_around bX9_around_36 := xcP (xok_iload_n dX9_around_36 rfl) rfl (xcR ⟨dX9_around_37, rfl⟩)
theorem okM_X9_around : XOkM xms rX9_around := xokM0 (List.forall_mem_cons.mpr ⟨⟨rfl, okX9_around_0⟩, List.forall_mem_cons.mpr ⟨⟨rfl, okX9_around_4⟩, List.forall_mem_cons.mpr ⟨⟨rfl, okX9_around_27⟩, List.forall_mem_cons.mpr ⟨⟨rfl, okX9_around_28⟩, List.forall_mem_cons.mpr ⟨⟨rfl, okX9_around_36⟩, fun _ h => nomatch h⟩⟩⟩⟩⟩) (xokH0 rfl (fun _ _ => rfl)) (by decide +kernel) (by decide)
abbrev cX9_again : ByteArray := prog_36_method_45_code
def dkwX9_again_2 : List UInt8 := [42, 16, 59, 182, 1, 129, 177]
abbrev dktX9_again_2 : List UInt8 := dkwX9_again_2 ++ []
def dkwX9_again_1 : List UInt8 := [182, 1, 60, 42, 182, 1, 54, 27, 16, 14, 160, 0, 14, 42, 29, 4, 42, 4, 182, 1, 149, 182, 1, 120]
abbrev dktX9_again_1 : List UInt8 := dkwX9_again_1 ++ dktX9_again_2
def dkwX9_again_0 : List UInt8 := [42, 180, 1, 23, 61, 42, 27, 182, 1, 136, 62, 42, 16, 6, 182, 1, 142, 154, 0, 10, 42, 7, 28, 3]
abbrev dktX9_again_0 : List UInt8 := dkwX9_again_0 ++ dktX9_again_1
theorem dksX9_again_0 : cX9_again.data.toList.drop 0 = dktX9_again_0 := by decide +kernel
theorem dksX9_again_1 : cX9_again.data.toList.drop 24 = dktX9_again_1 := dk_seg dksX9_again_0 24 rfl rfl
theorem dksX9_again_2 : cX9_again.data.toList.drop 48 = dktX9_again_2 := dk_seg dksX9_again_1 24 rfl rfl
theorem dX9_again_0 : decode cX9_again 0 = .ok (.aload_n 0, 1) := dk_42 (dk_at dksX9_again_0 0 rfl rfl)
theorem dX9_again_1 : decode cX9_again 1 = .ok (.getfield 279, 3) := dk_180 1 23 (dk_at dksX9_again_0 1 rfl rfl)
theorem dX9_again_4 : decode cX9_again 4 = .ok (.istore_n 2, 1) := dk_61 (dk_at dksX9_again_0 4 rfl rfl)
theorem dX9_again_5 : decode cX9_again 5 = .ok (.aload_n 0, 1) := dk_42 (dk_at dksX9_again_0 5 rfl rfl)
theorem dX9_again_6 : decode cX9_again 6 = .ok (.iload_n 1, 1) := dk_27 (dk_at dksX9_again_0 6 rfl rfl)
theorem dX9_again_7 : decode cX9_again 7 = .ok (.invokevirtual 392, 3) := dk_182 1 136 (dk_at dksX9_again_0 7 rfl rfl)
theorem dX9_again_10 : decode cX9_again 10 = .ok (.istore_n 3, 1) := dk_62 (dk_at dksX9_again_0 10 rfl rfl)
theorem dX9_again_11 : decode cX9_again 11 = .ok (.aload_n 0, 1) := dk_42 (dk_at dksX9_again_0 11 rfl rfl)
theorem dX9_again_12 : decode cX9_again 12 = .ok (.bipush 6, 2) := dk_16 6 (dk_at dksX9_again_0 12 rfl rfl)
theorem dX9_again_14 : decode cX9_again 14 = .ok (.invokevirtual 398, 3) := dk_182 1 142 (dk_at dksX9_again_0 14 rfl rfl)
theorem dX9_again_17 : decode cX9_again 17 = .ok (.ifCond .ne 10, 3) := dk_154 0 10 (dk_at dksX9_again_0 17 rfl rfl)
theorem dX9_again_20 : decode cX9_again 20 = .ok (.aload_n 0, 1) := dk_42 (dk_at dksX9_again_0 20 rfl rfl)
theorem dX9_again_21 : decode cX9_again 21 = .ok (.iconst 4, 1) := dk_7 (dk_at dksX9_again_0 21 rfl rfl)
theorem dX9_again_22 : decode cX9_again 22 = .ok (.iload_n 2, 1) := dk_28 (dk_at dksX9_again_0 22 rfl rfl)
theorem dX9_again_23 : decode cX9_again 23 = .ok (.iconst 0, 1) := dk_3 (dk_at dksX9_again_0 23 rfl rfl)
theorem dX9_again_24 : decode cX9_again 24 = .ok (.invokevirtual 316, 3) := dk_182 1 60 (dk_at dksX9_again_1 0 rfl rfl)
theorem dX9_again_27 : decode cX9_again 27 = .ok (.aload_n 0, 1) := dk_42 (dk_at dksX9_again_1 3 rfl rfl)
theorem dX9_again_28 : decode cX9_again 28 = .ok (.invokevirtual 310, 3) := dk_182 1 54 (dk_at dksX9_again_1 4 rfl rfl)
theorem dX9_again_31 : decode cX9_again 31 = .ok (.iload_n 1, 1) := dk_27 (dk_at dksX9_again_1 7 rfl rfl)
theorem dX9_again_32 : decode cX9_again 32 = .ok (.bipush 14, 2) := dk_16 14 (dk_at dksX9_again_1 8 rfl rfl)
theorem dX9_again_34 : decode cX9_again 34 = .ok (.if_icmp .ne 14, 3) := dk_160 0 14 (dk_at dksX9_again_1 10 rfl rfl)
theorem dX9_again_37 : decode cX9_again 37 = .ok (.aload_n 0, 1) := dk_42 (dk_at dksX9_again_1 13 rfl rfl)
theorem dX9_again_38 : decode cX9_again 38 = .ok (.iload_n 3, 1) := dk_29 (dk_at dksX9_again_1 14 rfl rfl)
theorem dX9_again_39 : decode cX9_again 39 = .ok (.iconst 1, 1) := dk_4 (dk_at dksX9_again_1 15 rfl rfl)
theorem dX9_again_40 : decode cX9_again 40 = .ok (.aload_n 0, 1) := dk_42 (dk_at dksX9_again_1 16 rfl rfl)
theorem dX9_again_41 : decode cX9_again 41 = .ok (.iconst 1, 1) := dk_4 (dk_at dksX9_again_1 17 rfl rfl)
theorem dX9_again_42 : decode cX9_again 42 = .ok (.invokevirtual 405, 3) := dk_182 1 149 (dk_at dksX9_again_1 18 rfl rfl)
theorem dX9_again_45 : decode cX9_again 45 = .ok (.invokevirtual 376, 3) := dk_182 1 120 (dk_at dksX9_again_1 21 rfl rfl)
theorem dX9_again_48 : decode cX9_again 48 = .ok (.aload_n 0, 1) := dk_42 (dk_at dksX9_again_2 0 rfl rfl)
theorem dX9_again_49 : decode cX9_again 49 = .ok (.bipush 59, 2) := dk_16 59 (dk_at dksX9_again_2 1 rfl rfl)
theorem dX9_again_51 : decode cX9_again 51 = .ok (.invokevirtual 385, 3) := dk_182 1 129 (dk_at dksX9_again_2 3 rfl rfl)
theorem dX9_again_54 : decode cX9_again 54 = .ok (.return_, 1) := dk_177 (dk_at dksX9_again_2 6 rfl rfl)
theorem okX9_again_0 : XOkL xms rX9_again bX9_again_0 := xcP (xok_aload_n dX9_again_0 rfl) rfl (xcP (xok_getfield (ref := "WaysAtlasModel") (Or.inl ⟨rfl, by decide⟩) dX9_again_1 (Or.inl ⟨q1934, (Or.inl rfl)⟩) xh41) rfl (xcP (xok_istore_n dX9_again_4 rfl) rfl (xcP (xok_aload_n dX9_again_5 rfl) rfl (xcP (xok_iload_n dX9_again_6 rfl) rfl (xcC0 (xokc_list (List.forall_mem_cons.mpr ⟨xokc_V (r := (RX9, TX9, 96)) xm125 (List.mem_of_getElem? (i := 9) rfl) (by decide) rfl dX9_again_7 q2329 q2331 qs75 q149 q2332 (by decide +kernel), fun _ h => nomatch h⟩)) rfl (xcP (xok_istore_n dX9_again_10 rfl) rfl (xcP (xok_aload_n dX9_again_11 rfl) rfl (xcP (xok_bipush dX9_again_12 rfl) rfl (xcC0 (xokc_list (List.forall_mem_cons.mpr ⟨xokc_V (r := (RX9, TX9, 96)) xm144 (List.mem_of_getElem? (i := 9) rfl) (by decide) rfl dX9_again_14 q2405 q2407 qs94 q149 q2408 (by decide +kernel), fun _ h => nomatch h⟩)) rfl (xcP (xok_ifne dX9_again_17 (by decide)) rfl (xcP (xok_aload_n dX9_again_20 rfl) rfl (xcP (xok_iconst dX9_again_21 rfl) rfl (xcP (xok_iload_n dX9_again_22 rfl) rfl (xcP (xok_iconst dX9_again_23 rfl) rfl (xcC0 (xokc_list (List.forall_mem_cons.mpr ⟨xokc_V (r := (RX9, TX9, 96)) xm115 (List.mem_of_getElem? (i := 9) rfl) (by decide) rfl dX9_again_24 q2289 q2291 qs65 q149 q2292 (by decide +kernel), fun _ h => nomatch h⟩)) rfl (xcP xok_fal rfl trivial))))))))))))))))
theorem okX9_again_27 : XOkL xms rX9_again bX9_again_27 := xcP (xok_aload_n dX9_again_27 rfl) rfl (xcC0 (xokc_list (List.forall_mem_cons.mpr ⟨xokc_V (r := (RX9, TX9, 96)) xm102 (List.mem_of_getElem? (i := 9) rfl) (by decide) rfl dX9_again_28 q2235 q2237 qs53 q149 q2238 (by decide +kernel), fun _ h => nomatch h⟩)) rfl (xcP (xok_iload_n dX9_again_31 rfl) rfl (xcP (xok_bipush dX9_again_32 rfl) rfl (xcP (xok_icmpne dX9_again_34 (by decide)) rfl (xcP (xok_aload_n dX9_again_37 rfl) rfl (xcP (xok_iload_n dX9_again_38 rfl) rfl (xcP (xok_iconst dX9_again_39 rfl) rfl (xcP (xok_aload_n dX9_again_40 rfl) rfl (xcP (xok_iconst dX9_again_41 rfl) rfl (xcC0 (xokc_list (List.forall_mem_cons.mpr ⟨xokc_V (r := (RX9, TX9, 96)) xm113 (List.mem_of_getElem? (i := 9) rfl) (by decide) rfl dX9_again_42 q2281 q2283 qs63 q149 q2284 (by decide +kernel), fun _ h => nomatch h⟩)) rfl (xcC0 (xokc_list (List.forall_mem_cons.mpr ⟨xokc_V (r := (RX9, TX9, 96)) xm120 (List.mem_of_getElem? (i := 9) rfl) (by decide) rfl dX9_again_45 q2309 q2311 qs70 q149 q2312 (by decide +kernel), fun _ h => nomatch h⟩)) rfl (xcP xok_fal rfl trivial))))))))))))
theorem okX9_again_48 : XOkL xms rX9_again bX9_again_48 := xcP (xok_aload_n dX9_again_48 rfl) rfl (xcP (xok_bipush dX9_again_49 rfl) rfl (xcC0 (xokc_list (List.forall_mem_cons.mpr ⟨xokc_V (r := (RX9, TX9, 96)) xm116 (List.mem_of_getElem? (i := 9) rfl) (by decide) rfl dX9_again_51 q2293 q2295 qs66 q149 q2296 (by decide +kernel), fun _ h => nomatch h⟩)) rfl (xcR ⟨dX9_again_54, rfl⟩)))
theorem okM_X9_again : XOkM xms rX9_again := xokM0 (List.forall_mem_cons.mpr ⟨⟨rfl, okX9_again_0⟩, List.forall_mem_cons.mpr ⟨⟨rfl, okX9_again_27⟩, List.forall_mem_cons.mpr ⟨⟨rfl, okX9_again_48⟩, fun _ h => nomatch h⟩⟩⟩) (xokH0 rfl (fun _ _ => rfl)) (by decide +kernel) (by decide)
abbrev cX9_ofWith : ByteArray := prog_36_method_44_code
def dkwX9_ofWith_3 : List UInt8 := [182, 1, 145, 182, 1, 120, 177]
abbrev dktX9_ofWith_3 : List UInt8 := dkwX9_ofWith_3 ++ []
def dkwX9_ofWith_2 : List UInt8 := [154, 0, 9, 42, 5, 28, 182, 1, 41, 42, 27, 4, 21, 4, 182, 1, 120, 42, 27, 16, 7, 42, 8, 27]
abbrev dktX9_ofWith_2 : List UInt8 := dkwX9_ofWith_2 ++ dktX9_ofWith_3
def dkwX9_ofWith_1 : List UInt8 := [4, 167, 0, 4, 3, 62, 42, 182, 1, 86, 54, 4, 29, 153, 0, 19, 21, 4, 4, 6, 184, 0, 239]
abbrev dktX9_ofWith_1 : List UInt8 := dkwX9_ofWith_1 ++ dktX9_ofWith_2
def dkwX9_ofWith_0 : List UInt8 := [42, 16, 17, 182, 1, 136, 60, 42, 182, 1, 54, 42, 180, 1, 23, 61, 42, 180, 1, 13, 7, 160, 0, 7]
abbrev dktX9_ofWith_0 : List UInt8 := dkwX9_ofWith_0 ++ dktX9_ofWith_1
theorem dksX9_ofWith_0 : cX9_ofWith.data.toList.drop 0 = dktX9_ofWith_0 := by decide +kernel
theorem dksX9_ofWith_1 : cX9_ofWith.data.toList.drop 24 = dktX9_ofWith_1 := dk_seg dksX9_ofWith_0 24 rfl rfl
theorem dksX9_ofWith_2 : cX9_ofWith.data.toList.drop 47 = dktX9_ofWith_2 := dk_seg dksX9_ofWith_1 23 rfl rfl
theorem dksX9_ofWith_3 : cX9_ofWith.data.toList.drop 71 = dktX9_ofWith_3 := dk_seg dksX9_ofWith_2 24 rfl rfl
theorem dX9_ofWith_0 : decode cX9_ofWith 0 = .ok (.aload_n 0, 1) := dk_42 (dk_at dksX9_ofWith_0 0 rfl rfl)
theorem dX9_ofWith_1 : decode cX9_ofWith 1 = .ok (.bipush 17, 2) := dk_16 17 (dk_at dksX9_ofWith_0 1 rfl rfl)
theorem dX9_ofWith_3 : decode cX9_ofWith 3 = .ok (.invokevirtual 392, 3) := dk_182 1 136 (dk_at dksX9_ofWith_0 3 rfl rfl)
theorem dX9_ofWith_6 : decode cX9_ofWith 6 = .ok (.istore_n 1, 1) := dk_60 (dk_at dksX9_ofWith_0 6 rfl rfl)
theorem dX9_ofWith_7 : decode cX9_ofWith 7 = .ok (.aload_n 0, 1) := dk_42 (dk_at dksX9_ofWith_0 7 rfl rfl)
theorem dX9_ofWith_8 : decode cX9_ofWith 8 = .ok (.invokevirtual 310, 3) := dk_182 1 54 (dk_at dksX9_ofWith_0 8 rfl rfl)
theorem dX9_ofWith_11 : decode cX9_ofWith 11 = .ok (.aload_n 0, 1) := dk_42 (dk_at dksX9_ofWith_0 11 rfl rfl)
theorem dX9_ofWith_12 : decode cX9_ofWith 12 = .ok (.getfield 279, 3) := dk_180 1 23 (dk_at dksX9_ofWith_0 12 rfl rfl)
theorem dX9_ofWith_15 : decode cX9_ofWith 15 = .ok (.istore_n 2, 1) := dk_61 (dk_at dksX9_ofWith_0 15 rfl rfl)
theorem dX9_ofWith_16 : decode cX9_ofWith 16 = .ok (.aload_n 0, 1) := dk_42 (dk_at dksX9_ofWith_0 16 rfl rfl)
theorem dX9_ofWith_17 : decode cX9_ofWith 17 = .ok (.getfield 269, 3) := dk_180 1 13 (dk_at dksX9_ofWith_0 17 rfl rfl)
theorem dX9_ofWith_20 : decode cX9_ofWith 20 = .ok (.iconst 4, 1) := dk_7 (dk_at dksX9_ofWith_0 20 rfl rfl)
theorem dX9_ofWith_21 : decode cX9_ofWith 21 = .ok (.if_icmp .ne 7, 3) := dk_160 0 7 (dk_at dksX9_ofWith_0 21 rfl rfl)
theorem dX9_ofWith_24 : decode cX9_ofWith 24 = .ok (.iconst 1, 1) := dk_4 (dk_at dksX9_ofWith_1 0 rfl rfl)
theorem dX9_ofWith_25 : decode cX9_ofWith 25 = .ok (.goto 4, 3) := dk_167 0 4 (dk_at dksX9_ofWith_1 1 rfl rfl)
theorem dX9_ofWith_28 : decode cX9_ofWith 28 = .ok (.iconst 0, 1) := dk_3 (dk_at dksX9_ofWith_1 4 rfl rfl)
theorem dX9_ofWith_29 : decode cX9_ofWith 29 = .ok (.istore_n 3, 1) := dk_62 (dk_at dksX9_ofWith_1 5 rfl rfl)
theorem dX9_ofWith_30 : decode cX9_ofWith 30 = .ok (.aload_n 0, 1) := dk_42 (dk_at dksX9_ofWith_1 6 rfl rfl)
theorem dX9_ofWith_31 : decode cX9_ofWith 31 = .ok (.invokevirtual 342, 3) := dk_182 1 86 (dk_at dksX9_ofWith_1 7 rfl rfl)
theorem dX9_ofWith_34 : decode cX9_ofWith 34 = .ok (.istore 4, 2) := dk_54 4 (dk_at dksX9_ofWith_1 10 rfl rfl)
theorem dX9_ofWith_36 : decode cX9_ofWith 36 = .ok (.iload_n 3, 1) := dk_29 (dk_at dksX9_ofWith_1 12 rfl rfl)
theorem dX9_ofWith_37 : decode cX9_ofWith 37 = .ok (.ifCond .eq 19, 3) := dk_153 0 19 (dk_at dksX9_ofWith_1 13 rfl rfl)
theorem dX9_ofWith_40 : decode cX9_ofWith 40 = .ok (.iload 4, 2) := dk_21 4 (dk_at dksX9_ofWith_1 16 rfl rfl)
theorem dX9_ofWith_42 : decode cX9_ofWith 42 = .ok (.iconst 1, 1) := dk_4 (dk_at dksX9_ofWith_1 18 rfl rfl)
theorem dX9_ofWith_43 : decode cX9_ofWith 43 = .ok (.iconst 3, 1) := dk_6 (dk_at dksX9_ofWith_1 19 rfl rfl)
theorem dX9_ofWith_44 : decode cX9_ofWith 44 = .ok (.invokestatic 239, 3) := dk_184 0 239 (dk_at dksX9_ofWith_1 20 rfl rfl)
theorem dX9_ofWith_47 : decode cX9_ofWith 47 = .ok (.ifCond .ne 9, 3) := dk_154 0 9 (dk_at dksX9_ofWith_2 0 rfl rfl)
theorem dX9_ofWith_50 : decode cX9_ofWith 50 = .ok (.aload_n 0, 1) := dk_42 (dk_at dksX9_ofWith_2 3 rfl rfl)
theorem dX9_ofWith_51 : decode cX9_ofWith 51 = .ok (.iconst 2, 1) := dk_5 (dk_at dksX9_ofWith_2 4 rfl rfl)
theorem dX9_ofWith_52 : decode cX9_ofWith 52 = .ok (.iload_n 2, 1) := dk_28 (dk_at dksX9_ofWith_2 5 rfl rfl)
theorem dX9_ofWith_53 : decode cX9_ofWith 53 = .ok (.invokevirtual 297, 3) := dk_182 1 41 (dk_at dksX9_ofWith_2 6 rfl rfl)
theorem dX9_ofWith_56 : decode cX9_ofWith 56 = .ok (.aload_n 0, 1) := dk_42 (dk_at dksX9_ofWith_2 9 rfl rfl)
theorem dX9_ofWith_57 : decode cX9_ofWith 57 = .ok (.iload_n 1, 1) := dk_27 (dk_at dksX9_ofWith_2 10 rfl rfl)
theorem dX9_ofWith_58 : decode cX9_ofWith 58 = .ok (.iconst 1, 1) := dk_4 (dk_at dksX9_ofWith_2 11 rfl rfl)
theorem dX9_ofWith_59 : decode cX9_ofWith 59 = .ok (.iload 4, 2) := dk_21 4 (dk_at dksX9_ofWith_2 12 rfl rfl)
theorem dX9_ofWith_61 : decode cX9_ofWith 61 = .ok (.invokevirtual 376, 3) := dk_182 1 120 (dk_at dksX9_ofWith_2 14 rfl rfl)
theorem dX9_ofWith_64 : decode cX9_ofWith 64 = .ok (.aload_n 0, 1) := dk_42 (dk_at dksX9_ofWith_2 17 rfl rfl)
theorem dX9_ofWith_65 : decode cX9_ofWith 65 = .ok (.iload_n 1, 1) := dk_27 (dk_at dksX9_ofWith_2 18 rfl rfl)
theorem dX9_ofWith_66 : decode cX9_ofWith 66 = .ok (.bipush 7, 2) := dk_16 7 (dk_at dksX9_ofWith_2 19 rfl rfl)
theorem dX9_ofWith_68 : decode cX9_ofWith 68 = .ok (.aload_n 0, 1) := dk_42 (dk_at dksX9_ofWith_2 21 rfl rfl)
theorem dX9_ofWith_69 : decode cX9_ofWith 69 = .ok (.iconst 5, 1) := dk_8 (dk_at dksX9_ofWith_2 22 rfl rfl)
theorem dX9_ofWith_70 : decode cX9_ofWith 70 = .ok (.iload_n 1, 1) := dk_27 (dk_at dksX9_ofWith_2 23 rfl rfl)
theorem dX9_ofWith_71 : decode cX9_ofWith 71 = .ok (.invokevirtual 401, 3) := dk_182 1 145 (dk_at dksX9_ofWith_3 0 rfl rfl)
theorem dX9_ofWith_74 : decode cX9_ofWith 74 = .ok (.invokevirtual 376, 3) := dk_182 1 120 (dk_at dksX9_ofWith_3 3 rfl rfl)
theorem dX9_ofWith_77 : decode cX9_ofWith 77 = .ok (.return_, 1) := dk_177 (dk_at dksX9_ofWith_3 6 rfl rfl)
theorem okX9_ofWith_0 : XOkL xms rX9_ofWith bX9_ofWith_0 := xcP (xok_aload_n dX9_ofWith_0 rfl) rfl (xcP (xok_bipush dX9_ofWith_1 rfl) rfl (xcC0 (xokc_list (List.forall_mem_cons.mpr ⟨xokc_V (r := (RX9, TX9, 96)) xm125 (List.mem_of_getElem? (i := 9) rfl) (by decide) rfl dX9_ofWith_3 q2329 q2331 qs75 q149 q2332 (by decide +kernel), fun _ h => nomatch h⟩)) rfl (xcP (xok_istore_n dX9_ofWith_6 rfl) rfl (xcP (xok_aload_n dX9_ofWith_7 rfl) rfl (xcC0 (xokc_list (List.forall_mem_cons.mpr ⟨xokc_V (r := (RX9, TX9, 96)) xm102 (List.mem_of_getElem? (i := 9) rfl) (by decide) rfl dX9_ofWith_8 q2235 q2237 qs53 q149 q2238 (by decide +kernel), fun _ h => nomatch h⟩)) rfl (xcP (xok_aload_n dX9_ofWith_11 rfl) rfl (xcP (xok_getfield (ref := "WaysAtlasModel") (Or.inl ⟨rfl, by decide⟩) dX9_ofWith_12 (Or.inl ⟨q1934, (Or.inl rfl)⟩) xh41) rfl (xcP (xok_istore_n dX9_ofWith_15 rfl) rfl (xcP (xok_aload_n dX9_ofWith_16 rfl) rfl (xcP (xok_getfield (ref := "WaysAtlasModel") (Or.inl ⟨rfl, by decide⟩) dX9_ofWith_17 (Or.inl ⟨q1933, (Or.inl rfl)⟩) xh40) rfl (xcP (xok_iconst dX9_ofWith_20 rfl) rfl (xcP (xok_icmpne dX9_ofWith_21 (by decide)) rfl (xcP (xok_iconst dX9_ofWith_24 rfl) rfl (xcP (xok_goto dX9_ofWith_25 (by decide)) rfl trivial))))))))))))))
theorem okX9_ofWith_28 : XOkL xms rX9_ofWith bX9_ofWith_28 := xcP (xok_iconst dX9_ofWith_28 rfl) rfl (xcP xok_fal rfl trivial)
theorem okX9_ofWith_29 : XOkL xms rX9_ofWith bX9_ofWith_29 := xcP (xok_istore_n dX9_ofWith_29 rfl) rfl (xcP (xok_aload_n dX9_ofWith_30 rfl) rfl (xcC0 (xokc_list (List.forall_mem_cons.mpr ⟨xokc_V (r := (RX9, TX9, 96)) xm133 (List.mem_of_getElem? (i := 9) rfl) (by decide) rfl dX9_ofWith_31 q2361 q2363 qs83 q149 q2364 (by decide +kernel), fun _ h => nomatch h⟩)) rfl (xcP (xok_istore dX9_ofWith_34) rfl (xcP (xok_iload_n dX9_ofWith_36 rfl) rfl (xcP (xok_ifeq dX9_ofWith_37 (by decide)) rfl (xcP (xok_iload dX9_ofWith_40) rfl (xcP (xok_iconst dX9_ofWith_42 rfl) rfl (xcP (xok_iconst dX9_ofWith_43 rfl) rfl (xcC0 (xokc_S xm99 rfl dX9_ofWith_44 q2224 q2225 q149 q2226 (by decide +kernel)) rfl (xcP (xok_ifne dX9_ofWith_47 (by decide)) rfl (xcP (xok_aload_n dX9_ofWith_50 rfl) rfl (xcP (xok_iconst dX9_ofWith_51 rfl) rfl (xcP (xok_iload_n dX9_ofWith_52 rfl) rfl (xcC0 (xokc_list (List.forall_mem_cons.mpr ⟨xokc_V (r := (RX9, TX9, 96)) xm111 (List.mem_of_getElem? (i := 9) rfl) (by decide) rfl dX9_ofWith_53 q2273 q2275 qs61 q149 q2276 (by decide +kernel), fun _ h => nomatch h⟩)) rfl (xcP xok_fal rfl trivial)))))))))))))))
theorem okX9_ofWith_56 : XOkL xms rX9_ofWith bX9_ofWith_56 := xcP (xok_aload_n dX9_ofWith_56 rfl) rfl (xcP (xok_iload_n dX9_ofWith_57 rfl) rfl (xcP (xok_iconst dX9_ofWith_58 rfl) rfl (xcP (xok_iload dX9_ofWith_59) rfl (xcC0 (xokc_list (List.forall_mem_cons.mpr ⟨xokc_V (r := (RX9, TX9, 96)) xm120 (List.mem_of_getElem? (i := 9) rfl) (by decide) rfl dX9_ofWith_61 q2309 q2311 qs70 q149 q2312 (by decide +kernel), fun _ h => nomatch h⟩)) rfl (xcP (xok_aload_n dX9_ofWith_64 rfl) rfl (xcP (xok_iload_n dX9_ofWith_65 rfl) rfl (xcP (xok_bipush dX9_ofWith_66 rfl) rfl (xcP (xok_aload_n dX9_ofWith_68 rfl) rfl (xcP (xok_iconst dX9_ofWith_69 rfl) rfl (xcP (xok_iload_n dX9_ofWith_70 rfl) rfl (xcC0 (xokc_list (List.forall_mem_cons.mpr ⟨xokc_V (r := (RX9, TX9, 96)) xm118 (List.mem_of_getElem? (i := 9) rfl) (by decide) rfl dX9_ofWith_71 q2301 q2303 qs68 q149 q2304 (by decide +kernel), fun _ h => nomatch h⟩)) rfl (xcC0 (xokc_list (List.forall_mem_cons.mpr ⟨xokc_V (r := (RX9, TX9, 96)) xm120 (List.mem_of_getElem? (i := 9) rfl) (by decide) rfl dX9_ofWith_74 q2309 q2311 qs70 q149 q2312 (by decide +kernel), fun _ h => nomatch h⟩)) rfl (xcR ⟨dX9_ofWith_77, rfl⟩)))))))))))))
theorem okM_X9_ofWith : XOkM xms rX9_ofWith := xokM0 (List.forall_mem_cons.mpr ⟨⟨rfl, okX9_ofWith_0⟩, List.forall_mem_cons.mpr ⟨⟨rfl, okX9_ofWith_28⟩, List.forall_mem_cons.mpr ⟨⟨rfl, okX9_ofWith_29⟩, List.forall_mem_cons.mpr ⟨⟨rfl, okX9_ofWith_56⟩, fun _ h => nomatch h⟩⟩⟩⟩) (xokH0 rfl (fun _ _ => rfl)) (by decide +kernel) (by decide)
abbrev cX9_looks : ByteArray := prog_36_method_52_code
def dkwX9_looks_4 : List UInt8 := [6, 42, 180, 0, 102, 27, 46, 182, 1, 41, 132, 1, 1, 167, 255, 151, 177]
abbrev dktX9_looks_4 : List UInt8 := dkwX9_looks_4 ++ []
def dkwX9_looks_3 : List UInt8 := [162, 0, 13, 42, 180, 0, 99, 27, 46, 7, 160, 0, 7, 4, 167, 0, 4, 3, 61, 28, 153, 0, 14, 42]
abbrev dktX9_looks_3 : List UInt8 := dkwX9_looks_3 ++ dktX9_looks_4
def dkwX9_looks_2 : List UInt8 := [180, 0, 99, 27, 46, 6, 160, 0, 21, 42, 180, 0, 105, 27, 46, 42, 180, 0, 90, 42, 180, 1, 32, 46]
abbrev dktX9_looks_2 : List UInt8 := dkwX9_looks_2 ++ dktX9_looks_3
def dkwX9_looks_1 : List UInt8 := [160, 0, 21, 42, 180, 0, 105, 27, 46, 42, 180, 0, 96, 42, 180, 1, 32, 46, 162, 0, 41, 42]
abbrev dktX9_looks_1 : List UInt8 := dkwX9_looks_1 ++ dktX9_looks_2
def dkwX9_looks_0 : List UInt8 := [3, 60, 27, 42, 180, 1, 45, 162, 0, 103, 42, 180, 1, 35, 154, 0, 96, 42, 180, 0, 99, 27, 46, 4]
abbrev dktX9_looks_0 : List UInt8 := dkwX9_looks_0 ++ dktX9_looks_1
theorem dksX9_looks_0 : cX9_looks.data.toList.drop 0 = dktX9_looks_0 := by decide +kernel
theorem dksX9_looks_1 : cX9_looks.data.toList.drop 24 = dktX9_looks_1 := dk_seg dksX9_looks_0 24 rfl rfl
theorem dksX9_looks_2 : cX9_looks.data.toList.drop 46 = dktX9_looks_2 := dk_seg dksX9_looks_1 22 rfl rfl
theorem dksX9_looks_3 : cX9_looks.data.toList.drop 70 = dktX9_looks_3 := dk_seg dksX9_looks_2 24 rfl rfl
theorem dksX9_looks_4 : cX9_looks.data.toList.drop 94 = dktX9_looks_4 := dk_seg dksX9_looks_3 24 rfl rfl
theorem dX9_looks_0 : decode cX9_looks 0 = .ok (.iconst 0, 1) := dk_3 (dk_at dksX9_looks_0 0 rfl rfl)
theorem dX9_looks_1 : decode cX9_looks 1 = .ok (.istore_n 1, 1) := dk_60 (dk_at dksX9_looks_0 1 rfl rfl)
theorem dX9_looks_2 : decode cX9_looks 2 = .ok (.iload_n 1, 1) := dk_27 (dk_at dksX9_looks_0 2 rfl rfl)
theorem dX9_looks_3 : decode cX9_looks 3 = .ok (.aload_n 0, 1) := dk_42 (dk_at dksX9_looks_0 3 rfl rfl)
theorem dX9_looks_4 : decode cX9_looks 4 = .ok (.getfield 301, 3) := dk_180 1 45 (dk_at dksX9_looks_0 4 rfl rfl)
theorem dX9_looks_7 : decode cX9_looks 7 = .ok (.if_icmp .ge 103, 3) := dk_162 0 103 (dk_at dksX9_looks_0 7 rfl rfl)
theorem dX9_looks_10 : decode cX9_looks 10 = .ok (.aload_n 0, 1) := dk_42 (dk_at dksX9_looks_0 10 rfl rfl)
theorem dX9_looks_11 : decode cX9_looks 11 = .ok (.getfield 291, 3) := dk_180 1 35 (dk_at dksX9_looks_0 11 rfl rfl)
theorem dX9_looks_14 : decode cX9_looks 14 = .ok (.ifCond .ne 96, 3) := dk_154 0 96 (dk_at dksX9_looks_0 14 rfl rfl)
theorem dX9_looks_17 : decode cX9_looks 17 = .ok (.aload_n 0, 1) := dk_42 (dk_at dksX9_looks_0 17 rfl rfl)
theorem dX9_looks_18 : decode cX9_looks 18 = .ok (.getfield 99, 3) := dk_180 0 99 (dk_at dksX9_looks_0 18 rfl rfl)
theorem dX9_looks_21 : decode cX9_looks 21 = .ok (.iload_n 1, 1) := dk_27 (dk_at dksX9_looks_0 21 rfl rfl)
theorem dX9_looks_22 : decode cX9_looks 22 = .ok (.iaload, 1) := dk_46 (dk_at dksX9_looks_0 22 rfl rfl)
theorem dX9_looks_23 : decode cX9_looks 23 = .ok (.iconst 1, 1) := dk_4 (dk_at dksX9_looks_0 23 rfl rfl)
theorem dX9_looks_24 : decode cX9_looks 24 = .ok (.if_icmp .ne 21, 3) := dk_160 0 21 (dk_at dksX9_looks_1 0 rfl rfl)
theorem dX9_looks_27 : decode cX9_looks 27 = .ok (.aload_n 0, 1) := dk_42 (dk_at dksX9_looks_1 3 rfl rfl)
theorem dX9_looks_28 : decode cX9_looks 28 = .ok (.getfield 105, 3) := dk_180 0 105 (dk_at dksX9_looks_1 4 rfl rfl)
theorem dX9_looks_31 : decode cX9_looks 31 = .ok (.iload_n 1, 1) := dk_27 (dk_at dksX9_looks_1 7 rfl rfl)
theorem dX9_looks_32 : decode cX9_looks 32 = .ok (.iaload, 1) := dk_46 (dk_at dksX9_looks_1 8 rfl rfl)
theorem dX9_looks_33 : decode cX9_looks 33 = .ok (.aload_n 0, 1) := dk_42 (dk_at dksX9_looks_1 9 rfl rfl)
theorem dX9_looks_34 : decode cX9_looks 34 = .ok (.getfield 96, 3) := dk_180 0 96 (dk_at dksX9_looks_1 10 rfl rfl)
theorem dX9_looks_37 : decode cX9_looks 37 = .ok (.aload_n 0, 1) := dk_42 (dk_at dksX9_looks_1 13 rfl rfl)
theorem dX9_looks_38 : decode cX9_looks 38 = .ok (.getfield 288, 3) := dk_180 1 32 (dk_at dksX9_looks_1 14 rfl rfl)
theorem dX9_looks_41 : decode cX9_looks 41 = .ok (.iaload, 1) := dk_46 (dk_at dksX9_looks_1 17 rfl rfl)
theorem dX9_looks_42 : decode cX9_looks 42 = .ok (.if_icmp .ge 41, 3) := dk_162 0 41 (dk_at dksX9_looks_1 18 rfl rfl)
theorem dX9_looks_45 : decode cX9_looks 45 = .ok (.aload_n 0, 1) := dk_42 (dk_at dksX9_looks_1 21 rfl rfl)
theorem dX9_looks_46 : decode cX9_looks 46 = .ok (.getfield 99, 3) := dk_180 0 99 (dk_at dksX9_looks_2 0 rfl rfl)
theorem dX9_looks_49 : decode cX9_looks 49 = .ok (.iload_n 1, 1) := dk_27 (dk_at dksX9_looks_2 3 rfl rfl)
theorem dX9_looks_50 : decode cX9_looks 50 = .ok (.iaload, 1) := dk_46 (dk_at dksX9_looks_2 4 rfl rfl)
theorem dX9_looks_51 : decode cX9_looks 51 = .ok (.iconst 3, 1) := dk_6 (dk_at dksX9_looks_2 5 rfl rfl)
theorem dX9_looks_52 : decode cX9_looks 52 = .ok (.if_icmp .ne 21, 3) := dk_160 0 21 (dk_at dksX9_looks_2 6 rfl rfl)
theorem dX9_looks_55 : decode cX9_looks 55 = .ok (.aload_n 0, 1) := dk_42 (dk_at dksX9_looks_2 9 rfl rfl)
theorem dX9_looks_56 : decode cX9_looks 56 = .ok (.getfield 105, 3) := dk_180 0 105 (dk_at dksX9_looks_2 10 rfl rfl)
theorem dX9_looks_59 : decode cX9_looks 59 = .ok (.iload_n 1, 1) := dk_27 (dk_at dksX9_looks_2 13 rfl rfl)
theorem dX9_looks_60 : decode cX9_looks 60 = .ok (.iaload, 1) := dk_46 (dk_at dksX9_looks_2 14 rfl rfl)
theorem dX9_looks_61 : decode cX9_looks 61 = .ok (.aload_n 0, 1) := dk_42 (dk_at dksX9_looks_2 15 rfl rfl)
theorem dX9_looks_62 : decode cX9_looks 62 = .ok (.getfield 90, 3) := dk_180 0 90 (dk_at dksX9_looks_2 16 rfl rfl)
theorem dX9_looks_65 : decode cX9_looks 65 = .ok (.aload_n 0, 1) := dk_42 (dk_at dksX9_looks_2 19 rfl rfl)
theorem dX9_looks_66 : decode cX9_looks 66 = .ok (.getfield 288, 3) := dk_180 1 32 (dk_at dksX9_looks_2 20 rfl rfl)
theorem dX9_looks_69 : decode cX9_looks 69 = .ok (.iaload, 1) := dk_46 (dk_at dksX9_looks_2 23 rfl rfl)
theorem dX9_looks_70 : decode cX9_looks 70 = .ok (.if_icmp .ge 13, 3) := dk_162 0 13 (dk_at dksX9_looks_3 0 rfl rfl)
theorem dX9_looks_73 : decode cX9_looks 73 = .ok (.aload_n 0, 1) := dk_42 (dk_at dksX9_looks_3 3 rfl rfl)
theorem dX9_looks_74 : decode cX9_looks 74 = .ok (.getfield 99, 3) := dk_180 0 99 (dk_at dksX9_looks_3 4 rfl rfl)
theorem dX9_looks_77 : decode cX9_looks 77 = .ok (.iload_n 1, 1) := dk_27 (dk_at dksX9_looks_3 7 rfl rfl)
theorem dX9_looks_78 : decode cX9_looks 78 = .ok (.iaload, 1) := dk_46 (dk_at dksX9_looks_3 8 rfl rfl)
theorem dX9_looks_79 : decode cX9_looks 79 = .ok (.iconst 4, 1) := dk_7 (dk_at dksX9_looks_3 9 rfl rfl)
theorem dX9_looks_80 : decode cX9_looks 80 = .ok (.if_icmp .ne 7, 3) := dk_160 0 7 (dk_at dksX9_looks_3 10 rfl rfl)
theorem dX9_looks_83 : decode cX9_looks 83 = .ok (.iconst 1, 1) := dk_4 (dk_at dksX9_looks_3 13 rfl rfl)
theorem dX9_looks_84 : decode cX9_looks 84 = .ok (.goto 4, 3) := dk_167 0 4 (dk_at dksX9_looks_3 14 rfl rfl)
theorem dX9_looks_87 : decode cX9_looks 87 = .ok (.iconst 0, 1) := dk_3 (dk_at dksX9_looks_3 17 rfl rfl)
theorem dX9_looks_88 : decode cX9_looks 88 = .ok (.istore_n 2, 1) := dk_61 (dk_at dksX9_looks_3 18 rfl rfl)
theorem dX9_looks_89 : decode cX9_looks 89 = .ok (.iload_n 2, 1) := dk_28 (dk_at dksX9_looks_3 19 rfl rfl)
theorem dX9_looks_90 : decode cX9_looks 90 = .ok (.ifCond .eq 14, 3) := dk_153 0 14 (dk_at dksX9_looks_3 20 rfl rfl)
theorem dX9_looks_93 : decode cX9_looks 93 = .ok (.aload_n 0, 1) := dk_42 (dk_at dksX9_looks_3 23 rfl rfl)
theorem dX9_looks_94 : decode cX9_looks 94 = .ok (.iconst 3, 1) := dk_6 (dk_at dksX9_looks_4 0 rfl rfl)
theorem dX9_looks_95 : decode cX9_looks 95 = .ok (.aload_n 0, 1) := dk_42 (dk_at dksX9_looks_4 1 rfl rfl)
theorem dX9_looks_96 : decode cX9_looks 96 = .ok (.getfield 102, 3) := dk_180 0 102 (dk_at dksX9_looks_4 2 rfl rfl)
theorem dX9_looks_99 : decode cX9_looks 99 = .ok (.iload_n 1, 1) := dk_27 (dk_at dksX9_looks_4 5 rfl rfl)
theorem dX9_looks_100 : decode cX9_looks 100 = .ok (.iaload, 1) := dk_46 (dk_at dksX9_looks_4 6 rfl rfl)
theorem dX9_looks_101 : decode cX9_looks 101 = .ok (.invokevirtual 297, 3) := dk_182 1 41 (dk_at dksX9_looks_4 7 rfl rfl)
theorem dX9_looks_104 : decode cX9_looks 104 = .ok (.iinc 1 1, 3) := dk_132 1 1 (dk_at dksX9_looks_4 10 rfl rfl)
theorem dX9_looks_107 : decode cX9_looks 107 = .ok (.goto (-105), 3) := dk_167 255 151 (dk_at dksX9_looks_4 13 rfl rfl)
theorem dX9_looks_110 : decode cX9_looks 110 = .ok (.return_, 1) := dk_177 (dk_at dksX9_looks_4 16 rfl rfl)
theorem okX9_looks_0 : XOkL xms rX9_looks bX9_looks_0 := xcP (xok_iconst dX9_looks_0 rfl) rfl (xcP (xok_istore_n dX9_looks_1 rfl) rfl (xcP xok_fal rfl trivial))
theorem okX9_looks_2 : XOkL xms rX9_looks bX9_looks_2 := xcP (xok_iload_n dX9_looks_2 rfl) rfl (xcP (xok_aload_n dX9_looks_3 rfl) rfl (xcP (xok_getfield (ref := "WaysAtlasModel") (Or.inl ⟨rfl, by decide⟩) dX9_looks_4 (Or.inl ⟨q1958, (Or.inl rfl)⟩) xh52) rfl (xcP (xok_icmpge dX9_looks_7 (by decide)) rfl (xcP (xok_aload_n dX9_looks_10 rfl) rfl (xcP (xok_getfield (ref := "WaysAtlasModel") (Or.inl ⟨rfl, by decide⟩) dX9_looks_11 (Or.inl ⟨q1955, (Or.inl rfl)⟩) xh49) rfl (xcP (xok_ifne dX9_looks_14 (by decide)) rfl (xcP (xok_aload_n dX9_looks_17 rfl) rfl (xcP (xok_getfield (ref := "WaysAtlasModel") (Or.inr ⟨rfl, by decide⟩) dX9_looks_18 (Or.inl ⟨q1959, (Or.inl rfl)⟩) xh1072) rfl (xcP (xok_iload_n dX9_looks_21 rfl) rfl (xcP (xok_iaload dX9_looks_22) rfl (xcP (xok_iconst dX9_looks_23 rfl) rfl (xcP (xok_icmpne dX9_looks_24 (by decide)) rfl (xcP (xok_aload_n dX9_looks_27 rfl) rfl (xcP (xok_getfield (ref := "WaysAtlasModel") (Or.inr ⟨rfl, by decide⟩) dX9_looks_28 (Or.inl ⟨q1961, (Or.inl rfl)⟩) xh1074) rfl (xcP (xok_iload_n dX9_looks_31 rfl) rfl (xcP (xok_iaload dX9_looks_32) rfl (xcP (xok_aload_n dX9_looks_33 rfl) rfl (xcP (xok_getfield (ref := "WaysAtlasModel") (Or.inr ⟨rfl, by decide⟩) dX9_looks_34 (Or.inl ⟨q1952, (Or.inl rfl)⟩) xh1071) rfl (xcP (xok_aload_n dX9_looks_37 rfl) rfl (xcP (xok_getfield (ref := "WaysAtlasModel") (Or.inl ⟨rfl, by decide⟩) dX9_looks_38 (Or.inl ⟨q1938, (Or.inl rfl)⟩) xh45) rfl (xcP (xok_iaload dX9_looks_41) rfl (xcP (xok_icmpge dX9_looks_42 (by decide)) rfl (xcP xok_fal rfl trivial)))))))))))))))))))))))
theorem okX9_looks_45 : XOkL xms rX9_looks bX9_looks_45 := xcP (xok_aload_n dX9_looks_45 rfl) rfl (xcP (xok_getfield (ref := "WaysAtlasModel") (Or.inr ⟨rfl, by decide⟩) dX9_looks_46 (Or.inl ⟨q1959, (Or.inl rfl)⟩) xh1072) rfl (xcP (xok_iload_n dX9_looks_49 rfl) rfl (xcP (xok_iaload dX9_looks_50) rfl (xcP (xok_iconst dX9_looks_51 rfl) rfl (xcP (xok_icmpne dX9_looks_52 (by decide)) rfl (xcP (xok_aload_n dX9_looks_55 rfl) rfl (xcP (xok_getfield (ref := "WaysAtlasModel") (Or.inr ⟨rfl, by decide⟩) dX9_looks_56 (Or.inl ⟨q1961, (Or.inl rfl)⟩) xh1074) rfl (xcP (xok_iload_n dX9_looks_59 rfl) rfl (xcP (xok_iaload dX9_looks_60) rfl (xcP (xok_aload_n dX9_looks_61 rfl) rfl (xcP (xok_getfield (ref := "WaysAtlasModel") (Or.inr ⟨rfl, by decide⟩) dX9_looks_62 (Or.inl ⟨q1950, (Or.inl rfl)⟩) xh1069) rfl (xcP (xok_aload_n dX9_looks_65 rfl) rfl (xcP (xok_getfield (ref := "WaysAtlasModel") (Or.inl ⟨rfl, by decide⟩) dX9_looks_66 (Or.inl ⟨q1938, (Or.inl rfl)⟩) xh45) rfl (xcP (xok_iaload dX9_looks_69) rfl (xcP (xok_icmpge dX9_looks_70 (by decide)) rfl (xcP xok_fal rfl trivial))))))))))))))))
theorem okX9_looks_73 : XOkL xms rX9_looks bX9_looks_73 := xcP (xok_aload_n dX9_looks_73 rfl) rfl (xcP (xok_getfield (ref := "WaysAtlasModel") (Or.inr ⟨rfl, by decide⟩) dX9_looks_74 (Or.inl ⟨q1959, (Or.inl rfl)⟩) xh1072) rfl (xcP (xok_iload_n dX9_looks_77 rfl) rfl (xcP (xok_iaload dX9_looks_78) rfl (xcP (xok_iconst dX9_looks_79 rfl) rfl (xcP (xok_icmpne dX9_looks_80 (by decide)) rfl (xcP xok_fal rfl trivial))))))
theorem okX9_looks_83 : XOkL xms rX9_looks bX9_looks_83 := xcP (xok_iconst dX9_looks_83 rfl) rfl (xcP (xok_goto dX9_looks_84 (by decide)) rfl trivial)
theorem okX9_looks_87 : XOkL xms rX9_looks bX9_looks_87 := xcP (xok_iconst dX9_looks_87 rfl) rfl (xcP xok_fal rfl trivial)
theorem okX9_looks_88 : XOkL xms rX9_looks bX9_looks_88 := xcP (xok_istore_n dX9_looks_88 rfl) rfl (xcP (xok_iload_n dX9_looks_89 rfl) rfl (xcP (xok_ifeq dX9_looks_90 (by decide)) rfl (xcP (xok_aload_n dX9_looks_93 rfl) rfl (xcP (xok_iconst dX9_looks_94 rfl) rfl (xcP (xok_aload_n dX9_looks_95 rfl) rfl (xcP (xok_getfield (ref := "WaysAtlasModel") (Or.inr ⟨rfl, by decide⟩) dX9_looks_96 (Or.inl ⟨q1960, (Or.inl rfl)⟩) xh1073) rfl (xcP (xok_iload_n dX9_looks_99 rfl) rfl (xcP (xok_iaload dX9_looks_100) rfl (xcC0 (xokc_list (List.forall_mem_cons.mpr ⟨xokc_V (r := (RX9, TX9, 96)) xm111 (List.mem_of_getElem? (i := 9) rfl) (by decide) rfl dX9_looks_101 q2273 q2275 qs61 q149 q2276 (by decide +kernel), fun _ h => nomatch h⟩)) rfl (xcP xok_fal rfl trivial))))))))))
theorem okX9_looks_104 : XOkL xms rX9_looks bX9_looks_104 := xcP (xok_iinc dX9_looks_104 rfl) rfl (xcP (xok_goto dX9_looks_107 (by decide)) rfl trivial)
theorem okX9_looks_110 : XOkL xms rX9_looks bX9_looks_110 := xcR ⟨dX9_looks_110, rfl⟩
theorem okM_X9_looks : XOkM xms rX9_looks := xokM0 (List.forall_mem_cons.mpr ⟨⟨rfl, okX9_looks_0⟩, List.forall_mem_cons.mpr ⟨⟨rfl, okX9_looks_2⟩, List.forall_mem_cons.mpr ⟨⟨rfl, okX9_looks_45⟩, List.forall_mem_cons.mpr ⟨⟨rfl, okX9_looks_73⟩, List.forall_mem_cons.mpr ⟨⟨rfl, okX9_looks_83⟩, List.forall_mem_cons.mpr ⟨⟨rfl, okX9_looks_87⟩, List.forall_mem_cons.mpr ⟨⟨rfl, okX9_looks_88⟩, List.forall_mem_cons.mpr ⟨⟨rfl, okX9_looks_104⟩, List.forall_mem_cons.mpr ⟨⟨rfl, okX9_looks_110⟩, fun _ h => nomatch h⟩⟩⟩⟩⟩⟩⟩⟩⟩) (xokH0 rfl (fun _ _ => rfl)) (by decide +kernel) (by decide)
abbrev cX9_fault : ByteArray := prog_36_method_54_code
theorem dX9_fault_0 : decode cX9_fault 0 = .ok (.aload_n 0, 1) := by decide +kernel
theorem dX9_fault_1 : decode cX9_fault 1 = .ok (.getfield 447, 3) := by decide +kernel
theorem dX9_fault_4 : decode cX9_fault 4 = .ok (.ireturn, 1) := by decide +kernel
theorem okX9_fault_0 : XOkL xms rX9_fault bX9_fault_0 := xcP (xok_aload_n dX9_fault_0 rfl) rfl (xcP (xok_getfield (ref := "WaysAtlasModel") (Or.inl ⟨rfl, by decide⟩) dX9_fault_1 (Or.inl ⟨q1957, (Or.inl rfl)⟩) xh51) rfl (xcR ⟨dX9_fault_4, rfl⟩))
theorem okM_X9_fault : XOkM xms rX9_fault := xokM0 (List.forall_mem_cons.mpr ⟨⟨rfl, okX9_fault_0⟩, fun _ h => nomatch h⟩) (xokH0 rfl (fun _ _ => rfl)) (by decide +kernel) (by decide)
abbrev cX9_count : ByteArray := prog_36_method_55_code
def dkwX9_count_3 : List UInt8 := [42, 180, 0, 235, 46, 172, 42, 180, 0, 84, 42, 180, 0, 235, 46, 172, 42, 180, 1, 197, 172]
abbrev dktX9_count_3 : List UInt8 := dkwX9_count_3 ++ []
def dkwX9_count_2 : List UInt8 := [42, 180, 0, 63, 42, 180, 0, 235, 46, 172, 42, 180, 0, 90, 42, 180, 0, 235, 46, 172, 42, 180, 0, 96]
abbrev dktX9_count_2 : List UInt8 := dkwX9_count_2 ++ dktX9_count_3
def dkwX9_count_1 : List UInt8 := [170, 0, 0, 0, 0, 0, 0, 72, 0, 0, 0, 0, 0, 0, 0, 3, 0, 0, 0, 32, 0, 0, 0, 42, 0, 0, 0, 52, 0, 0, 0, 62]
abbrev dktX9_count_1 : List UInt8 := dkwX9_count_1 ++ dktX9_count_2
def dkwX9_count_0 : List UInt8 := [27, 3, 7, 184, 0, 239, 153, 0, 15, 42, 180, 1, 194, 154, 0, 10, 27, 7, 162, 0, 5, 2, 172, 27]
abbrev dktX9_count_0 : List UInt8 := dkwX9_count_0 ++ dktX9_count_1
theorem dksX9_count_0 : cX9_count.data.toList.drop 0 = dktX9_count_0 := by decide +kernel
theorem dksX9_count_1 : cX9_count.data.toList.drop 24 = dktX9_count_1 := dk_seg dksX9_count_0 24 rfl rfl
theorem dksX9_count_2 : cX9_count.data.toList.drop 56 = dktX9_count_2 := dk_seg dksX9_count_1 32 rfl rfl
theorem dksX9_count_3 : cX9_count.data.toList.drop 80 = dktX9_count_3 := dk_seg dksX9_count_2 24 rfl rfl
theorem dX9_count_0 : decode cX9_count 0 = .ok (.iload_n 1, 1) := dk_27 (dk_at dksX9_count_0 0 rfl rfl)
theorem dX9_count_1 : decode cX9_count 1 = .ok (.iconst 0, 1) := dk_3 (dk_at dksX9_count_0 1 rfl rfl)
theorem dX9_count_2 : decode cX9_count 2 = .ok (.iconst 4, 1) := dk_7 (dk_at dksX9_count_0 2 rfl rfl)
theorem dX9_count_3 : decode cX9_count 3 = .ok (.invokestatic 239, 3) := dk_184 0 239 (dk_at dksX9_count_0 3 rfl rfl)
theorem dX9_count_6 : decode cX9_count 6 = .ok (.ifCond .eq 15, 3) := dk_153 0 15 (dk_at dksX9_count_0 6 rfl rfl)
theorem dX9_count_9 : decode cX9_count 9 = .ok (.aload_n 0, 1) := dk_42 (dk_at dksX9_count_0 9 rfl rfl)
theorem dX9_count_10 : decode cX9_count 10 = .ok (.getfield 450, 3) := dk_180 1 194 (dk_at dksX9_count_0 10 rfl rfl)
theorem dX9_count_13 : decode cX9_count 13 = .ok (.ifCond .ne 10, 3) := dk_154 0 10 (dk_at dksX9_count_0 13 rfl rfl)
theorem dX9_count_16 : decode cX9_count 16 = .ok (.iload_n 1, 1) := dk_27 (dk_at dksX9_count_0 16 rfl rfl)
theorem dX9_count_17 : decode cX9_count 17 = .ok (.iconst 4, 1) := dk_7 (dk_at dksX9_count_0 17 rfl rfl)
theorem dX9_count_18 : decode cX9_count 18 = .ok (.if_icmp .ge 5, 3) := dk_162 0 5 (dk_at dksX9_count_0 18 rfl rfl)
theorem dX9_count_21 : decode cX9_count 21 = .ok (.iconst (-1), 1) := dk_2 (dk_at dksX9_count_0 21 rfl rfl)
theorem dX9_count_22 : decode cX9_count 22 = .ok (.ireturn, 1) := dk_172 (dk_at dksX9_count_0 22 rfl rfl)
theorem dX9_count_23 : decode cX9_count 23 = .ok (.iload_n 1, 1) := dk_27 (dk_at dksX9_count_0 23 rfl rfl)
theorem dX9_count_24 : decode cX9_count 24 = .ok (.tableswitch 72 0 3 #[32, 42, 52, 62], 32) := by decide +kernel
theorem dX9_count_56 : decode cX9_count 56 = .ok (.aload_n 0, 1) := dk_42 (dk_at dksX9_count_2 0 rfl rfl)
theorem dX9_count_57 : decode cX9_count 57 = .ok (.getfield 63, 3) := dk_180 0 63 (dk_at dksX9_count_2 1 rfl rfl)
theorem dX9_count_60 : decode cX9_count 60 = .ok (.aload_n 0, 1) := dk_42 (dk_at dksX9_count_2 4 rfl rfl)
theorem dX9_count_61 : decode cX9_count 61 = .ok (.getfield 235, 3) := dk_180 0 235 (dk_at dksX9_count_2 5 rfl rfl)
theorem dX9_count_64 : decode cX9_count 64 = .ok (.iaload, 1) := dk_46 (dk_at dksX9_count_2 8 rfl rfl)
theorem dX9_count_65 : decode cX9_count 65 = .ok (.ireturn, 1) := dk_172 (dk_at dksX9_count_2 9 rfl rfl)
theorem dX9_count_66 : decode cX9_count 66 = .ok (.aload_n 0, 1) := dk_42 (dk_at dksX9_count_2 10 rfl rfl)
theorem dX9_count_67 : decode cX9_count 67 = .ok (.getfield 90, 3) := dk_180 0 90 (dk_at dksX9_count_2 11 rfl rfl)
theorem dX9_count_70 : decode cX9_count 70 = .ok (.aload_n 0, 1) := dk_42 (dk_at dksX9_count_2 14 rfl rfl)
theorem dX9_count_71 : decode cX9_count 71 = .ok (.getfield 235, 3) := dk_180 0 235 (dk_at dksX9_count_2 15 rfl rfl)
theorem dX9_count_74 : decode cX9_count 74 = .ok (.iaload, 1) := dk_46 (dk_at dksX9_count_2 18 rfl rfl)
theorem dX9_count_75 : decode cX9_count 75 = .ok (.ireturn, 1) := dk_172 (dk_at dksX9_count_2 19 rfl rfl)
theorem dX9_count_76 : decode cX9_count 76 = .ok (.aload_n 0, 1) := dk_42 (dk_at dksX9_count_2 20 rfl rfl)
theorem dX9_count_77 : decode cX9_count 77 = .ok (.getfield 96, 3) := dk_180 0 96 (dk_at dksX9_count_2 21 rfl rfl)
theorem dX9_count_80 : decode cX9_count 80 = .ok (.aload_n 0, 1) := dk_42 (dk_at dksX9_count_3 0 rfl rfl)
theorem dX9_count_81 : decode cX9_count 81 = .ok (.getfield 235, 3) := dk_180 0 235 (dk_at dksX9_count_3 1 rfl rfl)
theorem dX9_count_84 : decode cX9_count 84 = .ok (.iaload, 1) := dk_46 (dk_at dksX9_count_3 4 rfl rfl)
theorem dX9_count_85 : decode cX9_count 85 = .ok (.ireturn, 1) := dk_172 (dk_at dksX9_count_3 5 rfl rfl)
theorem dX9_count_86 : decode cX9_count 86 = .ok (.aload_n 0, 1) := dk_42 (dk_at dksX9_count_3 6 rfl rfl)
theorem dX9_count_87 : decode cX9_count 87 = .ok (.getfield 84, 3) := dk_180 0 84 (dk_at dksX9_count_3 7 rfl rfl)
theorem dX9_count_90 : decode cX9_count 90 = .ok (.aload_n 0, 1) := dk_42 (dk_at dksX9_count_3 10 rfl rfl)
theorem dX9_count_91 : decode cX9_count 91 = .ok (.getfield 235, 3) := dk_180 0 235 (dk_at dksX9_count_3 11 rfl rfl)
theorem dX9_count_94 : decode cX9_count 94 = .ok (.iaload, 1) := dk_46 (dk_at dksX9_count_3 14 rfl rfl)
theorem dX9_count_95 : decode cX9_count 95 = .ok (.ireturn, 1) := dk_172 (dk_at dksX9_count_3 15 rfl rfl)
theorem dX9_count_96 : decode cX9_count 96 = .ok (.aload_n 0, 1) := dk_42 (dk_at dksX9_count_3 16 rfl rfl)
theorem dX9_count_97 : decode cX9_count 97 = .ok (.getfield 453, 3) := dk_180 1 197 (dk_at dksX9_count_3 17 rfl rfl)
theorem dX9_count_100 : decode cX9_count 100 = .ok (.ireturn, 1) := dk_172 (dk_at dksX9_count_3 20 rfl rfl)
theorem okX9_count_0 : XOkL xms rX9_count bX9_count_0 := xcP (xok_iload_n dX9_count_0 rfl) rfl (xcP (xok_iconst dX9_count_1 rfl) rfl (xcP (xok_iconst dX9_count_2 rfl) rfl (xcC0 (xokc_S xm99 rfl dX9_count_3 q2224 q2225 q149 q2226 (by decide +kernel)) rfl (xcP (xok_ifeq dX9_count_6 (by decide)) rfl (xcP (xok_aload_n dX9_count_9 rfl) rfl (xcP (xok_getfield (ref := "WaysAtlasModel") (Or.inl ⟨rfl, by decide⟩) dX9_count_10 (Or.inl ⟨q1939, (Or.inl rfl)⟩) xh46) rfl (xcP (xok_ifne dX9_count_13 (by decide)) rfl (xcP (xok_iload_n dX9_count_16 rfl) rfl (xcP (xok_iconst dX9_count_17 rfl) rfl (xcP (xok_icmpge dX9_count_18 (by decide)) rfl (xcP xok_fal rfl trivial)))))))))))
theorem okX9_count_21 : XOkL xms rX9_count bX9_count_21 := xcP (xok_iconst dX9_count_21 rfl) rfl (xcR ⟨dX9_count_22, rfl⟩)
theorem okX9_count_23 : XOkL xms rX9_count bX9_count_23 := xcP (xok_iload_n dX9_count_23 rfl) rfl (xcP (xok_tsw dX9_count_24 (by decide) (by decide) (by decide)) rfl trivial)
theorem okX9_count_56 : XOkL xms rX9_count bX9_count_56 := xcP (xok_aload_n dX9_count_56 rfl) rfl (xcP (xok_getfield (ref := "WaysAtlasModel") (Or.inr ⟨rfl, by decide⟩) dX9_count_57 (Or.inl ⟨q1941, (Or.inl rfl)⟩) xh1060) rfl (xcP (xok_aload_n dX9_count_60 rfl) rfl (xcP (xok_getfield (ref := "WaysAtlasModel") (Or.inl ⟨rfl, by decide⟩) dX9_count_61 (Or.inl ⟨q1937, (Or.inl rfl)⟩) xh44) rfl (xcP (xok_iaload dX9_count_64) rfl (xcR ⟨dX9_count_65, rfl⟩)))))
theorem okX9_count_66 : XOkL xms rX9_count bX9_count_66 := xcP (xok_aload_n dX9_count_66 rfl) rfl (xcP (xok_getfield (ref := "WaysAtlasModel") (Or.inr ⟨rfl, by decide⟩) dX9_count_67 (Or.inl ⟨q1950, (Or.inl rfl)⟩) xh1069) rfl (xcP (xok_aload_n dX9_count_70 rfl) rfl (xcP (xok_getfield (ref := "WaysAtlasModel") (Or.inl ⟨rfl, by decide⟩) dX9_count_71 (Or.inl ⟨q1937, (Or.inl rfl)⟩) xh44) rfl (xcP (xok_iaload dX9_count_74) rfl (xcR ⟨dX9_count_75, rfl⟩)))))
theorem okX9_count_76 : XOkL xms rX9_count bX9_count_76 := xcP (xok_aload_n dX9_count_76 rfl) rfl (xcP (xok_getfield (ref := "WaysAtlasModel") (Or.inr ⟨rfl, by decide⟩) dX9_count_77 (Or.inl ⟨q1952, (Or.inl rfl)⟩) xh1071) rfl (xcP (xok_aload_n dX9_count_80 rfl) rfl (xcP (xok_getfield (ref := "WaysAtlasModel") (Or.inl ⟨rfl, by decide⟩) dX9_count_81 (Or.inl ⟨q1937, (Or.inl rfl)⟩) xh44) rfl (xcP (xok_iaload dX9_count_84) rfl (xcR ⟨dX9_count_85, rfl⟩)))))
theorem okX9_count_86 : XOkL xms rX9_count bX9_count_86 := xcP (xok_aload_n dX9_count_86 rfl) rfl (xcP (xok_getfield (ref := "WaysAtlasModel") (Or.inr ⟨rfl, by decide⟩) dX9_count_87 (Or.inl ⟨q1948, (Or.inl rfl)⟩) xh1067) rfl (xcP (xok_aload_n dX9_count_90 rfl) rfl (xcP (xok_getfield (ref := "WaysAtlasModel") (Or.inl ⟨rfl, by decide⟩) dX9_count_91 (Or.inl ⟨q1937, (Or.inl rfl)⟩) xh44) rfl (xcP (xok_iaload dX9_count_94) rfl (xcR ⟨dX9_count_95, rfl⟩)))))
theorem okX9_count_96 : XOkL xms rX9_count bX9_count_96 := xcP (xok_aload_n dX9_count_96 rfl) rfl (xcP (xok_getfield (ref := "WaysAtlasModel") (Or.inl ⟨rfl, by decide⟩) dX9_count_97 (Or.inl ⟨q1972, (Or.inl rfl)⟩) xh57) rfl (xcR ⟨dX9_count_100, rfl⟩))
theorem okM_X9_count : XOkM xms rX9_count := xokM0 (List.forall_mem_cons.mpr ⟨⟨rfl, okX9_count_0⟩, List.forall_mem_cons.mpr ⟨⟨rfl, okX9_count_21⟩, List.forall_mem_cons.mpr ⟨⟨rfl, okX9_count_23⟩, List.forall_mem_cons.mpr ⟨⟨rfl, okX9_count_56⟩, List.forall_mem_cons.mpr ⟨⟨rfl, okX9_count_66⟩, List.forall_mem_cons.mpr ⟨⟨rfl, okX9_count_76⟩, List.forall_mem_cons.mpr ⟨⟨rfl, okX9_count_86⟩, List.forall_mem_cons.mpr ⟨⟨rfl, okX9_count_96⟩, fun _ h => nomatch h⟩⟩⟩⟩⟩⟩⟩⟩) (xokH0 rfl (fun _ _ => rfl)) (by decide +kernel) (by decide)
