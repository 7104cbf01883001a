set_option maxRecDepth 100000
abbrev cX31_init : ByteArray := prog_6_method_1_code
def dkwX31_init_1 : List UInt8 := [181, 0, 21, 177]
abbrev dktX31_init_1 : List UInt8 := dkwX31_init_1 ++ []
def dkwX31_init_0 : List UInt8 := [42, 27, 183, 0, 3, 42, 5, 188, 10, 181, 0, 9, 42, 5, 189, 0, 15, 181, 0, 17, 42, 28]
abbrev dktX31_init_0 : List UInt8 := dkwX31_init_0 ++ dktX31_init_1
theorem dksX31_init_0 : cX31_init.data.toList.drop 0 = dktX31_init_0 := by decide +kernel
theorem dksX31_init_1 : cX31_init.data.toList.drop 22 = dktX31_init_1 := dk_seg dksX31_init_0 22 rfl rfl
theorem dX31_init_0 : decode cX31_init 0 = .ok (.aload_n 0, 1) := dk_42 (dk_at dksX31_init_0 0 rfl rfl)
theorem dX31_init_1 : decode cX31_init 1 = .ok (.iload_n 1, 1) := dk_27 (dk_at dksX31_init_0 1 rfl rfl)
theorem dX31_init_2 : decode cX31_init 2 = .ok (.invokespecial 3, 3) := dk_183 0 3 (dk_at dksX31_init_0 2 rfl rfl)
theorem dX31_init_5 : decode cX31_init 5 = .ok (.aload_n 0, 1) := dk_42 (dk_at dksX31_init_0 5 rfl rfl)
theorem dX31_init_6 : decode cX31_init 6 = .ok (.iconst 2, 1) := dk_5 (dk_at dksX31_init_0 6 rfl rfl)
theorem dX31_init_7 : decode cX31_init 7 = .ok (.newarray .int, 2) := dk_188_10 (dk_at dksX31_init_0 7 rfl rfl)
theorem dX31_init_9 : decode cX31_init 9 = .ok (.putfield 9, 3) := dk_181 0 9 (dk_at dksX31_init_0 9 rfl rfl)
theorem dX31_init_12 : decode cX31_init 12 = .ok (.aload_n 0, 1) := dk_42 (dk_at dksX31_init_0 12 rfl rfl)
theorem dX31_init_13 : decode cX31_init 13 = .ok (.iconst 2, 1) := dk_5 (dk_at dksX31_init_0 13 rfl rfl)
theorem dX31_init_14 : decode cX31_init 14 = .ok (.anewarray 15, 3) := dk_189 0 15 (dk_at dksX31_init_0 14 rfl rfl)
theorem dX31_init_17 : decode cX31_init 17 = .ok (.putfield 17, 3) := dk_181 0 17 (dk_at dksX31_init_0 17 rfl rfl)
theorem dX31_init_20 : decode cX31_init 20 = .ok (.aload_n 0, 1) := dk_42 (dk_at dksX31_init_0 20 rfl rfl)
theorem dX31_init_21 : decode cX31_init 21 = .ok (.iload_n 2, 1) := dk_28 (dk_at dksX31_init_0 21 rfl rfl)
theorem dX31_init_22 : decode cX31_init 22 = .ok (.putfield 21, 3) := dk_181 0 21 (dk_at dksX31_init_1 0 rfl rfl)
theorem dX31_init_25 : decode cX31_init 25 = .ok (.return_, 1) := dk_177 (dk_at dksX31_init_1 3 rfl rfl)
theorem okX31_init_0 : XOkL xms rX31_init bX31_init_0 := xcP (xok_aload_n dX31_init_0 rfl) rfl (xcP (xok_iload_n dX31_init_1 rfl) rfl (xcC0 (xokc_I xm213 rfl rfl dX31_init_2 q1187 q961 q162 q962 rfl (by decide +kernel)) rfl (xcP (xok_aload_n dX31_init_5 rfl) rfl (xcP (xok_iconst dX31_init_6 rfl) rfl (xcP (xok_newarray (atype := .int) (by decide) rfl dX31_init_7 q222) rfl (xcP (xok_putfield (ref := "WaysAtlas$Guard") (Or.inr (Or.inr ⟨rfl, by decide, rfl⟩)) dX31_init_9 (Or.inl ⟨q1195, (Or.inl rfl)⟩) (Or.inl rfl) xh1136) rfl (xcP (xok_aload_n dX31_init_12 rfl) rfl (xcP (xok_iconst dX31_init_13 rfl) rfl (xcP (xok_anewarrayA (by decide) (by decide) rfl dX31_init_14 q1188 (List.mem_of_getElem? (i := 0) rfl)) rfl (xcP (xok_putfield (ref := "WaysAtlas$Guard") (Or.inr (Or.inr ⟨rfl, by decide, rfl⟩)) dX31_init_17 (Or.inl ⟨q1198, (Or.inl rfl)⟩) (Or.inl rfl) xh1137) rfl (xcP (xok_aload_n dX31_init_20 rfl) rfl (xcP (xok_iload_n dX31_init_21 rfl) rfl (xcP (xok_putfield (ref := "WaysAtlas$Guard") (Or.inl ⟨rfl, by decide, rfl⟩) dX31_init_22 (Or.inl ⟨q1190, (Or.inl rfl)⟩) (Or.inr ⟨rfl, rfl, ⟨q1190, (Or.inl rfl)⟩⟩) xh94) rfl (xcR ⟨dX31_init_25, rfl⟩))))))))))))))
theorem okM_X31_init : XOkM xms rX31_init := xokM0 (List.forall_mem_cons.mpr ⟨⟨rfl, okX31_init_0⟩, fun _ h => nomatch h⟩) (xokH0 rfl (fun _ _ => rfl)) (by decide +kernel) (by decide)
abbrev cX31_adds : ByteArray := prog_6_method_3_code
def dkwX31_adds_3 : List UInt8 := [180, 0, 17, 42, 180, 0, 28, 44, 83, 42, 89, 180, 0, 28, 4, 96, 181, 0, 28, 177]
abbrev dktX31_adds_3 : List UInt8 := dkwX31_adds_3 ++ []
def dkwX31_adds_2 : List UInt8 := [180, 0, 28, 184, 0, 37, 42, 45, 181, 0, 17, 42, 180, 0, 9, 42, 180, 0, 28, 27, 79, 42]
abbrev dktX31_adds_2 : List UInt8 := dkwX31_adds_2 ++ dktX31_adds_3
def dkwX31_adds_1 : List UInt8 := [184, 0, 31, 181, 0, 9, 42, 180, 0, 9, 190, 189, 0, 15, 78, 42, 180, 0, 17, 3, 45, 3, 42]
abbrev dktX31_adds_1 : List UInt8 := dkwX31_adds_1 ++ dktX31_adds_2
def dkwX31_adds_0 : List UInt8 := [42, 180, 0, 28, 42, 180, 0, 9, 190, 160, 0, 48, 42, 42, 180, 0, 9, 42, 180, 0, 28, 4, 96]
abbrev dktX31_adds_0 : List UInt8 := dkwX31_adds_0 ++ dktX31_adds_1
theorem dksX31_adds_0 : cX31_adds.data.toList.drop 0 = dktX31_adds_0 := by decide +kernel
theorem dksX31_adds_1 : cX31_adds.data.toList.drop 23 = dktX31_adds_1 := dk_seg dksX31_adds_0 23 rfl rfl
theorem dksX31_adds_2 : cX31_adds.data.toList.drop 46 = dktX31_adds_2 := dk_seg dksX31_adds_1 23 rfl rfl
theorem dksX31_adds_3 : cX31_adds.data.toList.drop 68 = dktX31_adds_3 := dk_seg dksX31_adds_2 22 rfl rfl
theorem dX31_adds_0 : decode cX31_adds 0 = .ok (.aload_n 0, 1) := dk_42 (dk_at dksX31_adds_0 0 rfl rfl)
theorem dX31_adds_1 : decode cX31_adds 1 = .ok (.getfield 28, 3) := dk_180 0 28 (dk_at dksX31_adds_0 1 rfl rfl)
theorem dX31_adds_4 : decode cX31_adds 4 = .ok (.aload_n 0, 1) := dk_42 (dk_at dksX31_adds_0 4 rfl rfl)
theorem dX31_adds_5 : decode cX31_adds 5 = .ok (.getfield 9, 3) := dk_180 0 9 (dk_at dksX31_adds_0 5 rfl rfl)
theorem dX31_adds_8 : decode cX31_adds 8 = .ok (.arraylength, 1) := dk_190 (dk_at dksX31_adds_0 8 rfl rfl)
theorem dX31_adds_9 : decode cX31_adds 9 = .ok (.if_icmp .ne 48, 3) := dk_160 0 48 (dk_at dksX31_adds_0 9 rfl rfl)
theorem dX31_adds_12 : decode cX31_adds 12 = .ok (.aload_n 0, 1) := dk_42 (dk_at dksX31_adds_0 12 rfl rfl)
theorem dX31_adds_13 : decode cX31_adds 13 = .ok (.aload_n 0, 1) := dk_42 (dk_at dksX31_adds_0 13 rfl rfl)
theorem dX31_adds_14 : decode cX31_adds 14 = .ok (.getfield 9, 3) := dk_180 0 9 (dk_at dksX31_adds_0 14 rfl rfl)
theorem dX31_adds_17 : decode cX31_adds 17 = .ok (.aload_n 0, 1) := dk_42 (dk_at dksX31_adds_0 17 rfl rfl)
theorem dX31_adds_18 : decode cX31_adds 18 = .ok (.getfield 28, 3) := dk_180 0 28 (dk_at dksX31_adds_0 18 rfl rfl)
theorem dX31_adds_21 : decode cX31_adds 21 = .ok (.iconst 1, 1) := dk_4 (dk_at dksX31_adds_0 21 rfl rfl)
theorem dX31_adds_22 : decode cX31_adds 22 = .ok (.iadd, 1) := dk_96 (dk_at dksX31_adds_0 22 rfl rfl)
theorem dX31_adds_23 : decode cX31_adds 23 = .ok (.invokestatic 31, 3) := dk_184 0 31 (dk_at dksX31_adds_1 0 rfl rfl)
theorem dX31_adds_26 : decode cX31_adds 26 = .ok (.putfield 9, 3) := dk_181 0 9 (dk_at dksX31_adds_1 3 rfl rfl)
theorem dX31_adds_29 : decode cX31_adds 29 = .ok (.aload_n 0, 1) := dk_42 (dk_at dksX31_adds_1 6 rfl rfl)
theorem dX31_adds_30 : decode cX31_adds 30 = .ok (.getfield 9, 3) := dk_180 0 9 (dk_at dksX31_adds_1 7 rfl rfl)
theorem dX31_adds_33 : decode cX31_adds 33 = .ok (.arraylength, 1) := dk_190 (dk_at dksX31_adds_1 10 rfl rfl)
theorem dX31_adds_34 : decode cX31_adds 34 = .ok (.anewarray 15, 3) := dk_189 0 15 (dk_at dksX31_adds_1 11 rfl rfl)
theorem dX31_adds_37 : decode cX31_adds 37 = .ok (.astore_n 3, 1) := dk_78 (dk_at dksX31_adds_1 14 rfl rfl)
theorem dX31_adds_38 : decode cX31_adds 38 = .ok (.aload_n 0, 1) := dk_42 (dk_at dksX31_adds_1 15 rfl rfl)
theorem dX31_adds_39 : decode cX31_adds 39 = .ok (.getfield 17, 3) := dk_180 0 17 (dk_at dksX31_adds_1 16 rfl rfl)
theorem dX31_adds_42 : decode cX31_adds 42 = .ok (.iconst 0, 1) := dk_3 (dk_at dksX31_adds_1 19 rfl rfl)
theorem dX31_adds_43 : decode cX31_adds 43 = .ok (.aload_n 3, 1) := dk_45 (dk_at dksX31_adds_1 20 rfl rfl)
theorem dX31_adds_44 : decode cX31_adds 44 = .ok (.iconst 0, 1) := dk_3 (dk_at dksX31_adds_1 21 rfl rfl)
theorem dX31_adds_45 : decode cX31_adds 45 = .ok (.aload_n 0, 1) := dk_42 (dk_at dksX31_adds_1 22 rfl rfl)
theorem dX31_adds_46 : decode cX31_adds 46 = .ok (.getfield 28, 3) := dk_180 0 28 (dk_at dksX31_adds_2 0 rfl rfl)
theorem dX31_adds_49 : decode cX31_adds 49 = .ok (.invokestatic 37, 3) := dk_184 0 37 (dk_at dksX31_adds_2 3 rfl rfl)
theorem dX31_adds_52 : decode cX31_adds 52 = .ok (.aload_n 0, 1) := dk_42 (dk_at dksX31_adds_2 6 rfl rfl)
theorem dX31_adds_53 : decode cX31_adds 53 = .ok (.aload_n 3, 1) := dk_45 (dk_at dksX31_adds_2 7 rfl rfl)
theorem dX31_adds_54 : decode cX31_adds 54 = .ok (.putfield 17, 3) := dk_181 0 17 (dk_at dksX31_adds_2 8 rfl rfl)
theorem dX31_adds_57 : decode cX31_adds 57 = .ok (.aload_n 0, 1) := dk_42 (dk_at dksX31_adds_2 11 rfl rfl)
theorem dX31_adds_58 : decode cX31_adds 58 = .ok (.getfield 9, 3) := dk_180 0 9 (dk_at dksX31_adds_2 12 rfl rfl)
theorem dX31_adds_61 : decode cX31_adds 61 = .ok (.aload_n 0, 1) := dk_42 (dk_at dksX31_adds_2 15 rfl rfl)
theorem dX31_adds_62 : decode cX31_adds 62 = .ok (.getfield 28, 3) := dk_180 0 28 (dk_at dksX31_adds_2 16 rfl rfl)
theorem dX31_adds_65 : decode cX31_adds 65 = .ok (.iload_n 1, 1) := dk_27 (dk_at dksX31_adds_2 19 rfl rfl)
theorem dX31_adds_66 : decode cX31_adds 66 = .ok (.iastore, 1) := dk_79 (dk_at dksX31_adds_2 20 rfl rfl)
theorem dX31_adds_67 : decode cX31_adds 67 = .ok (.aload_n 0, 1) := dk_42 (dk_at dksX31_adds_2 21 rfl rfl)
theorem dX31_adds_68 : decode cX31_adds 68 = .ok (.getfield 17, 3) := dk_180 0 17 (dk_at dksX31_adds_3 0 rfl rfl)
theorem dX31_adds_71 : decode cX31_adds 71 = .ok (.aload_n 0, 1) := dk_42 (dk_at dksX31_adds_3 3 rfl rfl)
theorem dX31_adds_72 : decode cX31_adds 72 = .ok (.getfield 28, 3) := dk_180 0 28 (dk_at dksX31_adds_3 4 rfl rfl)
theorem dX31_adds_75 : decode cX31_adds 75 = .ok (.aload_n 2, 1) := dk_44 (dk_at dksX31_adds_3 7 rfl rfl)
theorem dX31_adds_76 : decode cX31_adds 76 = .ok (.aastore, 1) := dk_83 (dk_at dksX31_adds_3 8 rfl rfl)
theorem dX31_adds_77 : decode cX31_adds 77 = .ok (.aload_n 0, 1) := dk_42 (dk_at dksX31_adds_3 9 rfl rfl)
theorem dX31_adds_78 : decode cX31_adds 78 = .ok (.dup, 1) := dk_89 (dk_at dksX31_adds_3 10 rfl rfl)
theorem dX31_adds_79 : decode cX31_adds 79 = .ok (.getfield 28, 3) := dk_180 0 28 (dk_at dksX31_adds_3 11 rfl rfl)
theorem dX31_adds_82 : decode cX31_adds 82 = .ok (.iconst 1, 1) := dk_4 (dk_at dksX31_adds_3 14 rfl rfl)
theorem dX31_adds_83 : decode cX31_adds 83 = .ok (.iadd, 1) := dk_96 (dk_at dksX31_adds_3 15 rfl rfl)
theorem dX31_adds_84 : decode cX31_adds 84 = .ok (.putfield 28, 3) := dk_181 0 28 (dk_at dksX31_adds_3 16 rfl rfl)
theorem dX31_adds_87 : decode cX31_adds 87 = .ok (.return_, 1) := dk_177 (dk_at dksX31_adds_3 19 rfl rfl)
theorem okX31_adds_0 : XOkL xms rX31_adds bX31_adds_0 := xcP (xok_aload_n dX31_adds_0 rfl) rfl (xcP (xok_getfield (ref := "WaysAtlas$Guard") (Or.inl ⟨rfl, by decide⟩) dX31_adds_1 (Or.inl ⟨q1201, (Or.inl rfl)⟩) xh95) rfl (xcP (xok_aload_n dX31_adds_4 rfl) rfl (xcP (xok_getfield (ref := "WaysAtlas$Guard") (Or.inr ⟨rfl, by decide⟩) dX31_adds_5 (Or.inl ⟨q1195, (Or.inl rfl)⟩) xh1136) rfl (xcP (xok_len dX31_adds_8) rfl (xcP (xok_icmpne dX31_adds_9 (by decide)) rfl (xcP (xok_aload_n dX31_adds_12 rfl) rfl (xcP (xok_aload_n dX31_adds_13 rfl) rfl (xcP (xok_getfield (ref := "WaysAtlas$Guard") (Or.inr ⟨rfl, by decide⟩) dX31_adds_14 (Or.inl ⟨q1195, (Or.inl rfl)⟩) xh1136) rfl (xcP (xok_aload_n dX31_adds_17 rfl) rfl (xcP (xok_getfield (ref := "WaysAtlas$Guard") (Or.inl ⟨rfl, by decide⟩) dX31_adds_18 (Or.inl ⟨q1201, (Or.inl rfl)⟩) xh95) rfl (xcP (xok_iconst dX31_adds_21 rfl) rfl (xcP (xok_iadd dX31_adds_22) rfl (xcC0 (xokc_SN (host := "WaysAtlas") xm267 rfl dX31_adds_23 (List.mem_of_getElem? (i := 0) rfl) q1226 q177 q1227 (by decide +kernel)) rfl (xcP (xok_putfield (ref := "WaysAtlas$Guard") (Or.inr (Or.inr ⟨rfl, by decide, rfl⟩)) dX31_adds_26 (Or.inl ⟨q1195, (Or.inl rfl)⟩) (Or.inl rfl) xh1136) rfl (xcP (xok_aload_n dX31_adds_29 rfl) rfl (xcP (xok_getfield (ref := "WaysAtlas$Guard") (Or.inr ⟨rfl, by decide⟩) dX31_adds_30 (Or.inl ⟨q1195, (Or.inl rfl)⟩) xh1136) rfl (xcP (xok_len dX31_adds_33) rfl (xcP (xok_anewarrayA (by decide) (by decide) rfl dX31_adds_34 q1188 (List.mem_of_getElem? (i := 0) rfl)) rfl (xcP (xok_astore_n dX31_adds_37 rfl) rfl (xcP (xok_aload_n dX31_adds_38 rfl) rfl (xcP (xok_getfield (ref := "WaysAtlas$Guard") (Or.inr ⟨rfl, by decide⟩) dX31_adds_39 (Or.inl ⟨q1198, (Or.inl rfl)⟩) xh1137) rfl (xcP (xok_iconst dX31_adds_42 rfl) rfl (xcP (xok_aload_n dX31_adds_43 rfl) rfl (xcP (xok_iconst dX31_adds_44 rfl) rfl (xcP (xok_aload_n dX31_adds_45 rfl) rfl (xcP (xok_getfield (ref := "WaysAtlas$Guard") (Or.inl ⟨rfl, by decide⟩) dX31_adds_46 (Or.inl ⟨q1201, (Or.inl rfl)⟩) xh95) rfl (xcP (xok_cpA dX31_adds_49 q1231) rfl (xcP (xok_aload_n dX31_adds_52 rfl) rfl (xcP (xok_aload_n dX31_adds_53 rfl) rfl (xcP (xok_putfield (ref := "WaysAtlas$Guard") (Or.inr (Or.inr ⟨rfl, by decide, rfl⟩)) dX31_adds_54 (Or.inl ⟨q1198, (Or.inl rfl)⟩) (Or.inl rfl) xh1137) rfl (xcP xok_fal rfl trivial)))))))))))))))))))))))))))))))
theorem okX31_adds_57 : XOkL xms rX31_adds bX31_adds_57 := xcP (xok_aload_n dX31_adds_57 rfl) rfl (xcP (xok_getfield (ref := "WaysAtlas$Guard") (Or.inr ⟨rfl, by decide⟩) dX31_adds_58 (Or.inl ⟨q1195, (Or.inl rfl)⟩) xh1136) rfl (xcP (xok_aload_n dX31_adds_61 rfl) rfl (xcP (xok_getfield (ref := "WaysAtlas$Guard") (Or.inl ⟨rfl, by decide⟩) dX31_adds_62 (Or.inl ⟨q1201, (Or.inl rfl)⟩) xh95) rfl (xcP (xok_iload_n dX31_adds_65 rfl) rfl (xcP (xok_iastore dX31_adds_66) rfl (xcP (xok_aload_n dX31_adds_67 rfl) rfl (xcP (xok_getfield (ref := "WaysAtlas$Guard") (Or.inr ⟨rfl, by decide⟩) dX31_adds_68 (Or.inl ⟨q1198, (Or.inl rfl)⟩) xh1137) rfl (xcP (xok_aload_n dX31_adds_71 rfl) rfl (xcP (xok_getfield (ref := "WaysAtlas$Guard") (Or.inl ⟨rfl, by decide⟩) dX31_adds_72 (Or.inl ⟨q1201, (Or.inl rfl)⟩) xh95) rfl (xcP (xok_aload_n dX31_adds_75 rfl) rfl (xcP (xok_aastoreA dX31_adds_76) rfl (xcP (xok_aload_n dX31_adds_77 rfl) rfl (xcP (xok_dup dX31_adds_78) rfl (xcP (xok_getfield (ref := "WaysAtlas$Guard") (Or.inl ⟨rfl, by decide⟩) dX31_adds_79 (Or.inl ⟨q1201, (Or.inl rfl)⟩) xh95) rfl (xcP (xok_iconst dX31_adds_82 rfl) rfl (xcP (xok_iadd dX31_adds_83) rfl (xcP (xok_putfield (ref := "WaysAtlas$Guard") (Or.inl ⟨rfl, by decide, rfl⟩) dX31_adds_84 (Or.inl ⟨q1201, (Or.inl rfl)⟩) (Or.inl rfl) xh95) rfl (xcR ⟨dX31_adds_87, rfl⟩))))))))))))))))))
theorem okM_X31_adds : XOkM xms rX31_adds := xokM0 (List.forall_mem_cons.mpr ⟨⟨rfl, okX31_adds_0⟩, List.forall_mem_cons.mpr ⟨⟨rfl, okX31_adds_57⟩, fun _ h => nomatch h⟩⟩) (xokH0 rfl (fun _ _ => rfl)) (by decide +kernel) (by decide)
abbrev cX31_tells : ByteArray := prog_6_method_10_code
def dkwX31_tells_0 : List UInt8 := [43, 42, 182, 0, 124, 177]
abbrev dktX31_tells_0 : List UInt8 := dkwX31_tells_0 ++ []
theorem dksX31_tells_0 : cX31_tells.data.toList.drop 0 = dktX31_tells_0 := by decide +kernel
theorem dX31_tells_0 : decode cX31_tells 0 = .ok (.aload_n 1, 1) := dk_43 (dk_at dksX31_tells_0 0 rfl rfl)
theorem dX31_tells_1 : decode cX31_tells 1 = .ok (.aload_n 0, 1) := dk_42 (dk_at dksX31_tells_0 1 rfl rfl)
theorem dX31_tells_2 : decode cX31_tells 2 = .ok (.invokevirtual 124, 3) := dk_182 0 124 (dk_at dksX31_tells_0 2 rfl rfl)
theorem dX31_tells_5 : decode cX31_tells 5 = .ok (.return_, 1) := dk_177 (dk_at dksX31_tells_0 5 rfl rfl)
theorem okX31_tells_0 : XOkL xms rX31_tells bX31_tells_0 := xcP (xok_aload_n dX31_tells_0 rfl) rfl (xcP (xok_aload_n dX31_tells_1 rfl) rfl (xcC0 (xokc_list (List.forall_mem_cons.mpr ⟨xokc_V (r := (RX33, TX33, 6)) xm277 (List.mem_of_getElem? (i := 30) rfl) (by decide) rfl dX31_tells_2 q1308 q1309 q1310 q179 q1311 (by decide +kernel), fun _ h => nomatch h⟩)) rfl (xcR ⟨dX31_tells_5, rfl⟩)))
theorem okM_X31_tells : XOkM xms rX31_tells := xokM0 (List.forall_mem_cons.mpr ⟨⟨rfl, okX31_tells_0⟩, fun _ h => nomatch h⟩) (xokH0 rfl (fun _ _ => rfl)) (by decide +kernel) (by decide)
abbrev cX31_resources : ByteArray := prog_6_method_4_code
theorem dX31_resources_0 : decode cX31_resources 0 = .ok (.aload_n 0, 1) := by decide +kernel
theorem dX31_resources_1 : decode cX31_resources 1 = .ok (.getfield 21, 3) := by decide +kernel
theorem dX31_resources_4 : decode cX31_resources 4 = .ok (.ireturn, 1) := by decide +kernel
theorem okX31_resources_0 : XOkL xms rX31_resources bX31_resources_0 := xcP (xok_aload_n dX31_resources_0 rfl) rfl (xcP (xok_getfield (ref := "WaysAtlas$Guard") (Or.inl ⟨rfl, by decide⟩) dX31_resources_1 (Or.inl ⟨q1190, (Or.inl rfl)⟩) xh94) rfl (xcR ⟨dX31_resources_4, rfl⟩))
theorem okM_X31_resources : XOkM xms rX31_resources := xokM0 (List.forall_mem_cons.mpr ⟨⟨rfl, okX31_resources_0⟩, fun _ h => nomatch h⟩) (xokH0 rfl (fun _ _ => rfl)) (by decide +kernel) (by decide)
abbrev cX31_slot : ByteArray := prog_6_method_2_code
def dkwX31_slot_0 : List UInt8 := [16, 8, 42, 180, 0, 25, 104, 27, 96, 172]
abbrev dktX31_slot_0 : List UInt8 := dkwX31_slot_0 ++ []
theorem dksX31_slot_0 : cX31_slot.data.toList.drop 0 = dktX31_slot_0 := by decide +kernel
theorem dX31_slot_0 : decode cX31_slot 0 = .ok (.bipush 8, 2) := dk_16 8 (dk_at dksX31_slot_0 0 rfl rfl)
theorem dX31_slot_2 : decode cX31_slot 2 = .ok (.aload_n 0, 1) := dk_42 (dk_at dksX31_slot_0 2 rfl rfl)
theorem dX31_slot_3 : decode cX31_slot 3 = .ok (.getfield 25, 3) := dk_180 0 25 (dk_at dksX31_slot_0 3 rfl rfl)
theorem dX31_slot_6 : decode cX31_slot 6 = .ok (.imul, 1) := dk_104 (dk_at dksX31_slot_0 6 rfl rfl)
theorem dX31_slot_7 : decode cX31_slot 7 = .ok (.iload_n 1, 1) := dk_27 (dk_at dksX31_slot_0 7 rfl rfl)
theorem dX31_slot_8 : decode cX31_slot 8 = .ok (.iadd, 1) := dk_96 (dk_at dksX31_slot_0 8 rfl rfl)
theorem dX31_slot_9 : decode cX31_slot 9 = .ok (.ireturn, 1) := dk_172 (dk_at dksX31_slot_0 9 rfl rfl)
theorem okX31_slot_0 : XOkL xms rX31_slot bX31_slot_0 := xcP (xok_bipush dX31_slot_0 rfl) rfl (xcP (xok_aload_n dX31_slot_2 rfl) rfl (xcP (xok_getfield (ref := "WaysAtlas$Guard") (Or.inl ⟨rfl, by decide⟩) dX31_slot_3 (Or.inl ⟨q970, (Or.inr q971)⟩) xh82) rfl (xcP (xok_imul dX31_slot_6) rfl (xcP (xok_iload_n dX31_slot_7 rfl) rfl (xcP (xok_iadd dX31_slot_8) rfl (xcR ⟨dX31_slot_9, rfl⟩))))))
theorem okM_X31_slot : XOkM xms rX31_slot := xokM0 (List.forall_mem_cons.mpr ⟨⟨rfl, okX31_slot_0⟩, fun _ h => nomatch h⟩) (xokH0 rfl (fun _ _ => rfl)) (by decide +kernel) (by decide)
abbrev cX31_walk : ByteArray := prog_6_method_9_code
def dkwX31_walk_6 : List UInt8 := [182, 0, 97, 191, 44, 21, 5, 181, 0, 115, 21, 4, 172]
abbrev dktX31_walk_6 : List UInt8 := dkwX31_walk_6 ++ []
def dkwX31_walk_5 : List UInt8 := [167, 0, 4, 4, 96, 181, 0, 121, 21, 6, 172, 29, 16, 247, 159, 0, 12, 43, 180, 0, 93, 29]
abbrev dktX31_walk_5 : List UInt8 := dkwX31_walk_5 ++ dktX31_walk_6
def dkwX31_walk_4 : List UInt8 := [181, 0, 121, 25, 7, 191, 21, 6, 153, 0, 26, 43, 89, 180, 0, 121, 29, 16, 247, 160, 0, 7, 3]
abbrev dktX31_walk_4 : List UInt8 := dkwX31_walk_4 ++ dktX31_walk_5
def dkwX31_walk_3 : List UInt8 := [54, 6, 167, 0, 28, 58, 7, 43, 89, 180, 0, 121, 29, 16, 247, 160, 0, 7, 3, 167, 0, 4, 4, 96]
abbrev dktX31_walk_3 : List UInt8 := dkwX31_walk_3 ++ dktX31_walk_4
def dkwX31_walk_2 : List UInt8 := [180, 0, 118, 42, 180, 0, 25, 92, 46, 4, 96, 79, 3, 54, 6, 42, 180, 0, 43, 43, 44, 184, 0, 77]
abbrev dktX31_walk_2 : List UInt8 := dkwX31_walk_2 ++ dktX31_walk_3
def dkwX31_walk_1 : List UInt8 := [182, 0, 112, 54, 4, 167, 0, 11, 58, 5, 25, 5, 180, 0, 83, 62, 44, 180, 0, 115, 54, 5, 43]
abbrev dktX31_walk_1 : List UInt8 := dkwX31_walk_1 ++ dktX31_walk_2
def dkwX31_walk_0 : List UInt8 := [42, 180, 0, 43, 199, 0, 10, 42, 43, 44, 182, 0, 112, 172, 16, 247, 62, 3, 54, 4, 42, 43, 44]
abbrev dktX31_walk_0 : List UInt8 := dkwX31_walk_0 ++ dktX31_walk_1
theorem dksX31_walk_0 : cX31_walk.data.toList.drop 0 = dktX31_walk_0 := by decide +kernel
theorem dksX31_walk_1 : cX31_walk.data.toList.drop 23 = dktX31_walk_1 := dk_seg dksX31_walk_0 23 rfl rfl
theorem dksX31_walk_2 : cX31_walk.data.toList.drop 46 = dktX31_walk_2 := dk_seg dksX31_walk_1 23 rfl rfl
theorem dksX31_walk_3 : cX31_walk.data.toList.drop 70 = dktX31_walk_3 := dk_seg dksX31_walk_2 24 rfl rfl
theorem dksX31_walk_4 : cX31_walk.data.toList.drop 94 = dktX31_walk_4 := dk_seg dksX31_walk_3 24 rfl rfl
theorem dksX31_walk_5 : cX31_walk.data.toList.drop 117 = dktX31_walk_5 := dk_seg dksX31_walk_4 23 rfl rfl
theorem dksX31_walk_6 : cX31_walk.data.toList.drop 139 = dktX31_walk_6 := dk_seg dksX31_walk_5 22 rfl rfl
theorem dX31_walk_0 : decode cX31_walk 0 = .ok (.aload_n 0, 1) := dk_42 (dk_at dksX31_walk_0 0 rfl rfl)
theorem dX31_walk_1 : decode cX31_walk 1 = .ok (.getfield 43, 3) := dk_180 0 43 (dk_at dksX31_walk_0 1 rfl rfl)
theorem dX31_walk_4 : decode cX31_walk 4 = .ok (.ifnonnull 10, 3) := dk_199 0 10 (dk_at dksX31_walk_0 4 rfl rfl)
theorem dX31_walk_7 : decode cX31_walk 7 = .ok (.aload_n 0, 1) := dk_42 (dk_at dksX31_walk_0 7 rfl rfl)
theorem dX31_walk_8 : decode cX31_walk 8 = .ok (.aload_n 1, 1) := dk_43 (dk_at dksX31_walk_0 8 rfl rfl)
theorem dX31_walk_9 : decode cX31_walk 9 = .ok (.aload_n 2, 1) := dk_44 (dk_at dksX31_walk_0 9 rfl rfl)
theorem dX31_walk_10 : decode cX31_walk 10 = .ok (.invokevirtual 112, 3) := dk_182 0 112 (dk_at dksX31_walk_0 10 rfl rfl)
theorem dX31_walk_13 : decode cX31_walk 13 = .ok (.ireturn, 1) := dk_172 (dk_at dksX31_walk_0 13 rfl rfl)
theorem dX31_walk_14 : decode cX31_walk 14 = .ok (.bipush (-9), 2) := dk_16 247 (dk_at dksX31_walk_0 14 rfl rfl)
theorem dX31_walk_16 : decode cX31_walk 16 = .ok (.istore_n 3, 1) := dk_62 (dk_at dksX31_walk_0 16 rfl rfl)
theorem dX31_walk_17 : decode cX31_walk 17 = .ok (.iconst 0, 1) := dk_3 (dk_at dksX31_walk_0 17 rfl rfl)
theorem dX31_walk_18 : decode cX31_walk 18 = .ok (.istore 4, 2) := dk_54 4 (dk_at dksX31_walk_0 18 rfl rfl)
theorem dX31_walk_20 : decode cX31_walk 20 = .ok (.aload_n 0, 1) := dk_42 (dk_at dksX31_walk_0 20 rfl rfl)
theorem dX31_walk_21 : decode cX31_walk 21 = .ok (.aload_n 1, 1) := dk_43 (dk_at dksX31_walk_0 21 rfl rfl)
theorem dX31_walk_22 : decode cX31_walk 22 = .ok (.aload_n 2, 1) := dk_44 (dk_at dksX31_walk_0 22 rfl rfl)
theorem dX31_walk_23 : decode cX31_walk 23 = .ok (.invokevirtual 112, 3) := dk_182 0 112 (dk_at dksX31_walk_1 0 rfl rfl)
theorem dX31_walk_26 : decode cX31_walk 26 = .ok (.istore 4, 2) := dk_54 4 (dk_at dksX31_walk_1 3 rfl rfl)
theorem dX31_walk_28 : decode cX31_walk 28 = .ok (.goto 11, 3) := dk_167 0 11 (dk_at dksX31_walk_1 5 rfl rfl)
theorem dX31_walk_31 : decode cX31_walk 31 = .ok (.astore 5, 2) := dk_58 5 (dk_at dksX31_walk_1 8 rfl rfl)
theorem dX31_walk_33 : decode cX31_walk 33 = .ok (.aload 5, 2) := dk_25 5 (dk_at dksX31_walk_1 10 rfl rfl)
theorem dX31_walk_35 : decode cX31_walk 35 = .ok (.getfield 83, 3) := dk_180 0 83 (dk_at dksX31_walk_1 12 rfl rfl)
theorem dX31_walk_38 : decode cX31_walk 38 = .ok (.istore_n 3, 1) := dk_62 (dk_at dksX31_walk_1 15 rfl rfl)
theorem dX31_walk_39 : decode cX31_walk 39 = .ok (.aload_n 2, 1) := dk_44 (dk_at dksX31_walk_1 16 rfl rfl)
theorem dX31_walk_40 : decode cX31_walk 40 = .ok (.getfield 115, 3) := dk_180 0 115 (dk_at dksX31_walk_1 17 rfl rfl)
theorem dX31_walk_43 : decode cX31_walk 43 = .ok (.istore 5, 2) := dk_54 5 (dk_at dksX31_walk_1 20 rfl rfl)
theorem dX31_walk_45 : decode cX31_walk 45 = .ok (.aload_n 1, 1) := dk_43 (dk_at dksX31_walk_1 22 rfl rfl)
theorem dX31_walk_46 : decode cX31_walk 46 = .ok (.getfield 118, 3) := dk_180 0 118 (dk_at dksX31_walk_2 0 rfl rfl)
theorem dX31_walk_49 : decode cX31_walk 49 = .ok (.aload_n 0, 1) := dk_42 (dk_at dksX31_walk_2 3 rfl rfl)
theorem dX31_walk_50 : decode cX31_walk 50 = .ok (.getfield 25, 3) := dk_180 0 25 (dk_at dksX31_walk_2 4 rfl rfl)
theorem dX31_walk_53 : decode cX31_walk 53 = .ok (.dup2, 1) := dk_92 (dk_at dksX31_walk_2 7 rfl rfl)
theorem dX31_walk_54 : decode cX31_walk 54 = .ok (.iaload, 1) := dk_46 (dk_at dksX31_walk_2 8 rfl rfl)
theorem dX31_walk_55 : decode cX31_walk 55 = .ok (.iconst 1, 1) := dk_4 (dk_at dksX31_walk_2 9 rfl rfl)
theorem dX31_walk_56 : decode cX31_walk 56 = .ok (.iadd, 1) := dk_96 (dk_at dksX31_walk_2 10 rfl rfl)
theorem dX31_walk_57 : decode cX31_walk 57 = .ok (.iastore, 1) := dk_79 (dk_at dksX31_walk_2 11 rfl rfl)
theorem dX31_walk_58 : decode cX31_walk 58 = .ok (.iconst 0, 1) := dk_3 (dk_at dksX31_walk_2 12 rfl rfl)
theorem dX31_walk_59 : decode cX31_walk 59 = .ok (.istore 6, 2) := dk_54 6 (dk_at dksX31_walk_2 13 rfl rfl)
theorem dX31_walk_61 : decode cX31_walk 61 = .ok (.aload_n 0, 1) := dk_42 (dk_at dksX31_walk_2 15 rfl rfl)
theorem dX31_walk_62 : decode cX31_walk 62 = .ok (.getfield 43, 3) := dk_180 0 43 (dk_at dksX31_walk_2 16 rfl rfl)
theorem dX31_walk_65 : decode cX31_walk 65 = .ok (.aload_n 1, 1) := dk_43 (dk_at dksX31_walk_2 19 rfl rfl)
theorem dX31_walk_66 : decode cX31_walk 66 = .ok (.aload_n 2, 1) := dk_44 (dk_at dksX31_walk_2 20 rfl rfl)
theorem dX31_walk_67 : decode cX31_walk 67 = .ok (.invokestatic 77, 3) := dk_184 0 77 (dk_at dksX31_walk_2 21 rfl rfl)
theorem dX31_walk_70 : decode cX31_walk 70 = .ok (.istore 6, 2) := dk_54 6 (dk_at dksX31_walk_3 0 rfl rfl)
theorem dX31_walk_72 : decode cX31_walk 72 = .ok (.goto 28, 3) := dk_167 0 28 (dk_at dksX31_walk_3 2 rfl rfl)
theorem dX31_walk_75 : decode cX31_walk 75 = .ok (.astore 7, 2) := dk_58 7 (dk_at dksX31_walk_3 5 rfl rfl)
theorem dX31_walk_77 : decode cX31_walk 77 = .ok (.aload_n 1, 1) := dk_43 (dk_at dksX31_walk_3 7 rfl rfl)
theorem dX31_walk_78 : decode cX31_walk 78 = .ok (.dup, 1) := dk_89 (dk_at dksX31_walk_3 8 rfl rfl)
theorem dX31_walk_79 : decode cX31_walk 79 = .ok (.getfield 121, 3) := dk_180 0 121 (dk_at dksX31_walk_3 9 rfl rfl)
theorem dX31_walk_82 : decode cX31_walk 82 = .ok (.iload_n 3, 1) := dk_29 (dk_at dksX31_walk_3 12 rfl rfl)
theorem dX31_walk_83 : decode cX31_walk 83 = .ok (.bipush (-9), 2) := dk_16 247 (dk_at dksX31_walk_3 13 rfl rfl)
theorem dX31_walk_85 : decode cX31_walk 85 = .ok (.if_icmp .ne 7, 3) := dk_160 0 7 (dk_at dksX31_walk_3 15 rfl rfl)
theorem dX31_walk_88 : decode cX31_walk 88 = .ok (.iconst 0, 1) := dk_3 (dk_at dksX31_walk_3 18 rfl rfl)
theorem dX31_walk_89 : decode cX31_walk 89 = .ok (.goto 4, 3) := dk_167 0 4 (dk_at dksX31_walk_3 19 rfl rfl)
theorem dX31_walk_92 : decode cX31_walk 92 = .ok (.iconst 1, 1) := dk_4 (dk_at dksX31_walk_3 22 rfl rfl)
theorem dX31_walk_93 : decode cX31_walk 93 = .ok (.iadd, 1) := dk_96 (dk_at dksX31_walk_3 23 rfl rfl)
theorem dX31_walk_94 : decode cX31_walk 94 = .ok (.putfield 121, 3) := dk_181 0 121 (dk_at dksX31_walk_4 0 rfl rfl)
theorem dX31_walk_97 : decode cX31_walk 97 = .ok (.aload 7, 2) := dk_25 7 (dk_at dksX31_walk_4 3 rfl rfl)
theorem dX31_walk_99 : decode cX31_walk 99 = .ok (.athrow, 1) := dk_191 (dk_at dksX31_walk_4 5 rfl rfl)
theorem dX31_walk_100 : decode cX31_walk 100 = .ok (.iload 6, 2) := dk_21 6 (dk_at dksX31_walk_4 6 rfl rfl)
theorem dX31_walk_102 : decode cX31_walk 102 = .ok (.ifCond .eq 26, 3) := dk_153 0 26 (dk_at dksX31_walk_4 8 rfl rfl)
theorem dX31_walk_105 : decode cX31_walk 105 = .ok (.aload_n 1, 1) := dk_43 (dk_at dksX31_walk_4 11 rfl rfl)
theorem dX31_walk_106 : decode cX31_walk 106 = .ok (.dup, 1) := dk_89 (dk_at dksX31_walk_4 12 rfl rfl)
theorem dX31_walk_107 : decode cX31_walk 107 = .ok (.getfield 121, 3) := dk_180 0 121 (dk_at dksX31_walk_4 13 rfl rfl)
theorem dX31_walk_110 : decode cX31_walk 110 = .ok (.iload_n 3, 1) := dk_29 (dk_at dksX31_walk_4 16 rfl rfl)
theorem dX31_walk_111 : decode cX31_walk 111 = .ok (.bipush (-9), 2) := dk_16 247 (dk_at dksX31_walk_4 17 rfl rfl)
theorem dX31_walk_113 : decode cX31_walk 113 = .ok (.if_icmp .ne 7, 3) := dk_160 0 7 (dk_at dksX31_walk_4 19 rfl rfl)
theorem dX31_walk_116 : decode cX31_walk 116 = .ok (.iconst 0, 1) := dk_3 (dk_at dksX31_walk_4 22 rfl rfl)
theorem dX31_walk_117 : decode cX31_walk 117 = .ok (.goto 4, 3) := dk_167 0 4 (dk_at dksX31_walk_5 0 rfl rfl)
theorem dX31_walk_120 : decode cX31_walk 120 = .ok (.iconst 1, 1) := dk_4 (dk_at dksX31_walk_5 3 rfl rfl)
theorem dX31_walk_121 : decode cX31_walk 121 = .ok (.iadd, 1) := dk_96 (dk_at dksX31_walk_5 4 rfl rfl)
theorem dX31_walk_122 : decode cX31_walk 122 = .ok (.putfield 121, 3) := dk_181 0 121 (dk_at dksX31_walk_5 5 rfl rfl)
theorem dX31_walk_125 : decode cX31_walk 125 = .ok (.iload 6, 2) := dk_21 6 (dk_at dksX31_walk_5 8 rfl rfl)
theorem dX31_walk_127 : decode cX31_walk 127 = .ok (.ireturn, 1) := dk_172 (dk_at dksX31_walk_5 10 rfl rfl)
theorem dX31_walk_128 : decode cX31_walk 128 = .ok (.iload_n 3, 1) := dk_29 (dk_at dksX31_walk_5 11 rfl rfl)
theorem dX31_walk_129 : decode cX31_walk 129 = .ok (.bipush (-9), 2) := dk_16 247 (dk_at dksX31_walk_5 12 rfl rfl)
theorem dX31_walk_131 : decode cX31_walk 131 = .ok (.if_icmp .eq 12, 3) := dk_159 0 12 (dk_at dksX31_walk_5 14 rfl rfl)
theorem dX31_walk_134 : decode cX31_walk 134 = .ok (.aload_n 1, 1) := dk_43 (dk_at dksX31_walk_5 17 rfl rfl)
theorem dX31_walk_135 : decode cX31_walk 135 = .ok (.getfield 93, 3) := dk_180 0 93 (dk_at dksX31_walk_5 18 rfl rfl)
theorem dX31_walk_138 : decode cX31_walk 138 = .ok (.iload_n 3, 1) := dk_29 (dk_at dksX31_walk_5 21 rfl rfl)
theorem dX31_walk_139 : decode cX31_walk 139 = .ok (.invokevirtual 97, 3) := dk_182 0 97 (dk_at dksX31_walk_6 0 rfl rfl)
theorem dX31_walk_142 : decode cX31_walk 142 = .ok (.athrow, 1) := dk_191 (dk_at dksX31_walk_6 3 rfl rfl)
theorem dX31_walk_143 : decode cX31_walk 143 = .ok (.aload_n 2, 1) := dk_44 (dk_at dksX31_walk_6 4 rfl rfl)
theorem dX31_walk_144 : decode cX31_walk 144 = .ok (.iload 5, 2) := dk_21 5 (dk_at dksX31_walk_6 5 rfl rfl)
theorem dX31_walk_146 : decode cX31_walk 146 = .ok (.putfield 115, 3) := dk_181 0 115 (dk_at dksX31_walk_6 7 rfl rfl)
theorem dX31_walk_149 : decode cX31_walk 149 = .ok (.iload 4, 2) := dk_21 4 (dk_at dksX31_walk_6 10 rfl rfl)
theorem dX31_walk_151 : decode cX31_walk 151 = .ok (.ireturn, 1) := dk_172 (dk_at dksX31_walk_6 12 rfl rfl)
theorem okX31_walk_0 : XOkL xms rX31_walk bX31_walk_0 := xcP (xok_aload_n dX31_walk_0 rfl) rfl (xcP (xok_getfield (ref := "WaysAtlas$Guard") (Or.inr ⟨rfl, by decide⟩) dX31_walk_1 (Or.inl ⟨q1204, (Or.inl rfl)⟩) xh1138) rfl (xcP (xok_ifnonnull dX31_walk_4 (by decide)) rfl (xcP (xok_aload_n dX31_walk_7 rfl) rfl (xcP (xok_aload_n dX31_walk_8 rfl) rfl (xcP (xok_aload_n dX31_walk_9 rfl) rfl (xcC0 (xokc_list (List.forall_mem_cons.mpr ⟨xokc_VX (r := (RX31, TX31, 7)) xm263 (List.mem_of_getElem? (i := 28) rfl) (by decide) (by decide) dX31_walk_10 q1654 q1656 qs44 q176 q1657 (by decide +kernel), fun _ h => nomatch h⟩)) rfl (xcR ⟨dX31_walk_13, rfl⟩)))))))
theorem okX31_walk_14 : XOkL xms rX31_walk bX31_walk_14 := xcP (xok_bipush dX31_walk_14 rfl) rfl (xcP (xok_istore_n dX31_walk_16 rfl) rfl (xcP (xok_iconst dX31_walk_17 rfl) rfl (xcP (xok_istore dX31_walk_18) rfl (xcP (xok_aload_n dX31_walk_20 rfl) rfl (xcP (xok_aload_n dX31_walk_21 rfl) rfl (xcP (xok_aload_n dX31_walk_22 rfl) rfl (xcC0 (xokc_list (List.forall_mem_cons.mpr ⟨xokc_VX (r := (RX31, TX31, 7)) xm263 (List.mem_of_getElem? (i := 28) rfl) (by decide) (by decide) dX31_walk_23 q1654 q1656 qs44 q176 q1657 (by decide +kernel), fun _ h => nomatch h⟩)) rfl (xcP (xok_istore dX31_walk_26) rfl (xcP (xok_goto dX31_walk_28 (by decide)) rfl trivial)))))))))
theorem okX31_walk_31 : XOkL xms rX31_walk bX31_walk_31 := xcP (xok_astore dX31_walk_31) rfl (xcP (xok_aload dX31_walk_33) rfl (xcP (xok_getfield (ref := "WaysAtlas$Thrown") (Or.inl ⟨rfl, by decide⟩) dX31_walk_35 (Or.inr ⟨⟨"WaysAtlas", (List.mem_of_getElem? (i := 13) rfl)⟩, (Or.inl rfl)⟩) xh33) rfl (xcP (xok_istore_n dX31_walk_38 rfl) rfl (xcP xok_fal rfl trivial))))
theorem okX31_walk_39 : XOkL xms rX31_walk bX31_walk_39 := xcP (xok_aload_n dX31_walk_39 rfl) rfl (xcP (xok_getfield (ref := "WaysAtlas$Frame") (Or.inl ⟨rfl, by decide⟩) dX31_walk_40 (Or.inr ⟨⟨"WaysAtlas", (List.mem_of_getElem? (i := 7) rfl)⟩, (Or.inl rfl)⟩) xh34) rfl (xcP (xok_istore dX31_walk_43) rfl (xcP (xok_aload_n dX31_walk_45 rfl) rfl (xcP (xok_getfield (ref := "WaysAtlas$Run") (Or.inr ⟨rfl, by decide⟩) dX31_walk_46 (Or.inr ⟨⟨"WaysAtlas", (List.mem_of_getElem? (i := 8) rfl)⟩, (Or.inl rfl)⟩) xh1041) rfl (xcP (xok_aload_n dX31_walk_49 rfl) rfl (xcP (xok_getfield (ref := "WaysAtlas$Guard") (Or.inl ⟨rfl, by decide⟩) dX31_walk_50 (Or.inl ⟨q970, (Or.inr q971)⟩) xh82) rfl (xcP (xok_dup2 dX31_walk_53) rfl (xcP (xok_iaload dX31_walk_54) rfl (xcP (xok_iconst dX31_walk_55 rfl) rfl (xcP (xok_iadd dX31_walk_56) rfl (xcP (xok_iastore dX31_walk_57) rfl (xcP (xok_iconst dX31_walk_58 rfl) rfl (xcP (xok_istore dX31_walk_59) rfl (xcP (xok_aload_n dX31_walk_61 rfl) rfl (xcP (xok_getfield (ref := "WaysAtlas$Guard") (Or.inr ⟨rfl, by decide⟩) dX31_walk_62 (Or.inl ⟨q1204, (Or.inl rfl)⟩) xh1138) rfl (xcP (xok_aload_n dX31_walk_65 rfl) rfl (xcP (xok_aload_n dX31_walk_66 rfl) rfl (xcC0 (xokc_SN (host := "WaysAtlas") xm14 rfl dX31_walk_67 (List.mem_of_getElem? (i := 1) rfl) q1591 q138 q1592 (by decide +kernel)) rfl (xcP (xok_istore dX31_walk_70) rfl (xcP (xok_goto dX31_walk_72 (by decide)) rfl trivial))))))))))))))))))))
theorem okX31_walk_75 : XOkL xms rX31_walk bX31_walk_75 := xcP (xok_astore dX31_walk_75) rfl (xcP (xok_aload_n dX31_walk_77 rfl) rfl (xcP (xok_dup dX31_walk_78) rfl (xcP (xok_getfield (ref := "WaysAtlas$Run") (Or.inl ⟨rfl, by decide⟩) dX31_walk_79 (Or.inr ⟨⟨"WaysAtlas", (List.mem_of_getElem? (i := 9) rfl)⟩, (Or.inl rfl)⟩) xh25) rfl (xcP (xok_iload_n dX31_walk_82 rfl) rfl (xcP (xok_bipush dX31_walk_83 rfl) rfl (xcP (xok_icmpne dX31_walk_85 (by decide)) rfl (xcP (xok_iconst dX31_walk_88 rfl) rfl (xcP (xok_goto dX31_walk_89 (by decide)) rfl trivial))))))))
theorem okX31_walk_92 : XOkL xms rX31_walk bX31_walk_92 := xcP (xok_iconst dX31_walk_92 rfl) rfl (xcP xok_fal rfl trivial)
theorem okX31_walk_93 : XOkL xms rX31_walk bX31_walk_93 := xcP (xok_iadd dX31_walk_93) rfl (xcP (xok_putfield (ref := "WaysAtlas$Run") (Or.inl ⟨rfl, by decide, rfl⟩) dX31_walk_94 (Or.inr ⟨⟨"WaysAtlas", (List.mem_of_getElem? (i := 9) rfl)⟩, (Or.inl rfl)⟩) (Or.inl rfl) xh25) rfl (xcP (xok_aload dX31_walk_97) rfl (xcT dX31_walk_99)))
theorem okX31_walk_100 : XOkL xms rX31_walk bX31_walk_100 := xcP (xok_iload dX31_walk_100) rfl (xcP (xok_ifeq dX31_walk_102 (by decide)) rfl (xcP (xok_aload_n dX31_walk_105 rfl) rfl (xcP (xok_dup dX31_walk_106) rfl (xcP (xok_getfield (ref := "WaysAtlas$Run") (Or.inl ⟨rfl, by decide⟩) dX31_walk_107 (Or.inr ⟨⟨"WaysAtlas", (List.mem_of_getElem? (i := 9) rfl)⟩, (Or.inl rfl)⟩) xh25) rfl (xcP (xok_iload_n dX31_walk_110 rfl) rfl (xcP (xok_bipush dX31_walk_111 rfl) rfl (xcP (xok_icmpne dX31_walk_113 (by decide)) rfl (xcP (xok_iconst dX31_walk_116 rfl) rfl (xcP (xok_goto dX31_walk_117 (by decide)) rfl trivial)))))))))
theorem okX31_walk_120 : XOkL xms rX31_walk bX31_walk_120 := xcP (xok_iconst dX31_walk_120 rfl) rfl (xcP xok_fal rfl trivial)
theorem okX31_walk_121 : XOkL xms rX31_walk bX31_walk_121 := xcP (xok_iadd dX31_walk_121) rfl (xcP (xok_putfield (ref := "WaysAtlas$Run") (Or.inl ⟨rfl, by decide, rfl⟩) dX31_walk_122 (Or.inr ⟨⟨"WaysAtlas", (List.mem_of_getElem? (i := 9) rfl)⟩, (Or.inl rfl)⟩) (Or.inl rfl) xh25) rfl (xcP (xok_iload dX31_walk_125) rfl (xcR ⟨dX31_walk_127, rfl⟩)))
theorem okX31_walk_128 : XOkL xms rX31_walk bX31_walk_128 := xcP (xok_iload_n dX31_walk_128 rfl) rfl (xcP (xok_bipush dX31_walk_129 rfl) rfl (xcP (xok_icmpeq dX31_walk_131 (by decide)) rfl (xcP (xok_aload_n dX31_walk_134 rfl) rfl (xcP (xok_getfield (ref := "WaysAtlas$Run") (Or.inr ⟨rfl, by decide⟩) dX31_walk_135 (Or.inr ⟨⟨"WaysAtlas", (List.mem_of_getElem? (i := 15) rfl)⟩, (Or.inl rfl)⟩) xh1046) rfl (xcP (xok_iload_n dX31_walk_138 rfl) rfl (xcC0 (xokc_list (List.forall_mem_cons.mpr ⟨xokc_V (r := (RX6, TX6, 7)) xm93 (List.mem_of_getElem? (i := 6) rfl) (by decide) rfl dX31_walk_139 q1685 q1576 q1577 q146 q1578 (by decide +kernel), fun _ h => nomatch h⟩)) rfl (xcT dX31_walk_142)))))))
theorem okX31_walk_143 : XOkL xms rX31_walk bX31_walk_143 := xcP (xok_aload_n dX31_walk_143 rfl) rfl (xcP (xok_iload dX31_walk_144) rfl (xcP (xok_putfield (ref := "WaysAtlas$Frame") (Or.inl ⟨rfl, by decide, rfl⟩) dX31_walk_146 (Or.inr ⟨⟨"WaysAtlas", (List.mem_of_getElem? (i := 7) rfl)⟩, (Or.inl rfl)⟩) (Or.inl rfl) xh34) rfl (xcP (xok_iload dX31_walk_149) rfl (xcR ⟨dX31_walk_151, rfl⟩))))
theorem okH_X31_walk : XOkH rX31_walk := xhand (hs := [((20, 28, 31, 81), 7, "WaysAtlas$Thrown"), ((61, 72, 75, 81), 7, "WaysAtlas$Thrown")]) rfl (List.forall_mem_cons.mpr ⟨Or.inr ⟨by decide, q1653, Or.inl ⟨rfl, rfl⟩⟩, List.forall_mem_cons.mpr ⟨Or.inr ⟨by decide, q1653, Or.inl ⟨rfl, rfl⟩⟩, fun _ h => nomatch h⟩⟩) (fun pc kd => by show hX31_walk pc kd = _; simp only [hX31_walk, xhf]; grind)
theorem okM_X31_walk : XOkM xms rX31_walk := xokM0 (List.forall_mem_cons.mpr ⟨⟨rfl, okX31_walk_0⟩, List.forall_mem_cons.mpr ⟨⟨rfl, okX31_walk_14⟩, List.forall_mem_cons.mpr ⟨⟨rfl, okX31_walk_31⟩, List.forall_mem_cons.mpr ⟨⟨rfl, okX31_walk_39⟩, List.forall_mem_cons.mpr ⟨⟨rfl, okX31_walk_75⟩, List.forall_mem_cons.mpr ⟨⟨rfl, okX31_walk_92⟩, List.forall_mem_cons.mpr ⟨⟨rfl, okX31_walk_93⟩, List.forall_mem_cons.mpr ⟨⟨rfl, okX31_walk_100⟩, List.forall_mem_cons.mpr ⟨⟨rfl, okX31_walk_120⟩, List.forall_mem_cons.mpr ⟨⟨rfl, okX31_walk_121⟩, List.forall_mem_cons.mpr ⟨⟨rfl, okX31_walk_128⟩, List.forall_mem_cons.mpr ⟨⟨rfl, okX31_walk_143⟩, fun _ h => nomatch h⟩⟩⟩⟩⟩⟩⟩⟩⟩⟩⟩⟩) okH_X31_walk (by decide +kernel) (by decide)
abbrev cX31_caught : ByteArray := prog_6_method_8_code
def dkwX31_caught_3 : List UInt8 := [180, 0, 17, 21, 4, 50, 43, 44, 184, 0, 77, 172]
abbrev dktX31_caught_3 : List UInt8 := dkwX31_caught_3 ++ []
def dkwX31_caught_2 : List UInt8 := [16, 247, 160, 0, 5, 45, 191, 44, 180, 0, 62, 42, 3, 182, 0, 58, 45, 180, 0, 83, 79, 42]
abbrev dktX31_caught_2 : List UInt8 := dkwX31_caught_2 ++ dktX31_caught_3
def dkwX31_caught_1 : List UInt8 := [184, 0, 77, 172, 78, 42, 43, 43, 180, 0, 105, 45, 180, 0, 83, 46, 182, 0, 108, 54, 4, 21, 4]
abbrev dktX31_caught_1 : List UInt8 := dkwX31_caught_1 ++ dktX31_caught_2
def dkwX31_caught_0 : List UInt8 := [42, 180, 0, 21, 158, 0, 12, 42, 43, 44, 182, 0, 101, 167, 0, 12, 42, 180, 0, 74, 43, 44]
abbrev dktX31_caught_0 : List UInt8 := dkwX31_caught_0 ++ dktX31_caught_1
theorem dksX31_caught_0 : cX31_caught.data.toList.drop 0 = dktX31_caught_0 := by decide +kernel
theorem dksX31_caught_1 : cX31_caught.data.toList.drop 22 = dktX31_caught_1 := dk_seg dksX31_caught_0 22 rfl rfl
theorem dksX31_caught_2 : cX31_caught.data.toList.drop 45 = dktX31_caught_2 := dk_seg dksX31_caught_1 23 rfl rfl
theorem dksX31_caught_3 : cX31_caught.data.toList.drop 67 = dktX31_caught_3 := dk_seg dksX31_caught_2 22 rfl rfl
theorem dX31_caught_0 : decode cX31_caught 0 = .ok (.aload_n 0, 1) := dk_42 (dk_at dksX31_caught_0 0 rfl rfl)
theorem dX31_caught_1 : decode cX31_caught 1 = .ok (.getfield 21, 3) := dk_180 0 21 (dk_at dksX31_caught_0 1 rfl rfl)
theorem dX31_caught_4 : decode cX31_caught 4 = .ok (.ifCond .le 12, 3) := dk_158 0 12 (dk_at dksX31_caught_0 4 rfl rfl)
theorem dX31_caught_7 : decode cX31_caught 7 = .ok (.aload_n 0, 1) := dk_42 (dk_at dksX31_caught_0 7 rfl rfl)
theorem dX31_caught_8 : decode cX31_caught 8 = .ok (.aload_n 1, 1) := dk_43 (dk_at dksX31_caught_0 8 rfl rfl)
theorem dX31_caught_9 : decode cX31_caught 9 = .ok (.aload_n 2, 1) := dk_44 (dk_at dksX31_caught_0 9 rfl rfl)
theorem dX31_caught_10 : decode cX31_caught 10 = .ok (.invokevirtual 101, 3) := dk_182 0 101 (dk_at dksX31_caught_0 10 rfl rfl)
theorem dX31_caught_13 : decode cX31_caught 13 = .ok (.goto 12, 3) := dk_167 0 12 (dk_at dksX31_caught_0 13 rfl rfl)
theorem dX31_caught_16 : decode cX31_caught 16 = .ok (.aload_n 0, 1) := dk_42 (dk_at dksX31_caught_0 16 rfl rfl)
theorem dX31_caught_17 : decode cX31_caught 17 = .ok (.getfield 74, 3) := dk_180 0 74 (dk_at dksX31_caught_0 17 rfl rfl)
theorem dX31_caught_20 : decode cX31_caught 20 = .ok (.aload_n 1, 1) := dk_43 (dk_at dksX31_caught_0 20 rfl rfl)
theorem dX31_caught_21 : decode cX31_caught 21 = .ok (.aload_n 2, 1) := dk_44 (dk_at dksX31_caught_0 21 rfl rfl)
theorem dX31_caught_22 : decode cX31_caught 22 = .ok (.invokestatic 77, 3) := dk_184 0 77 (dk_at dksX31_caught_1 0 rfl rfl)
theorem dX31_caught_25 : decode cX31_caught 25 = .ok (.ireturn, 1) := dk_172 (dk_at dksX31_caught_1 3 rfl rfl)
theorem dX31_caught_26 : decode cX31_caught 26 = .ok (.astore_n 3, 1) := dk_78 (dk_at dksX31_caught_1 4 rfl rfl)
theorem dX31_caught_27 : decode cX31_caught 27 = .ok (.aload_n 0, 1) := dk_42 (dk_at dksX31_caught_1 5 rfl rfl)
theorem dX31_caught_28 : decode cX31_caught 28 = .ok (.aload_n 1, 1) := dk_43 (dk_at dksX31_caught_1 6 rfl rfl)
theorem dX31_caught_29 : decode cX31_caught 29 = .ok (.aload_n 1, 1) := dk_43 (dk_at dksX31_caught_1 7 rfl rfl)
theorem dX31_caught_30 : decode cX31_caught 30 = .ok (.getfield 105, 3) := dk_180 0 105 (dk_at dksX31_caught_1 8 rfl rfl)
theorem dX31_caught_33 : decode cX31_caught 33 = .ok (.aload_n 3, 1) := dk_45 (dk_at dksX31_caught_1 11 rfl rfl)
theorem dX31_caught_34 : decode cX31_caught 34 = .ok (.getfield 83, 3) := dk_180 0 83 (dk_at dksX31_caught_1 12 rfl rfl)
theorem dX31_caught_37 : decode cX31_caught 37 = .ok (.iaload, 1) := dk_46 (dk_at dksX31_caught_1 15 rfl rfl)
theorem dX31_caught_38 : decode cX31_caught 38 = .ok (.invokevirtual 108, 3) := dk_182 0 108 (dk_at dksX31_caught_1 16 rfl rfl)
theorem dX31_caught_41 : decode cX31_caught 41 = .ok (.istore 4, 2) := dk_54 4 (dk_at dksX31_caught_1 19 rfl rfl)
theorem dX31_caught_43 : decode cX31_caught 43 = .ok (.iload 4, 2) := dk_21 4 (dk_at dksX31_caught_1 21 rfl rfl)
theorem dX31_caught_45 : decode cX31_caught 45 = .ok (.bipush (-9), 2) := dk_16 247 (dk_at dksX31_caught_2 0 rfl rfl)
theorem dX31_caught_47 : decode cX31_caught 47 = .ok (.if_icmp .ne 5, 3) := dk_160 0 5 (dk_at dksX31_caught_2 2 rfl rfl)
theorem dX31_caught_50 : decode cX31_caught 50 = .ok (.aload_n 3, 1) := dk_45 (dk_at dksX31_caught_2 5 rfl rfl)
theorem dX31_caught_51 : decode cX31_caught 51 = .ok (.athrow, 1) := dk_191 (dk_at dksX31_caught_2 6 rfl rfl)
theorem dX31_caught_52 : decode cX31_caught 52 = .ok (.aload_n 2, 1) := dk_44 (dk_at dksX31_caught_2 7 rfl rfl)
theorem dX31_caught_53 : decode cX31_caught 53 = .ok (.getfield 62, 3) := dk_180 0 62 (dk_at dksX31_caught_2 8 rfl rfl)
theorem dX31_caught_56 : decode cX31_caught 56 = .ok (.aload_n 0, 1) := dk_42 (dk_at dksX31_caught_2 11 rfl rfl)
theorem dX31_caught_57 : decode cX31_caught 57 = .ok (.iconst 0, 1) := dk_3 (dk_at dksX31_caught_2 12 rfl rfl)
theorem dX31_caught_58 : decode cX31_caught 58 = .ok (.invokevirtual 58, 3) := dk_182 0 58 (dk_at dksX31_caught_2 13 rfl rfl)
theorem dX31_caught_61 : decode cX31_caught 61 = .ok (.aload_n 3, 1) := dk_45 (dk_at dksX31_caught_2 16 rfl rfl)
theorem dX31_caught_62 : decode cX31_caught 62 = .ok (.getfield 83, 3) := dk_180 0 83 (dk_at dksX31_caught_2 17 rfl rfl)
theorem dX31_caught_65 : decode cX31_caught 65 = .ok (.iastore, 1) := dk_79 (dk_at dksX31_caught_2 20 rfl rfl)
theorem dX31_caught_66 : decode cX31_caught 66 = .ok (.aload_n 0, 1) := dk_42 (dk_at dksX31_caught_2 21 rfl rfl)
theorem dX31_caught_67 : decode cX31_caught 67 = .ok (.getfield 17, 3) := dk_180 0 17 (dk_at dksX31_caught_3 0 rfl rfl)
theorem dX31_caught_70 : decode cX31_caught 70 = .ok (.iload 4, 2) := dk_21 4 (dk_at dksX31_caught_3 3 rfl rfl)
theorem dX31_caught_72 : decode cX31_caught 72 = .ok (.aaload, 1) := dk_50 (dk_at dksX31_caught_3 5 rfl rfl)
theorem dX31_caught_73 : decode cX31_caught 73 = .ok (.aload_n 1, 1) := dk_43 (dk_at dksX31_caught_3 6 rfl rfl)
theorem dX31_caught_74 : decode cX31_caught 74 = .ok (.aload_n 2, 1) := dk_44 (dk_at dksX31_caught_3 7 rfl rfl)
theorem dX31_caught_75 : decode cX31_caught 75 = .ok (.invokestatic 77, 3) := dk_184 0 77 (dk_at dksX31_caught_3 8 rfl rfl)
theorem dX31_caught_78 : decode cX31_caught 78 = .ok (.ireturn, 1) := dk_172 (dk_at dksX31_caught_3 11 rfl rfl)
theorem okX31_caught_0 : XOkL xms rX31_caught bX31_caught_0 := xcP (xok_aload_n dX31_caught_0 rfl) rfl (xcP (xok_getfield (ref := "WaysAtlas$Guard") (Or.inl ⟨rfl, by decide⟩) dX31_caught_1 (Or.inl ⟨q1190, (Or.inl rfl)⟩) xh94) rfl (xcP (xok_ifle dX31_caught_4 (by decide)) rfl (xcP (xok_aload_n dX31_caught_7 rfl) rfl (xcP (xok_aload_n dX31_caught_8 rfl) rfl (xcP (xok_aload_n dX31_caught_9 rfl) rfl (xcC0 (xokc_list (List.forall_mem_cons.mpr ⟨xokc_VX (r := (RX31, TX31, 7)) xm264 (List.mem_of_getElem? (i := 28) rfl) (by decide) (by decide) dX31_caught_10 q1658 q1660 qs45 q176 q1661 (by decide +kernel), fun _ h => nomatch h⟩)) rfl (xcP (xok_goto dX31_caught_13 (by decide)) rfl trivial)))))))
theorem okX31_caught_16 : XOkL xms rX31_caught bX31_caught_16 := xcP (xok_aload_n dX31_caught_16 rfl) rfl (xcP (xok_getfield (ref := "WaysAtlas$Guard") (Or.inr ⟨rfl, by decide⟩) dX31_caught_17 (Or.inl ⟨q1192, (Or.inl rfl)⟩) xh1135) rfl (xcP (xok_aload_n dX31_caught_20 rfl) rfl (xcP (xok_aload_n dX31_caught_21 rfl) rfl (xcC0 (xokc_SN (host := "WaysAtlas") xm14 rfl dX31_caught_22 (List.mem_of_getElem? (i := 1) rfl) q1591 q138 q1592 (by decide +kernel)) rfl (xcP xok_fal rfl trivial)))))
theorem okX31_caught_25 : XOkL xms rX31_caught bX31_caught_25 := xcR ⟨dX31_caught_25, rfl⟩
theorem okX31_caught_26 : XOkL xms rX31_caught bX31_caught_26 := xcP (xok_astore_n dX31_caught_26 rfl) rfl (xcP (xok_aload_n dX31_caught_27 rfl) rfl (xcP (xok_aload_n dX31_caught_28 rfl) rfl (xcP (xok_aload_n dX31_caught_29 rfl) rfl (xcP (xok_getfield (ref := "WaysAtlas$Run") (Or.inr ⟨rfl, by decide⟩) dX31_caught_30 (Or.inr ⟨⟨"WaysAtlas", (List.mem_of_getElem? (i := 6) rfl)⟩, (Or.inl rfl)⟩) xh1033) rfl (xcP (xok_aload_n dX31_caught_33 rfl) rfl (xcP (xok_getfield (ref := "WaysAtlas$Thrown") (Or.inl ⟨rfl, by decide⟩) dX31_caught_34 (Or.inr ⟨⟨"WaysAtlas", (List.mem_of_getElem? (i := 13) rfl)⟩, (Or.inl rfl)⟩) xh33) rfl (xcP (xok_iaload dX31_caught_37) rfl (xcC0 (xokc_list (List.forall_mem_cons.mpr ⟨xokc_V (r := (RX31, TX31, 7)) xm265 (List.mem_of_getElem? (i := 28) rfl) (by decide) rfl dX31_caught_38 q1686 q1687 q1688 q176 q1689 (by decide +kernel), fun _ h => nomatch h⟩)) rfl (xcP (xok_istore dX31_caught_41) rfl (xcP (xok_iload dX31_caught_43) rfl (xcP (xok_bipush dX31_caught_45 rfl) rfl (xcP (xok_icmpne dX31_caught_47 (by decide)) rfl (xcP (xok_aload_n dX31_caught_50 rfl) rfl (xcT dX31_caught_51))))))))))))))
theorem okX31_caught_52 : XOkL xms rX31_caught bX31_caught_52 := xcP (xok_aload_n dX31_caught_52 rfl) rfl (xcP (xok_getfield (ref := "WaysAtlas$Frame") (Or.inr ⟨rfl, by decide⟩) dX31_caught_53 (Or.inr ⟨⟨"WaysAtlas", (List.mem_of_getElem? (i := 11) rfl)⟩, (Or.inl rfl)⟩) xh1055) rfl (xcP (xok_aload_n dX31_caught_56 rfl) rfl (xcP (xok_iconst dX31_caught_57 rfl) rfl (xcC0 (xokc_list (List.forall_mem_cons.mpr ⟨xokc_V (r := (RX31, TX31, 7)) xm261 (List.mem_of_getElem? (i := 28) rfl) (by decide) rfl dX31_caught_58 q1662 q1370 q1371 q176 q1372 (by decide +kernel), fun _ h => nomatch h⟩)) rfl (xcP (xok_aload_n dX31_caught_61 rfl) rfl (xcP (xok_getfield (ref := "WaysAtlas$Thrown") (Or.inl ⟨rfl, by decide⟩) dX31_caught_62 (Or.inr ⟨⟨"WaysAtlas", (List.mem_of_getElem? (i := 13) rfl)⟩, (Or.inl rfl)⟩) xh33) rfl (xcP (xok_iastore dX31_caught_65) rfl (xcP (xok_aload_n dX31_caught_66 rfl) rfl (xcP (xok_getfield (ref := "WaysAtlas$Guard") (Or.inr ⟨rfl, by decide⟩) dX31_caught_67 (Or.inl ⟨q1198, (Or.inl rfl)⟩) xh1137) rfl (xcP (xok_iload dX31_caught_70) rfl (xcP (xok_aaload (by decide) rfl dX31_caught_72) rfl (xcP (xok_aload_n dX31_caught_73 rfl) rfl (xcP (xok_aload_n dX31_caught_74 rfl) rfl (xcC0 (xokc_SN (host := "WaysAtlas") xm14 rfl dX31_caught_75 (List.mem_of_getElem? (i := 1) rfl) q1591 q138 q1592 (by decide +kernel)) rfl (xcR ⟨dX31_caught_78, rfl⟩)))))))))))))))
theorem okH_X31_caught : XOkH rX31_caught := xhand (hs := [((0, 25, 26, 81), 7, "WaysAtlas$Thrown")]) rfl (List.forall_mem_cons.mpr ⟨Or.inr ⟨by decide, q1653, Or.inl ⟨rfl, rfl⟩⟩, fun _ h => nomatch h⟩) (fun pc kd => by show hX31_caught pc kd = _; simp only [hX31_caught, xhf]; grind)
theorem okM_X31_caught : XOkM xms rX31_caught := xokM0 (List.forall_mem_cons.mpr ⟨⟨rfl, okX31_caught_0⟩, List.forall_mem_cons.mpr ⟨⟨rfl, okX31_caught_16⟩, List.forall_mem_cons.mpr ⟨⟨rfl, okX31_caught_25⟩, List.forall_mem_cons.mpr ⟨⟨rfl, okX31_caught_26⟩, List.forall_mem_cons.mpr ⟨⟨rfl, okX31_caught_52⟩, fun _ h => nomatch h⟩⟩⟩⟩⟩) okH_X31_caught (by decide +kernel) (by decide)
abbrev cX31_inner : ByteArray := prog_6_method_7_code
def dkwX31_inner_4 : List UInt8 := [16, 247, 159, 0, 13, 43, 180, 0, 93, 21, 5, 182, 0, 97, 191, 21, 6, 172]
abbrev dktX31_inner_4 : List UInt8 := dkwX31_inner_4 ++ []
def dkwX31_inner_3 : List UInt8 := [181, 0, 86, 43, 42, 180, 0, 25, 21, 4, 44, 180, 0, 62, 29, 21, 5, 182, 0, 89, 54, 5, 21, 5]
abbrev dktX31_inner_3 : List UInt8 := dkwX31_inner_3 ++ dktX31_inner_4
def dkwX31_inner_2 : List UInt8 := [184, 0, 77, 54, 6, 167, 0, 12, 58, 7, 25, 7, 180, 0, 83, 54, 5, 44, 42, 180, 0, 25]
abbrev dktX31_inner_2 : List UInt8 := dkwX31_inner_2 ++ dktX31_inner_3
def dkwX31_inner_1 : List UInt8 := [54, 4, 43, 180, 0, 71, 54, 5, 3, 54, 6, 21, 5, 16, 247, 160, 0, 26, 42, 180, 0, 74, 43, 44]
abbrev dktX31_inner_1 : List UInt8 := dkwX31_inner_1 ++ dktX31_inner_2
def dkwX31_inner_0 : List UInt8 := [42, 7, 182, 0, 58, 62, 43, 42, 180, 0, 25, 42, 180, 0, 21, 44, 180, 0, 62, 29, 182, 0, 67]
abbrev dktX31_inner_0 : List UInt8 := dkwX31_inner_0 ++ dktX31_inner_1
theorem dksX31_inner_0 : cX31_inner.data.toList.drop 0 = dktX31_inner_0 := by decide +kernel
theorem dksX31_inner_1 : cX31_inner.data.toList.drop 23 = dktX31_inner_1 := dk_seg dksX31_inner_0 23 rfl rfl
theorem dksX31_inner_2 : cX31_inner.data.toList.drop 47 = dktX31_inner_2 := dk_seg dksX31_inner_1 24 rfl rfl
theorem dksX31_inner_3 : cX31_inner.data.toList.drop 69 = dktX31_inner_3 := dk_seg dksX31_inner_2 22 rfl rfl
theorem dksX31_inner_4 : cX31_inner.data.toList.drop 93 = dktX31_inner_4 := dk_seg dksX31_inner_3 24 rfl rfl
theorem dX31_inner_0 : decode cX31_inner 0 = .ok (.aload_n 0, 1) := dk_42 (dk_at dksX31_inner_0 0 rfl rfl)
theorem dX31_inner_1 : decode cX31_inner 1 = .ok (.iconst 4, 1) := dk_7 (dk_at dksX31_inner_0 1 rfl rfl)
theorem dX31_inner_2 : decode cX31_inner 2 = .ok (.invokevirtual 58, 3) := dk_182 0 58 (dk_at dksX31_inner_0 2 rfl rfl)
theorem dX31_inner_5 : decode cX31_inner 5 = .ok (.istore_n 3, 1) := dk_62 (dk_at dksX31_inner_0 5 rfl rfl)
theorem dX31_inner_6 : decode cX31_inner 6 = .ok (.aload_n 1, 1) := dk_43 (dk_at dksX31_inner_0 6 rfl rfl)
theorem dX31_inner_7 : decode cX31_inner 7 = .ok (.aload_n 0, 1) := dk_42 (dk_at dksX31_inner_0 7 rfl rfl)
theorem dX31_inner_8 : decode cX31_inner 8 = .ok (.getfield 25, 3) := dk_180 0 25 (dk_at dksX31_inner_0 8 rfl rfl)
theorem dX31_inner_11 : decode cX31_inner 11 = .ok (.aload_n 0, 1) := dk_42 (dk_at dksX31_inner_0 11 rfl rfl)
theorem dX31_inner_12 : decode cX31_inner 12 = .ok (.getfield 21, 3) := dk_180 0 21 (dk_at dksX31_inner_0 12 rfl rfl)
theorem dX31_inner_15 : decode cX31_inner 15 = .ok (.aload_n 2, 1) := dk_44 (dk_at dksX31_inner_0 15 rfl rfl)
theorem dX31_inner_16 : decode cX31_inner 16 = .ok (.getfield 62, 3) := dk_180 0 62 (dk_at dksX31_inner_0 16 rfl rfl)
theorem dX31_inner_19 : decode cX31_inner 19 = .ok (.iload_n 3, 1) := dk_29 (dk_at dksX31_inner_0 19 rfl rfl)
theorem dX31_inner_20 : decode cX31_inner 20 = .ok (.invokevirtual 67, 3) := dk_182 0 67 (dk_at dksX31_inner_0 20 rfl rfl)
theorem dX31_inner_23 : decode cX31_inner 23 = .ok (.istore 4, 2) := dk_54 4 (dk_at dksX31_inner_1 0 rfl rfl)
theorem dX31_inner_25 : decode cX31_inner 25 = .ok (.aload_n 1, 1) := dk_43 (dk_at dksX31_inner_1 2 rfl rfl)
theorem dX31_inner_26 : decode cX31_inner 26 = .ok (.getfield 71, 3) := dk_180 0 71 (dk_at dksX31_inner_1 3 rfl rfl)
theorem dX31_inner_29 : decode cX31_inner 29 = .ok (.istore 5, 2) := dk_54 5 (dk_at dksX31_inner_1 6 rfl rfl)
theorem dX31_inner_31 : decode cX31_inner 31 = .ok (.iconst 0, 1) := dk_3 (dk_at dksX31_inner_1 8 rfl rfl)
theorem dX31_inner_32 : decode cX31_inner 32 = .ok (.istore 6, 2) := dk_54 6 (dk_at dksX31_inner_1 9 rfl rfl)
theorem dX31_inner_34 : decode cX31_inner 34 = .ok (.iload 5, 2) := dk_21 5 (dk_at dksX31_inner_1 11 rfl rfl)
theorem dX31_inner_36 : decode cX31_inner 36 = .ok (.bipush (-9), 2) := dk_16 247 (dk_at dksX31_inner_1 13 rfl rfl)
theorem dX31_inner_38 : decode cX31_inner 38 = .ok (.if_icmp .ne 26, 3) := dk_160 0 26 (dk_at dksX31_inner_1 15 rfl rfl)
theorem dX31_inner_41 : decode cX31_inner 41 = .ok (.aload_n 0, 1) := dk_42 (dk_at dksX31_inner_1 18 rfl rfl)
theorem dX31_inner_42 : decode cX31_inner 42 = .ok (.getfield 74, 3) := dk_180 0 74 (dk_at dksX31_inner_1 19 rfl rfl)
theorem dX31_inner_45 : decode cX31_inner 45 = .ok (.aload_n 1, 1) := dk_43 (dk_at dksX31_inner_1 22 rfl rfl)
theorem dX31_inner_46 : decode cX31_inner 46 = .ok (.aload_n 2, 1) := dk_44 (dk_at dksX31_inner_1 23 rfl rfl)
theorem dX31_inner_47 : decode cX31_inner 47 = .ok (.invokestatic 77, 3) := dk_184 0 77 (dk_at dksX31_inner_2 0 rfl rfl)
theorem dX31_inner_50 : decode cX31_inner 50 = .ok (.istore 6, 2) := dk_54 6 (dk_at dksX31_inner_2 3 rfl rfl)
theorem dX31_inner_52 : decode cX31_inner 52 = .ok (.goto 12, 3) := dk_167 0 12 (dk_at dksX31_inner_2 5 rfl rfl)
theorem dX31_inner_55 : decode cX31_inner 55 = .ok (.astore 7, 2) := dk_58 7 (dk_at dksX31_inner_2 8 rfl rfl)
theorem dX31_inner_57 : decode cX31_inner 57 = .ok (.aload 7, 2) := dk_25 7 (dk_at dksX31_inner_2 10 rfl rfl)
theorem dX31_inner_59 : decode cX31_inner 59 = .ok (.getfield 83, 3) := dk_180 0 83 (dk_at dksX31_inner_2 12 rfl rfl)
theorem dX31_inner_62 : decode cX31_inner 62 = .ok (.istore 5, 2) := dk_54 5 (dk_at dksX31_inner_2 15 rfl rfl)
theorem dX31_inner_64 : decode cX31_inner 64 = .ok (.aload_n 2, 1) := dk_44 (dk_at dksX31_inner_2 17 rfl rfl)
theorem dX31_inner_65 : decode cX31_inner 65 = .ok (.aload_n 0, 1) := dk_42 (dk_at dksX31_inner_2 18 rfl rfl)
theorem dX31_inner_66 : decode cX31_inner 66 = .ok (.getfield 25, 3) := dk_180 0 25 (dk_at dksX31_inner_2 19 rfl rfl)
theorem dX31_inner_69 : decode cX31_inner 69 = .ok (.putfield 86, 3) := dk_181 0 86 (dk_at dksX31_inner_3 0 rfl rfl)
theorem dX31_inner_72 : decode cX31_inner 72 = .ok (.aload_n 1, 1) := dk_43 (dk_at dksX31_inner_3 3 rfl rfl)
theorem dX31_inner_73 : decode cX31_inner 73 = .ok (.aload_n 0, 1) := dk_42 (dk_at dksX31_inner_3 4 rfl rfl)
theorem dX31_inner_74 : decode cX31_inner 74 = .ok (.getfield 25, 3) := dk_180 0 25 (dk_at dksX31_inner_3 5 rfl rfl)
theorem dX31_inner_77 : decode cX31_inner 77 = .ok (.iload 4, 2) := dk_21 4 (dk_at dksX31_inner_3 8 rfl rfl)
theorem dX31_inner_79 : decode cX31_inner 79 = .ok (.aload_n 2, 1) := dk_44 (dk_at dksX31_inner_3 10 rfl rfl)
theorem dX31_inner_80 : decode cX31_inner 80 = .ok (.getfield 62, 3) := dk_180 0 62 (dk_at dksX31_inner_3 11 rfl rfl)
theorem dX31_inner_83 : decode cX31_inner 83 = .ok (.iload_n 3, 1) := dk_29 (dk_at dksX31_inner_3 14 rfl rfl)
theorem dX31_inner_84 : decode cX31_inner 84 = .ok (.iload 5, 2) := dk_21 5 (dk_at dksX31_inner_3 15 rfl rfl)
theorem dX31_inner_86 : decode cX31_inner 86 = .ok (.invokevirtual 89, 3) := dk_182 0 89 (dk_at dksX31_inner_3 17 rfl rfl)
theorem dX31_inner_89 : decode cX31_inner 89 = .ok (.istore 5, 2) := dk_54 5 (dk_at dksX31_inner_3 20 rfl rfl)
theorem dX31_inner_91 : decode cX31_inner 91 = .ok (.iload 5, 2) := dk_21 5 (dk_at dksX31_inner_3 22 rfl rfl)
theorem dX31_inner_93 : decode cX31_inner 93 = .ok (.bipush (-9), 2) := dk_16 247 (dk_at dksX31_inner_4 0 rfl rfl)
theorem dX31_inner_95 : decode cX31_inner 95 = .ok (.if_icmp .eq 13, 3) := dk_159 0 13 (dk_at dksX31_inner_4 2 rfl rfl)
theorem dX31_inner_98 : decode cX31_inner 98 = .ok (.aload_n 1, 1) := dk_43 (dk_at dksX31_inner_4 5 rfl rfl)
theorem dX31_inner_99 : decode cX31_inner 99 = .ok (.getfield 93, 3) := dk_180 0 93 (dk_at dksX31_inner_4 6 rfl rfl)
theorem dX31_inner_102 : decode cX31_inner 102 = .ok (.iload 5, 2) := dk_21 5 (dk_at dksX31_inner_4 9 rfl rfl)
theorem dX31_inner_104 : decode cX31_inner 104 = .ok (.invokevirtual 97, 3) := dk_182 0 97 (dk_at dksX31_inner_4 11 rfl rfl)
theorem dX31_inner_107 : decode cX31_inner 107 = .ok (.athrow, 1) := dk_191 (dk_at dksX31_inner_4 14 rfl rfl)
theorem dX31_inner_108 : decode cX31_inner 108 = .ok (.iload 6, 2) := dk_21 6 (dk_at dksX31_inner_4 15 rfl rfl)
theorem dX31_inner_110 : decode cX31_inner 110 = .ok (.ireturn, 1) := dk_172 (dk_at dksX31_inner_4 17 rfl rfl)
theorem okX31_inner_0 : XOkL xms rX31_inner bX31_inner_0 := xcP (xok_aload_n dX31_inner_0 rfl) rfl (xcP (xok_iconst dX31_inner_1 rfl) rfl (xcC0 (xokc_list (List.forall_mem_cons.mpr ⟨xokc_V (r := (RX31, TX31, 7)) xm261 (List.mem_of_getElem? (i := 28) rfl) (by decide) rfl dX31_inner_2 q1662 q1370 q1371 q176 q1372 (by decide +kernel), fun _ h => nomatch h⟩)) rfl (xcP (xok_istore_n dX31_inner_5 rfl) rfl (xcP (xok_aload_n dX31_inner_6 rfl) rfl (xcP (xok_aload_n dX31_inner_7 rfl) rfl (xcP (xok_getfield (ref := "WaysAtlas$Guard") (Or.inl ⟨rfl, by decide⟩) dX31_inner_8 (Or.inl ⟨q970, (Or.inr q971)⟩) xh82) rfl (xcP (xok_aload_n dX31_inner_11 rfl) rfl (xcP (xok_getfield (ref := "WaysAtlas$Guard") (Or.inl ⟨rfl, by decide⟩) dX31_inner_12 (Or.inl ⟨q1190, (Or.inl rfl)⟩) xh94) rfl (xcP (xok_aload_n dX31_inner_15 rfl) rfl (xcP (xok_getfield (ref := "WaysAtlas$Frame") (Or.inr ⟨rfl, by decide⟩) dX31_inner_16 (Or.inr ⟨⟨"WaysAtlas", (List.mem_of_getElem? (i := 11) rfl)⟩, (Or.inl rfl)⟩) xh1055) rfl (xcP (xok_iload_n dX31_inner_19 rfl) rfl (xcC0 (xokc_list (List.forall_mem_cons.mpr ⟨xokc_V (r := (RX5, TX5, 34)) xm86 (List.mem_of_getElem? (i := 5) rfl) (by decide) rfl dX31_inner_20 q1663 q1664 q1665 q143 q1666 (by decide +kernel), fun _ h => nomatch h⟩)) rfl (xcP (xok_istore dX31_inner_23) rfl (xcP (xok_aload_n dX31_inner_25 rfl) rfl (xcP (xok_getfield (ref := "WaysAtlas$Run") (Or.inl ⟨rfl, by decide⟩) dX31_inner_26 (Or.inr ⟨⟨"WaysAtlas", (List.mem_of_getElem? (i := 12) rfl)⟩, (Or.inl rfl)⟩) xh31) rfl (xcP (xok_istore dX31_inner_29) rfl (xcP (xok_iconst dX31_inner_31 rfl) rfl (xcP (xok_istore dX31_inner_32) rfl (xcP (xok_iload dX31_inner_34) rfl (xcP (xok_bipush dX31_inner_36 rfl) rfl (xcP (xok_icmpne dX31_inner_38 (by decide)) rfl (xcP (xok_aload_n dX31_inner_41 rfl) rfl (xcP (xok_getfield (ref := "WaysAtlas$Guard") (Or.inr ⟨rfl, by decide⟩) dX31_inner_42 (Or.inl ⟨q1192, (Or.inl rfl)⟩) xh1135) rfl (xcP (xok_aload_n dX31_inner_45 rfl) rfl (xcP (xok_aload_n dX31_inner_46 rfl) rfl (xcC0 (xokc_SN (host := "WaysAtlas") xm14 rfl dX31_inner_47 (List.mem_of_getElem? (i := 1) rfl) q1591 q138 q1592 (by decide +kernel)) rfl (xcP (xok_istore dX31_inner_50) rfl (xcP (xok_goto dX31_inner_52 (by decide)) rfl trivial))))))))))))))))))))))))))))
theorem okX31_inner_55 : XOkL xms rX31_inner bX31_inner_55 := xcP (xok_astore dX31_inner_55) rfl (xcP (xok_aload dX31_inner_57) rfl (xcP (xok_getfield (ref := "WaysAtlas$Thrown") (Or.inl ⟨rfl, by decide⟩) dX31_inner_59 (Or.inr ⟨⟨"WaysAtlas", (List.mem_of_getElem? (i := 13) rfl)⟩, (Or.inl rfl)⟩) xh33) rfl (xcP (xok_istore dX31_inner_62) rfl (xcP xok_fal rfl trivial))))
theorem okX31_inner_64 : XOkL xms rX31_inner bX31_inner_64 := xcP (xok_aload_n dX31_inner_64 rfl) rfl (xcP (xok_aload_n dX31_inner_65 rfl) rfl (xcP (xok_getfield (ref := "WaysAtlas$Guard") (Or.inl ⟨rfl, by decide⟩) dX31_inner_66 (Or.inl ⟨q970, (Or.inr q971)⟩) xh82) rfl (xcP (xok_putfield (ref := "WaysAtlas$Frame") (Or.inl ⟨rfl, by decide, rfl⟩) dX31_inner_69 (Or.inr ⟨⟨"WaysAtlas", (List.mem_of_getElem? (i := 14) rfl)⟩, (Or.inl rfl)⟩) (Or.inl rfl) xh35) rfl (xcP (xok_aload_n dX31_inner_72 rfl) rfl (xcP (xok_aload_n dX31_inner_73 rfl) rfl (xcP (xok_getfield (ref := "WaysAtlas$Guard") (Or.inl ⟨rfl, by decide⟩) dX31_inner_74 (Or.inl ⟨q970, (Or.inr q971)⟩) xh82) rfl (xcP (xok_iload dX31_inner_77) rfl (xcP (xok_aload_n dX31_inner_79 rfl) rfl (xcP (xok_getfield (ref := "WaysAtlas$Frame") (Or.inr ⟨rfl, by decide⟩) dX31_inner_80 (Or.inr ⟨⟨"WaysAtlas", (List.mem_of_getElem? (i := 11) rfl)⟩, (Or.inl rfl)⟩) xh1055) rfl (xcP (xok_iload_n dX31_inner_83 rfl) rfl (xcP (xok_iload dX31_inner_84) rfl (xcC0 (xokc_list (List.forall_mem_cons.mpr ⟨xokc_V (r := (RX5, TX5, 34)) xm88 (List.mem_of_getElem? (i := 5) rfl) (by decide) rfl dX31_inner_86 q1677 q1678 q1679 q143 q1680 (by decide +kernel), fun _ h => nomatch h⟩)) rfl (xcP (xok_istore dX31_inner_89) rfl (xcP (xok_iload dX31_inner_91) rfl (xcP (xok_bipush dX31_inner_93 rfl) rfl (xcP (xok_icmpeq dX31_inner_95 (by decide)) rfl (xcP (xok_aload_n dX31_inner_98 rfl) rfl (xcP (xok_getfield (ref := "WaysAtlas$Run") (Or.inr ⟨rfl, by decide⟩) dX31_inner_99 (Or.inr ⟨⟨"WaysAtlas", (List.mem_of_getElem? (i := 15) rfl)⟩, (Or.inl rfl)⟩) xh1046) rfl (xcP (xok_iload dX31_inner_102) rfl (xcC0 (xokc_list (List.forall_mem_cons.mpr ⟨xokc_V (r := (RX6, TX6, 7)) xm93 (List.mem_of_getElem? (i := 6) rfl) (by decide) rfl dX31_inner_104 q1685 q1576 q1577 q146 q1578 (by decide +kernel), fun _ h => nomatch h⟩)) rfl (xcT dX31_inner_107)))))))))))))))))))))
theorem okX31_inner_108 : XOkL xms rX31_inner bX31_inner_108 := xcP (xok_iload dX31_inner_108) rfl (xcR ⟨dX31_inner_110, rfl⟩)
theorem okH_X31_inner : XOkH rX31_inner := xhand (hs := [((41, 52, 55, 81), 7, "WaysAtlas$Thrown")]) rfl (List.forall_mem_cons.mpr ⟨Or.inr ⟨by decide, q1653, Or.inl ⟨rfl, rfl⟩⟩, fun _ h => nomatch h⟩) (fun pc kd => by show hX31_inner pc kd = _; simp only [hX31_inner, xhf]; grind)
theorem okM_X31_inner : XOkM xms rX31_inner := xokM0 (List.forall_mem_cons.mpr ⟨⟨rfl, okX31_inner_0⟩, List.forall_mem_cons.mpr ⟨⟨rfl, okX31_inner_55⟩, List.forall_mem_cons.mpr ⟨⟨rfl, okX31_inner_64⟩, List.forall_mem_cons.mpr ⟨⟨rfl, okX31_inner_108⟩, fun _ h => nomatch h⟩⟩⟩⟩) okH_X31_inner (by decide +kernel) (by decide)
abbrev cX31_catchOf : ByteArray := prog_6_method_6_code
def dkwX31_catchOf_1 : List UInt8 := [153, 0, 5, 29, 172, 132, 3, 1, 167, 255, 226, 16, 247, 172]
abbrev dktX31_catchOf_1 : List UInt8 := dkwX31_catchOf_1 ++ []
def dkwX31_catchOf_0 : List UInt8 := [3, 62, 29, 42, 180, 0, 28, 162, 0, 28, 43, 180, 0, 46, 28, 42, 180, 0, 9, 29, 46, 182, 0, 52]
abbrev dktX31_catchOf_0 : List UInt8 := dkwX31_catchOf_0 ++ dktX31_catchOf_1
theorem dksX31_catchOf_0 : cX31_catchOf.data.toList.drop 0 = dktX31_catchOf_0 := by decide +kernel
theorem dksX31_catchOf_1 : cX31_catchOf.data.toList.drop 24 = dktX31_catchOf_1 := dk_seg dksX31_catchOf_0 24 rfl rfl
theorem dX31_catchOf_0 : decode cX31_catchOf 0 = .ok (.iconst 0, 1) := dk_3 (dk_at dksX31_catchOf_0 0 rfl rfl)
theorem dX31_catchOf_1 : decode cX31_catchOf 1 = .ok (.istore_n 3, 1) := dk_62 (dk_at dksX31_catchOf_0 1 rfl rfl)
theorem dX31_catchOf_2 : decode cX31_catchOf 2 = .ok (.iload_n 3, 1) := dk_29 (dk_at dksX31_catchOf_0 2 rfl rfl)
theorem dX31_catchOf_3 : decode cX31_catchOf 3 = .ok (.aload_n 0, 1) := dk_42 (dk_at dksX31_catchOf_0 3 rfl rfl)
theorem dX31_catchOf_4 : decode cX31_catchOf 4 = .ok (.getfield 28, 3) := dk_180 0 28 (dk_at dksX31_catchOf_0 4 rfl rfl)
theorem dX31_catchOf_7 : decode cX31_catchOf 7 = .ok (.if_icmp .ge 28, 3) := dk_162 0 28 (dk_at dksX31_catchOf_0 7 rfl rfl)
theorem dX31_catchOf_10 : decode cX31_catchOf 10 = .ok (.aload_n 1, 1) := dk_43 (dk_at dksX31_catchOf_0 10 rfl rfl)
theorem dX31_catchOf_11 : decode cX31_catchOf 11 = .ok (.getfield 46, 3) := dk_180 0 46 (dk_at dksX31_catchOf_0 11 rfl rfl)
theorem dX31_catchOf_14 : decode cX31_catchOf 14 = .ok (.iload_n 2, 1) := dk_28 (dk_at dksX31_catchOf_0 14 rfl rfl)
theorem dX31_catchOf_15 : decode cX31_catchOf 15 = .ok (.aload_n 0, 1) := dk_42 (dk_at dksX31_catchOf_0 15 rfl rfl)
theorem dX31_catchOf_16 : decode cX31_catchOf 16 = .ok (.getfield 9, 3) := dk_180 0 9 (dk_at dksX31_catchOf_0 16 rfl rfl)
theorem dX31_catchOf_19 : decode cX31_catchOf 19 = .ok (.iload_n 3, 1) := dk_29 (dk_at dksX31_catchOf_0 19 rfl rfl)
theorem dX31_catchOf_20 : decode cX31_catchOf 20 = .ok (.iaload, 1) := dk_46 (dk_at dksX31_catchOf_0 20 rfl rfl)
theorem dX31_catchOf_21 : decode cX31_catchOf 21 = .ok (.invokevirtual 52, 3) := dk_182 0 52 (dk_at dksX31_catchOf_0 21 rfl rfl)
theorem dX31_catchOf_24 : decode cX31_catchOf 24 = .ok (.ifCond .eq 5, 3) := dk_153 0 5 (dk_at dksX31_catchOf_1 0 rfl rfl)
theorem dX31_catchOf_27 : decode cX31_catchOf 27 = .ok (.iload_n 3, 1) := dk_29 (dk_at dksX31_catchOf_1 3 rfl rfl)
theorem dX31_catchOf_28 : decode cX31_catchOf 28 = .ok (.ireturn, 1) := dk_172 (dk_at dksX31_catchOf_1 4 rfl rfl)
theorem dX31_catchOf_29 : decode cX31_catchOf 29 = .ok (.iinc 3 1, 3) := dk_132 3 1 (dk_at dksX31_catchOf_1 5 rfl rfl)
theorem dX31_catchOf_32 : decode cX31_catchOf 32 = .ok (.goto (-30), 3) := dk_167 255 226 (dk_at dksX31_catchOf_1 8 rfl rfl)
theorem dX31_catchOf_35 : decode cX31_catchOf 35 = .ok (.bipush (-9), 2) := dk_16 247 (dk_at dksX31_catchOf_1 11 rfl rfl)
theorem dX31_catchOf_37 : decode cX31_catchOf 37 = .ok (.ireturn, 1) := dk_172 (dk_at dksX31_catchOf_1 13 rfl rfl)
theorem okX31_catchOf_0 : XOkL xms rX31_catchOf bX31_catchOf_0 := xcP (xok_iconst dX31_catchOf_0 rfl) rfl (xcP (xok_istore_n dX31_catchOf_1 rfl) rfl (xcP xok_fal rfl trivial))
theorem okX31_catchOf_2 : XOkL xms rX31_catchOf bX31_catchOf_2 := xcP (xok_iload_n dX31_catchOf_2 rfl) rfl (xcP (xok_aload_n dX31_catchOf_3 rfl) rfl (xcP (xok_getfield (ref := "WaysAtlas$Guard") (Or.inl ⟨rfl, by decide⟩) dX31_catchOf_4 (Or.inl ⟨q1201, (Or.inl rfl)⟩) xh95) rfl (xcP (xok_icmpge dX31_catchOf_7 (by decide)) rfl (xcP (xok_aload_n dX31_catchOf_10 rfl) rfl (xcP (xok_getfield (ref := "WaysAtlas$Run") (Or.inr ⟨rfl, by decide⟩) dX31_catchOf_11 (Or.inr ⟨⟨"WaysAtlas", (List.mem_of_getElem? (i := 10) rfl)⟩, (Or.inl rfl)⟩) xh1029) rfl (xcP (xok_iload_n dX31_catchOf_14 rfl) rfl (xcP (xok_aload_n dX31_catchOf_15 rfl) rfl (xcP (xok_getfield (ref := "WaysAtlas$Guard") (Or.inr ⟨rfl, by decide⟩) dX31_catchOf_16 (Or.inl ⟨q1195, (Or.inl rfl)⟩) xh1136) rfl (xcP (xok_iload_n dX31_catchOf_19 rfl) rfl (xcP (xok_iaload dX31_catchOf_20) rfl (xcC0 (xokc_list (List.forall_mem_cons.mpr ⟨xokc_V (r := (RX3, TX3, 10)) xm70 (List.mem_of_getElem? (i := 3) rfl) (by decide) rfl dX31_catchOf_21 q1690 q1691 q1692 q141 q1693 (by decide +kernel), fun _ h => nomatch h⟩)) rfl (xcP (xok_ifeq dX31_catchOf_24 (by decide)) rfl (xcP (xok_iload_n dX31_catchOf_27 rfl) rfl (xcR ⟨dX31_catchOf_28, rfl⟩))))))))))))))
theorem okX31_catchOf_29 : XOkL xms rX31_catchOf bX31_catchOf_29 := xcP (xok_iinc dX31_catchOf_29 rfl) rfl (xcP (xok_goto dX31_catchOf_32 (by decide)) rfl trivial)
theorem okX31_catchOf_35 : XOkL xms rX31_catchOf bX31_catchOf_35 := xcP (xok_bipush dX31_catchOf_35 rfl) rfl (xcR ⟨dX31_catchOf_37, rfl⟩)
theorem okM_X31_catchOf : XOkM xms rX31_catchOf := xokM0 (List.forall_mem_cons.mpr ⟨⟨rfl, okX31_catchOf_0⟩, List.forall_mem_cons.mpr ⟨⟨rfl, okX31_catchOf_2⟩, List.forall_mem_cons.mpr ⟨⟨rfl, okX31_catchOf_29⟩, List.forall_mem_cons.mpr ⟨⟨rfl, okX31_catchOf_35⟩, fun _ h => nomatch h⟩⟩⟩⟩) (xokH0 rfl (fun _ _ => rfl)) (by decide +kernel) (by decide)
abbrev cX31_hasFinish : ByteArray := prog_6_method_5_code
def dkwX31_hasFinish_0 : List UInt8 := [42, 180, 0, 43, 198, 0, 7, 4, 167, 0, 4, 3, 172]
abbrev dktX31_hasFinish_0 : List UInt8 := dkwX31_hasFinish_0 ++ []
theorem dksX31_hasFinish_0 : cX31_hasFinish.data.toList.drop 0 = dktX31_hasFinish_0 := by decide +kernel
theorem dX31_hasFinish_0 : decode cX31_hasFinish 0 = .ok (.aload_n 0, 1) := dk_42 (dk_at dksX31_hasFinish_0 0 rfl rfl)
theorem dX31_hasFinish_1 : decode cX31_hasFinish 1 = .ok (.getfield 43, 3) := dk_180 0 43 (dk_at dksX31_hasFinish_0 1 rfl rfl)
theorem dX31_hasFinish_4 : decode cX31_hasFinish 4 = .ok (.ifnull 7, 3) := dk_198 0 7 (dk_at dksX31_hasFinish_0 4 rfl rfl)
theorem dX31_hasFinish_7 : decode cX31_hasFinish 7 = .ok (.iconst 1, 1) := dk_4 (dk_at dksX31_hasFinish_0 7 rfl rfl)
theorem dX31_hasFinish_8 : decode cX31_hasFinish 8 = .ok (.goto 4, 3) := dk_167 0 4 (dk_at dksX31_hasFinish_0 8 rfl rfl)
theorem dX31_hasFinish_11 : decode cX31_hasFinish 11 = .ok (.iconst 0, 1) := dk_3 (dk_at dksX31_hasFinish_0 11 rfl rfl)
theorem dX31_hasFinish_12 : decode cX31_hasFinish 12 = .ok (.ireturn, 1) := dk_172 (dk_at dksX31_hasFinish_0 12 rfl rfl)
theorem okX31_hasFinish_0 : XOkL xms rX31_hasFinish bX31_hasFinish_0 := xcP (xok_aload_n dX31_hasFinish_0 rfl) rfl (xcP (xok_getfield (ref := "WaysAtlas$Guard") (Or.inr ⟨rfl, by decide⟩) dX31_hasFinish_1 (Or.inl ⟨q1204, (Or.inl rfl)⟩) xh1138) rfl (xcP (xok_ifnull dX31_hasFinish_4 (by decide)) rfl (xcP (xok_iconst dX31_hasFinish_7 rfl) rfl (xcP (xok_goto dX31_hasFinish_8 (by decide)) rfl trivial))))
theorem okX31_hasFinish_11 : XOkL xms rX31_hasFinish bX31_hasFinish_11 := xcP (xok_iconst dX31_hasFinish_11 rfl) rfl (xcP xok_fal rfl trivial)
theorem okX31_hasFinish_12 : XOkL xms rX31_hasFinish bX31_hasFinish_12 := xcR ⟨dX31_hasFinish_12, rfl⟩
theorem okM_X31_hasFinish : XOkM xms rX31_hasFinish := xokM0 (List.forall_mem_cons.mpr ⟨⟨rfl, okX31_hasFinish_0⟩, List.forall_mem_cons.mpr ⟨⟨rfl, okX31_hasFinish_11⟩, List.forall_mem_cons.mpr ⟨⟨rfl, okX31_hasFinish_12⟩, fun _ h => nomatch h⟩⟩⟩) (xokH0 rfl (fun _ _ => rfl)) (by decide +kernel) (by decide)
abbrev cX32_wide : ByteArray := prog_26_method_2_code
def dkwX32_wide_1 : List UInt8 := [176]
abbrev dktX32_wide_1 : List UInt8 := dkwX32_wide_1 ++ []
def dkwX32_wide_0 : List UInt8 := [27, 42, 190, 163, 0, 5, 42, 176, 5, 27, 104, 188, 10, 77, 42, 3, 44, 3, 42, 190, 184, 0, 28, 44]
abbrev dktX32_wide_0 : List UInt8 := dkwX32_wide_0 ++ dktX32_wide_1
theorem dksX32_wide_0 : cX32_wide.data.toList.drop 0 = dktX32_wide_0 := by decide +kernel
theorem dksX32_wide_1 : cX32_wide.data.toList.drop 24 = dktX32_wide_1 := dk_seg dksX32_wide_0 24 rfl rfl
theorem dX32_wide_0 : decode cX32_wide 0 = .ok (.iload_n 1, 1) := dk_27 (dk_at dksX32_wide_0 0 rfl rfl)
theorem dX32_wide_1 : decode cX32_wide 1 = .ok (.aload_n 0, 1) := dk_42 (dk_at dksX32_wide_0 1 rfl rfl)
theorem dX32_wide_2 : decode cX32_wide 2 = .ok (.arraylength, 1) := dk_190 (dk_at dksX32_wide_0 2 rfl rfl)
theorem dX32_wide_3 : decode cX32_wide 3 = .ok (.if_icmp .gt 5, 3) := dk_163 0 5 (dk_at dksX32_wide_0 3 rfl rfl)
theorem dX32_wide_6 : decode cX32_wide 6 = .ok (.aload_n 0, 1) := dk_42 (dk_at dksX32_wide_0 6 rfl rfl)
theorem dX32_wide_7 : decode cX32_wide 7 = .ok (.areturn, 1) := dk_176 (dk_at dksX32_wide_0 7 rfl rfl)
theorem dX32_wide_8 : decode cX32_wide 8 = .ok (.iconst 2, 1) := dk_5 (dk_at dksX32_wide_0 8 rfl rfl)
theorem dX32_wide_9 : decode cX32_wide 9 = .ok (.iload_n 1, 1) := dk_27 (dk_at dksX32_wide_0 9 rfl rfl)
theorem dX32_wide_10 : decode cX32_wide 10 = .ok (.imul, 1) := dk_104 (dk_at dksX32_wide_0 10 rfl rfl)
theorem dX32_wide_11 : decode cX32_wide 11 = .ok (.newarray .int, 2) := dk_188_10 (dk_at dksX32_wide_0 11 rfl rfl)
theorem dX32_wide_13 : decode cX32_wide 13 = .ok (.astore_n 2, 1) := dk_77 (dk_at dksX32_wide_0 13 rfl rfl)
theorem dX32_wide_14 : decode cX32_wide 14 = .ok (.aload_n 0, 1) := dk_42 (dk_at dksX32_wide_0 14 rfl rfl)
theorem dX32_wide_15 : decode cX32_wide 15 = .ok (.iconst 0, 1) := dk_3 (dk_at dksX32_wide_0 15 rfl rfl)
theorem dX32_wide_16 : decode cX32_wide 16 = .ok (.aload_n 2, 1) := dk_44 (dk_at dksX32_wide_0 16 rfl rfl)
theorem dX32_wide_17 : decode cX32_wide 17 = .ok (.iconst 0, 1) := dk_3 (dk_at dksX32_wide_0 17 rfl rfl)
theorem dX32_wide_18 : decode cX32_wide 18 = .ok (.aload_n 0, 1) := dk_42 (dk_at dksX32_wide_0 18 rfl rfl)
theorem dX32_wide_19 : decode cX32_wide 19 = .ok (.arraylength, 1) := dk_190 (dk_at dksX32_wide_0 19 rfl rfl)
theorem dX32_wide_20 : decode cX32_wide 20 = .ok (.invokestatic 28, 3) := dk_184 0 28 (dk_at dksX32_wide_0 20 rfl rfl)
theorem dX32_wide_23 : decode cX32_wide 23 = .ok (.aload_n 2, 1) := dk_44 (dk_at dksX32_wide_0 23 rfl rfl)
theorem dX32_wide_24 : decode cX32_wide 24 = .ok (.areturn, 1) := dk_176 (dk_at dksX32_wide_1 0 rfl rfl)
theorem okX32_wide_0 : XOkL xms rX32_wide bX32_wide_0 := xcP (xok_iload_n dX32_wide_0 rfl) rfl (xcP (xok_aload_n dX32_wide_1 rfl) rfl (xcP (xok_len dX32_wide_2) rfl (xcP (xok_icmpgt dX32_wide_3 (by decide)) rfl (xcP (xok_aload_n dX32_wide_6 rfl) rfl (xcR ⟨dX32_wide_7, _, rfl, Or.inr ⟨_, rfl⟩⟩)))))
theorem okX32_wide_8 : XOkL xms rX32_wide bX32_wide_8 := xcP (xok_iconst dX32_wide_8 rfl) rfl (xcP (xok_iload_n dX32_wide_9 rfl) rfl (xcP (xok_imul dX32_wide_10) rfl (xcP (xok_newarray (atype := .int) (by decide) rfl dX32_wide_11 q222) rfl (xcP (xok_astore_n dX32_wide_13 rfl) rfl (xcP (xok_aload_n dX32_wide_14 rfl) rfl (xcP (xok_iconst dX32_wide_15 rfl) rfl (xcP (xok_aload_n dX32_wide_16 rfl) rfl (xcP (xok_iconst dX32_wide_17 rfl) rfl (xcP (xok_aload_n dX32_wide_18 rfl) rfl (xcP (xok_len dX32_wide_19) rfl (xcP (xok_cpi dX32_wide_20 q1228) rfl (xcP (xok_aload_n dX32_wide_23 rfl) rfl (xcR ⟨dX32_wide_24, _, rfl, Or.inr ⟨_, rfl⟩⟩)))))))))))))
theorem okM_X32_wide : XOkM xms rX32_wide := xokM0 (List.forall_mem_cons.mpr ⟨⟨rfl, okX32_wide_0⟩, List.forall_mem_cons.mpr ⟨⟨rfl, okX32_wide_8⟩, fun _ h => nomatch h⟩⟩) (xokH0 rfl (fun _ _ => rfl)) (by decide +kernel) (by decide)
abbrev cX32_init : ByteArray := prog_26_method_1_code
def dkwX32_init_1 : List UInt8 := [42, 44, 181, 0, 20, 42, 45, 181, 0, 24, 177]
abbrev dktX32_init_1 : List UInt8 := dkwX32_init_1 ++ []
def dkwX32_init_0 : List UInt8 := [42, 183, 0, 1, 42, 16, 8, 188, 10, 181, 0, 7, 42, 7, 188, 10, 181, 0, 13, 42, 27, 181, 0, 16]
abbrev dktX32_init_0 : List UInt8 := dkwX32_init_0 ++ dktX32_init_1
theorem dksX32_init_0 : cX32_init.data.toList.drop 0 = dktX32_init_0 := by decide +kernel
theorem dksX32_init_1 : cX32_init.data.toList.drop 24 = dktX32_init_1 := dk_seg dksX32_init_0 24 rfl rfl
theorem dX32_init_0 : decode cX32_init 0 = .ok (.aload_n 0, 1) := dk_42 (dk_at dksX32_init_0 0 rfl rfl)
theorem dX32_init_1 : decode cX32_init 1 = .ok (.invokespecial 1, 3) := dk_183 0 1 (dk_at dksX32_init_0 1 rfl rfl)
theorem dX32_init_4 : decode cX32_init 4 = .ok (.aload_n 0, 1) := dk_42 (dk_at dksX32_init_0 4 rfl rfl)
theorem dX32_init_5 : decode cX32_init 5 = .ok (.bipush 8, 2) := dk_16 8 (dk_at dksX32_init_0 5 rfl rfl)
theorem dX32_init_7 : decode cX32_init 7 = .ok (.newarray .int, 2) := dk_188_10 (dk_at dksX32_init_0 7 rfl rfl)
theorem dX32_init_9 : decode cX32_init 9 = .ok (.putfield 7, 3) := dk_181 0 7 (dk_at dksX32_init_0 9 rfl rfl)
theorem dX32_init_12 : decode cX32_init 12 = .ok (.aload_n 0, 1) := dk_42 (dk_at dksX32_init_0 12 rfl rfl)
theorem dX32_init_13 : decode cX32_init 13 = .ok (.iconst 4, 1) := dk_7 (dk_at dksX32_init_0 13 rfl rfl)
theorem dX32_init_14 : decode cX32_init 14 = .ok (.newarray .int, 2) := dk_188_10 (dk_at dksX32_init_0 14 rfl rfl)
theorem dX32_init_16 : decode cX32_init 16 = .ok (.putfield 13, 3) := dk_181 0 13 (dk_at dksX32_init_0 16 rfl rfl)
theorem dX32_init_19 : decode cX32_init 19 = .ok (.aload_n 0, 1) := dk_42 (dk_at dksX32_init_0 19 rfl rfl)
theorem dX32_init_20 : decode cX32_init 20 = .ok (.iload_n 1, 1) := dk_27 (dk_at dksX32_init_0 20 rfl rfl)
theorem dX32_init_21 : decode cX32_init 21 = .ok (.putfield 16, 3) := dk_181 0 16 (dk_at dksX32_init_0 21 rfl rfl)
theorem dX32_init_24 : decode cX32_init 24 = .ok (.aload_n 0, 1) := dk_42 (dk_at dksX32_init_1 0 rfl rfl)
theorem dX32_init_25 : decode cX32_init 25 = .ok (.aload_n 2, 1) := dk_44 (dk_at dksX32_init_1 1 rfl rfl)
theorem dX32_init_26 : decode cX32_init 26 = .ok (.putfield 20, 3) := dk_181 0 20 (dk_at dksX32_init_1 2 rfl rfl)
theorem dX32_init_29 : decode cX32_init 29 = .ok (.aload_n 0, 1) := dk_42 (dk_at dksX32_init_1 5 rfl rfl)
theorem dX32_init_30 : decode cX32_init 30 = .ok (.aload_n 3, 1) := dk_45 (dk_at dksX32_init_1 6 rfl rfl)
theorem dX32_init_31 : decode cX32_init 31 = .ok (.putfield 24, 3) := dk_181 0 24 (dk_at dksX32_init_1 7 rfl rfl)
theorem dX32_init_34 : decode cX32_init 34 = .ok (.return_, 1) := dk_177 (dk_at dksX32_init_1 10 rfl rfl)
theorem okX32_init_0 : XOkL xms rX32_init bX32_init_0 := xcP (xok_aload_n dX32_init_0 rfl) rfl (xcP (xok_objInit dX32_init_1 q1333 q186 q187) rfl (xcP (xok_aload_n dX32_init_4 rfl) rfl (xcP (xok_bipush dX32_init_5 rfl) rfl (xcP (xok_newarray (atype := .int) (by decide) rfl dX32_init_7 q222) rfl (xcP (xok_putfield (ref := "WaysAtlas$Scope") (Or.inr (Or.inr ⟨rfl, by decide, rfl⟩)) dX32_init_9 (Or.inl ⟨q1340, (Or.inl rfl)⟩) (Or.inl rfl) xh1141) rfl (xcP (xok_aload_n dX32_init_12 rfl) rfl (xcP (xok_iconst dX32_init_13 rfl) rfl (xcP (xok_newarray (atype := .int) (by decide) rfl dX32_init_14 q222) rfl (xcP (xok_putfield (ref := "WaysAtlas$Scope") (Or.inr (Or.inr ⟨rfl, by decide, rfl⟩)) dX32_init_16 (Or.inl ⟨q1344, (Or.inl rfl)⟩) (Or.inl rfl) xh1142) rfl (xcP (xok_aload_n dX32_init_19 rfl) rfl (xcP (xok_iload_n dX32_init_20 rfl) rfl (xcP (xok_putfield (ref := "WaysAtlas$Scope") (Or.inl ⟨rfl, by decide, rfl⟩) dX32_init_21 (Or.inl ⟨q1334, (Or.inl rfl)⟩) (Or.inr ⟨rfl, rfl, ⟨q1334, (Or.inl rfl)⟩⟩) xh96) rfl (xcP (xok_aload_n dX32_init_24 rfl) rfl (xcP (xok_aload_n dX32_init_25 rfl) rfl (xcP (xok_putfield (ref := "WaysAtlas$Scope") (Or.inr (Or.inr ⟨rfl, by decide, rfl⟩)) dX32_init_26 (Or.inl ⟨q1336, (Or.inl rfl)⟩) (Or.inr ⟨rfl, rfl, ⟨q1336, (Or.inl rfl)⟩⟩) xh1139) rfl (xcP (xok_aload_n dX32_init_29 rfl) rfl (xcP (xok_aload_n dX32_init_30 rfl) rfl (xcP (xok_putfield (ref := "WaysAtlas$Scope") (Or.inr (Or.inr ⟨rfl, by decide, rfl⟩)) dX32_init_31 (Or.inl ⟨q1338, (Or.inl rfl)⟩) (Or.inr ⟨rfl, rfl, ⟨q1338, (Or.inl rfl)⟩⟩) xh1140) rfl (xcR ⟨dX32_init_34, rfl⟩)))))))))))))))))))
theorem okM_X32_init : XOkM xms rX32_init := xokM0 (List.forall_mem_cons.mpr ⟨⟨rfl, okX32_init_0⟩, fun _ h => nomatch h⟩) (xokH0 rfl (fun _ _ => rfl)) (by decide +kernel) (by decide)
abbrev cX32_lands : ByteArray := prog_26_method_4_code
def dkwX32_lands_1 : List UInt8 := [167, 255, 234, 177]
abbrev dktX32_lands_1 : List UInt8 := dkwX32_lands_1 ++ []
def dkwX32_lands_0 : List UInt8 := [3, 62, 29, 42, 180, 0, 34, 162, 0, 20, 43, 42, 180, 0, 13, 29, 46, 28, 182, 0, 41, 132, 3, 1]
abbrev dktX32_lands_0 : List UInt8 := dkwX32_lands_0 ++ dktX32_lands_1
theorem dksX32_lands_0 : cX32_lands.data.toList.drop 0 = dktX32_lands_0 := by decide +kernel
theorem dksX32_lands_1 : cX32_lands.data.toList.drop 24 = dktX32_lands_1 := dk_seg dksX32_lands_0 24 rfl rfl
theorem dX32_lands_0 : decode cX32_lands 0 = .ok (.iconst 0, 1) := dk_3 (dk_at dksX32_lands_0 0 rfl rfl)
theorem dX32_lands_1 : decode cX32_lands 1 = .ok (.istore_n 3, 1) := dk_62 (dk_at dksX32_lands_0 1 rfl rfl)
theorem dX32_lands_2 : decode cX32_lands 2 = .ok (.iload_n 3, 1) := dk_29 (dk_at dksX32_lands_0 2 rfl rfl)
theorem dX32_lands_3 : decode cX32_lands 3 = .ok (.aload_n 0, 1) := dk_42 (dk_at dksX32_lands_0 3 rfl rfl)
theorem dX32_lands_4 : decode cX32_lands 4 = .ok (.getfield 34, 3) := dk_180 0 34 (dk_at dksX32_lands_0 4 rfl rfl)
theorem dX32_lands_7 : decode cX32_lands 7 = .ok (.if_icmp .ge 20, 3) := dk_162 0 20 (dk_at dksX32_lands_0 7 rfl rfl)
theorem dX32_lands_10 : decode cX32_lands 10 = .ok (.aload_n 1, 1) := dk_43 (dk_at dksX32_lands_0 10 rfl rfl)
theorem dX32_lands_11 : decode cX32_lands 11 = .ok (.aload_n 0, 1) := dk_42 (dk_at dksX32_lands_0 11 rfl rfl)
theorem dX32_lands_12 : decode cX32_lands 12 = .ok (.getfield 13, 3) := dk_180 0 13 (dk_at dksX32_lands_0 12 rfl rfl)
theorem dX32_lands_15 : decode cX32_lands 15 = .ok (.iload_n 3, 1) := dk_29 (dk_at dksX32_lands_0 15 rfl rfl)
theorem dX32_lands_16 : decode cX32_lands 16 = .ok (.iaload, 1) := dk_46 (dk_at dksX32_lands_0 16 rfl rfl)
theorem dX32_lands_17 : decode cX32_lands 17 = .ok (.iload_n 2, 1) := dk_28 (dk_at dksX32_lands_0 17 rfl rfl)
theorem dX32_lands_18 : decode cX32_lands 18 = .ok (.invokevirtual 41, 3) := dk_182 0 41 (dk_at dksX32_lands_0 18 rfl rfl)
theorem dX32_lands_21 : decode cX32_lands 21 = .ok (.iinc 3 1, 3) := dk_132 3 1 (dk_at dksX32_lands_0 21 rfl rfl)
theorem dX32_lands_24 : decode cX32_lands 24 = .ok (.goto (-22), 3) := dk_167 255 234 (dk_at dksX32_lands_1 0 rfl rfl)
theorem dX32_lands_27 : decode cX32_lands 27 = .ok (.return_, 1) := dk_177 (dk_at dksX32_lands_1 3 rfl rfl)
theorem okX32_lands_0 : XOkL xms rX32_lands bX32_lands_0 := xcP (xok_iconst dX32_lands_0 rfl) rfl (xcP (xok_istore_n dX32_lands_1 rfl) rfl (xcP xok_fal rfl trivial))
theorem okX32_lands_2 : XOkL xms rX32_lands bX32_lands_2 := xcP (xok_iload_n dX32_lands_2 rfl) rfl (xcP (xok_aload_n dX32_lands_3 rfl) rfl (xcP (xok_getfield (ref := "WaysAtlas$Scope") (Or.inl ⟨rfl, by decide⟩) dX32_lands_4 (Or.inl ⟨q1345, (Or.inl rfl)⟩) xh98) rfl (xcP (xok_icmpge dX32_lands_7 (by decide)) rfl (xcP (xok_aload_n dX32_lands_10 rfl) rfl (xcP (xok_aload_n dX32_lands_11 rfl) rfl (xcP (xok_getfield (ref := "WaysAtlas$Scope") (Or.inr ⟨rfl, by decide⟩) dX32_lands_12 (Or.inl ⟨q1344, (Or.inl rfl)⟩) xh1142) rfl (xcP (xok_iload_n dX32_lands_15 rfl) rfl (xcP (xok_iaload dX32_lands_16) rfl (xcP (xok_iload_n dX32_lands_17 rfl) rfl (xcC0 (xokc_list (List.forall_mem_cons.mpr ⟨xokc_V (r := (RX33, TX33, 6)) xm284 (List.mem_of_getElem? (i := 30) rfl) (by decide) rfl dX32_lands_18 q1393 q1382 q1383 q179 q1384 (by decide +kernel), fun _ h => nomatch h⟩)) rfl (xcP (xok_iinc dX32_lands_21 rfl) rfl (xcP (xok_goto dX32_lands_24 (by decide)) rfl trivial))))))))))))
theorem okX32_lands_27 : XOkL xms rX32_lands bX32_lands_27 := xcR ⟨dX32_lands_27, rfl⟩
theorem okM_X32_lands : XOkM xms rX32_lands := xokM0 (List.forall_mem_cons.mpr ⟨⟨rfl, okX32_lands_0⟩, List.forall_mem_cons.mpr ⟨⟨rfl, okX32_lands_2⟩, List.forall_mem_cons.mpr ⟨⟨rfl, okX32_lands_27⟩, fun _ h => nomatch h⟩⟩⟩) (xokH0 rfl (fun _ _ => rfl)) (by decide +kernel) (by decide)
abbrev cX32_adds : ByteArray := prog_26_method_3_code
def dkwX32_adds_1 : List UInt8 := [180, 0, 34, 27, 79, 42, 89, 180, 0, 34, 4, 96, 181, 0, 34, 177]
abbrev dktX32_adds_1 : List UInt8 := dkwX32_adds_1 ++ []
def dkwX32_adds_0 : List UInt8 := [42, 42, 180, 0, 13, 42, 180, 0, 34, 4, 96, 184, 0, 37, 181, 0, 13, 42, 180, 0, 13, 42]
abbrev dktX32_adds_0 : List UInt8 := dkwX32_adds_0 ++ dktX32_adds_1
theorem dksX32_adds_0 : cX32_adds.data.toList.drop 0 = dktX32_adds_0 := by decide +kernel
theorem dksX32_adds_1 : cX32_adds.data.toList.drop 22 = dktX32_adds_1 := dk_seg dksX32_adds_0 22 rfl rfl
theorem dX32_adds_0 : decode cX32_adds 0 = .ok (.aload_n 0, 1) := dk_42 (dk_at dksX32_adds_0 0 rfl rfl)
theorem dX32_adds_1 : decode cX32_adds 1 = .ok (.aload_n 0, 1) := dk_42 (dk_at dksX32_adds_0 1 rfl rfl)
theorem dX32_adds_2 : decode cX32_adds 2 = .ok (.getfield 13, 3) := dk_180 0 13 (dk_at dksX32_adds_0 2 rfl rfl)
theorem dX32_adds_5 : decode cX32_adds 5 = .ok (.aload_n 0, 1) := dk_42 (dk_at dksX32_adds_0 5 rfl rfl)
theorem dX32_adds_6 : decode cX32_adds 6 = .ok (.getfield 34, 3) := dk_180 0 34 (dk_at dksX32_adds_0 6 rfl rfl)
theorem dX32_adds_9 : decode cX32_adds 9 = .ok (.iconst 1, 1) := dk_4 (dk_at dksX32_adds_0 9 rfl rfl)
theorem dX32_adds_10 : decode cX32_adds 10 = .ok (.iadd, 1) := dk_96 (dk_at dksX32_adds_0 10 rfl rfl)
theorem dX32_adds_11 : decode cX32_adds 11 = .ok (.invokestatic 37, 3) := dk_184 0 37 (dk_at dksX32_adds_0 11 rfl rfl)
theorem dX32_adds_14 : decode cX32_adds 14 = .ok (.putfield 13, 3) := dk_181 0 13 (dk_at dksX32_adds_0 14 rfl rfl)
theorem dX32_adds_17 : decode cX32_adds 17 = .ok (.aload_n 0, 1) := dk_42 (dk_at dksX32_adds_0 17 rfl rfl)
theorem dX32_adds_18 : decode cX32_adds 18 = .ok (.getfield 13, 3) := dk_180 0 13 (dk_at dksX32_adds_0 18 rfl rfl)
theorem dX32_adds_21 : decode cX32_adds 21 = .ok (.aload_n 0, 1) := dk_42 (dk_at dksX32_adds_0 21 rfl rfl)
theorem dX32_adds_22 : decode cX32_adds 22 = .ok (.getfield 34, 3) := dk_180 0 34 (dk_at dksX32_adds_1 0 rfl rfl)
theorem dX32_adds_25 : decode cX32_adds 25 = .ok (.iload_n 1, 1) := dk_27 (dk_at dksX32_adds_1 3 rfl rfl)
theorem dX32_adds_26 : decode cX32_adds 26 = .ok (.iastore, 1) := dk_79 (dk_at dksX32_adds_1 4 rfl rfl)
theorem dX32_adds_27 : decode cX32_adds 27 = .ok (.aload_n 0, 1) := dk_42 (dk_at dksX32_adds_1 5 rfl rfl)
theorem dX32_adds_28 : decode cX32_adds 28 = .ok (.dup, 1) := dk_89 (dk_at dksX32_adds_1 6 rfl rfl)
theorem dX32_adds_29 : decode cX32_adds 29 = .ok (.getfield 34, 3) := dk_180 0 34 (dk_at dksX32_adds_1 7 rfl rfl)
theorem dX32_adds_32 : decode cX32_adds 32 = .ok (.iconst 1, 1) := dk_4 (dk_at dksX32_adds_1 10 rfl rfl)
theorem dX32_adds_33 : decode cX32_adds 33 = .ok (.iadd, 1) := dk_96 (dk_at dksX32_adds_1 11 rfl rfl)
theorem dX32_adds_34 : decode cX32_adds 34 = .ok (.putfield 34, 3) := dk_181 0 34 (dk_at dksX32_adds_1 12 rfl rfl)
theorem dX32_adds_37 : decode cX32_adds 37 = .ok (.return_, 1) := dk_177 (dk_at dksX32_adds_1 15 rfl rfl)
theorem okX32_adds_0 : XOkL xms rX32_adds bX32_adds_0 := xcP (xok_aload_n dX32_adds_0 rfl) rfl (xcP (xok_aload_n dX32_adds_1 rfl) rfl (xcP (xok_getfield (ref := "WaysAtlas$Scope") (Or.inr ⟨rfl, by decide⟩) dX32_adds_2 (Or.inl ⟨q1344, (Or.inl rfl)⟩) xh1142) rfl (xcP (xok_aload_n dX32_adds_5 rfl) rfl (xcP (xok_getfield (ref := "WaysAtlas$Scope") (Or.inl ⟨rfl, by decide⟩) dX32_adds_6 (Or.inl ⟨q1345, (Or.inl rfl)⟩) xh98) rfl (xcP (xok_iconst dX32_adds_9 rfl) rfl (xcP (xok_iadd dX32_adds_10) rfl (xcC0 (xokc_S xm267 rfl dX32_adds_11 q1430 q1226 q177 q1227 (by decide +kernel)) rfl (xcP (xok_putfield (ref := "WaysAtlas$Scope") (Or.inr (Or.inr ⟨rfl, by decide, rfl⟩)) dX32_adds_14 (Or.inl ⟨q1344, (Or.inl rfl)⟩) (Or.inl rfl) xh1142) rfl (xcP (xok_aload_n dX32_adds_17 rfl) rfl (xcP (xok_getfield (ref := "WaysAtlas$Scope") (Or.inr ⟨rfl, by decide⟩) dX32_adds_18 (Or.inl ⟨q1344, (Or.inl rfl)⟩) xh1142) rfl (xcP (xok_aload_n dX32_adds_21 rfl) rfl (xcP (xok_getfield (ref := "WaysAtlas$Scope") (Or.inl ⟨rfl, by decide⟩) dX32_adds_22 (Or.inl ⟨q1345, (Or.inl rfl)⟩) xh98) rfl (xcP (xok_iload_n dX32_adds_25 rfl) rfl (xcP (xok_iastore dX32_adds_26) rfl (xcP (xok_aload_n dX32_adds_27 rfl) rfl (xcP (xok_dup dX32_adds_28) rfl (xcP (xok_getfield (ref := "WaysAtlas$Scope") (Or.inl ⟨rfl, by decide⟩) dX32_adds_29 (Or.inl ⟨q1345, (Or.inl rfl)⟩) xh98) rfl (xcP (xok_iconst dX32_adds_32 rfl) rfl (xcP (xok_iadd dX32_adds_33) rfl (xcP (xok_putfield (ref := "WaysAtlas$Scope") (Or.inl ⟨rfl, by decide, rfl⟩) dX32_adds_34 (Or.inl ⟨q1345, (Or.inl rfl)⟩) (Or.inl rfl) xh98) rfl (xcR ⟨dX32_adds_37, rfl⟩)))))))))))))))))))))
theorem okM_X32_adds : XOkM xms rX32_adds := xokM0 (List.forall_mem_cons.mpr ⟨⟨rfl, okX32_adds_0⟩, fun _ h => nomatch h⟩) (xokH0 rfl (fun _ _ => rfl)) (by decide +kernel) (by decide)
abbrev cX32_gap : ByteArray := prog_26_method_5_code
def dkwX32_gap_2 : List UInt8 := [181, 0, 47, 177]
abbrev dktX32_gap_2 : List UInt8 := dkwX32_gap_2 ++ []
def dkwX32_gap_1 : List UInt8 := [180, 0, 47, 27, 79, 42, 180, 0, 7, 42, 180, 0, 47, 4, 96, 28, 79, 42, 89, 180, 0, 47, 5, 96]
abbrev dktX32_gap_1 : List UInt8 := dkwX32_gap_1 ++ dktX32_gap_2
def dkwX32_gap_0 : List UInt8 := [42, 42, 180, 0, 7, 42, 180, 0, 47, 5, 96, 184, 0, 37, 181, 0, 7, 42, 180, 0, 7, 42]
abbrev dktX32_gap_0 : List UInt8 := dkwX32_gap_0 ++ dktX32_gap_1
theorem dksX32_gap_0 : cX32_gap.data.toList.drop 0 = dktX32_gap_0 := by decide +kernel
theorem dksX32_gap_1 : cX32_gap.data.toList.drop 22 = dktX32_gap_1 := dk_seg dksX32_gap_0 22 rfl rfl
theorem dksX32_gap_2 : cX32_gap.data.toList.drop 46 = dktX32_gap_2 := dk_seg dksX32_gap_1 24 rfl rfl
theorem dX32_gap_0 : decode cX32_gap 0 = .ok (.aload_n 0, 1) := dk_42 (dk_at dksX32_gap_0 0 rfl rfl)
theorem dX32_gap_1 : decode cX32_gap 1 = .ok (.aload_n 0, 1) := dk_42 (dk_at dksX32_gap_0 1 rfl rfl)
theorem dX32_gap_2 : decode cX32_gap 2 = .ok (.getfield 7, 3) := dk_180 0 7 (dk_at dksX32_gap_0 2 rfl rfl)
theorem dX32_gap_5 : decode cX32_gap 5 = .ok (.aload_n 0, 1) := dk_42 (dk_at dksX32_gap_0 5 rfl rfl)
theorem dX32_gap_6 : decode cX32_gap 6 = .ok (.getfield 47, 3) := dk_180 0 47 (dk_at dksX32_gap_0 6 rfl rfl)
theorem dX32_gap_9 : decode cX32_gap 9 = .ok (.iconst 2, 1) := dk_5 (dk_at dksX32_gap_0 9 rfl rfl)
theorem dX32_gap_10 : decode cX32_gap 10 = .ok (.iadd, 1) := dk_96 (dk_at dksX32_gap_0 10 rfl rfl)
theorem dX32_gap_11 : decode cX32_gap 11 = .ok (.invokestatic 37, 3) := dk_184 0 37 (dk_at dksX32_gap_0 11 rfl rfl)
theorem dX32_gap_14 : decode cX32_gap 14 = .ok (.putfield 7, 3) := dk_181 0 7 (dk_at dksX32_gap_0 14 rfl rfl)
theorem dX32_gap_17 : decode cX32_gap 17 = .ok (.aload_n 0, 1) := dk_42 (dk_at dksX32_gap_0 17 rfl rfl)
theorem dX32_gap_18 : decode cX32_gap 18 = .ok (.getfield 7, 3) := dk_180 0 7 (dk_at dksX32_gap_0 18 rfl rfl)
theorem dX32_gap_21 : decode cX32_gap 21 = .ok (.aload_n 0, 1) := dk_42 (dk_at dksX32_gap_0 21 rfl rfl)
theorem dX32_gap_22 : decode cX32_gap 22 = .ok (.getfield 47, 3) := dk_180 0 47 (dk_at dksX32_gap_1 0 rfl rfl)
theorem dX32_gap_25 : decode cX32_gap 25 = .ok (.iload_n 1, 1) := dk_27 (dk_at dksX32_gap_1 3 rfl rfl)
theorem dX32_gap_26 : decode cX32_gap 26 = .ok (.iastore, 1) := dk_79 (dk_at dksX32_gap_1 4 rfl rfl)
theorem dX32_gap_27 : decode cX32_gap 27 = .ok (.aload_n 0, 1) := dk_42 (dk_at dksX32_gap_1 5 rfl rfl)
theorem dX32_gap_28 : decode cX32_gap 28 = .ok (.getfield 7, 3) := dk_180 0 7 (dk_at dksX32_gap_1 6 rfl rfl)
theorem dX32_gap_31 : decode cX32_gap 31 = .ok (.aload_n 0, 1) := dk_42 (dk_at dksX32_gap_1 9 rfl rfl)
theorem dX32_gap_32 : decode cX32_gap 32 = .ok (.getfield 47, 3) := dk_180 0 47 (dk_at dksX32_gap_1 10 rfl rfl)
theorem dX32_gap_35 : decode cX32_gap 35 = .ok (.iconst 1, 1) := dk_4 (dk_at dksX32_gap_1 13 rfl rfl)
theorem dX32_gap_36 : decode cX32_gap 36 = .ok (.iadd, 1) := dk_96 (dk_at dksX32_gap_1 14 rfl rfl)
theorem dX32_gap_37 : decode cX32_gap 37 = .ok (.iload_n 2, 1) := dk_28 (dk_at dksX32_gap_1 15 rfl rfl)
theorem dX32_gap_38 : decode cX32_gap 38 = .ok (.iastore, 1) := dk_79 (dk_at dksX32_gap_1 16 rfl rfl)
theorem dX32_gap_39 : decode cX32_gap 39 = .ok (.aload_n 0, 1) := dk_42 (dk_at dksX32_gap_1 17 rfl rfl)
theorem dX32_gap_40 : decode cX32_gap 40 = .ok (.dup, 1) := dk_89 (dk_at dksX32_gap_1 18 rfl rfl)
theorem dX32_gap_41 : decode cX32_gap 41 = .ok (.getfield 47, 3) := dk_180 0 47 (dk_at dksX32_gap_1 19 rfl rfl)
theorem dX32_gap_44 : decode cX32_gap 44 = .ok (.iconst 2, 1) := dk_5 (dk_at dksX32_gap_1 22 rfl rfl)
theorem dX32_gap_45 : decode cX32_gap 45 = .ok (.iadd, 1) := dk_96 (dk_at dksX32_gap_1 23 rfl rfl)
theorem dX32_gap_46 : decode cX32_gap 46 = .ok (.putfield 47, 3) := dk_181 0 47 (dk_at dksX32_gap_2 0 rfl rfl)
theorem dX32_gap_49 : decode cX32_gap 49 = .ok (.return_, 1) := dk_177 (dk_at dksX32_gap_2 3 rfl rfl)
theorem okX32_gap_0 : XOkL xms rX32_gap bX32_gap_0 := xcP (xok_aload_n dX32_gap_0 rfl) rfl (xcP (xok_aload_n dX32_gap_1 rfl) rfl (xcP (xok_getfield (ref := "WaysAtlas$Scope") (Or.inr ⟨rfl, by decide⟩) dX32_gap_2 (Or.inl ⟨q1340, (Or.inl rfl)⟩) xh1141) rfl (xcP (xok_aload_n dX32_gap_5 rfl) rfl (xcP (xok_getfield (ref := "WaysAtlas$Scope") (Or.inl ⟨rfl, by decide⟩) dX32_gap_6 (Or.inl ⟨q1342, (Or.inl rfl)⟩) xh97) rfl (xcP (xok_iconst dX32_gap_9 rfl) rfl (xcP (xok_iadd dX32_gap_10) rfl (xcC0 (xokc_S xm267 rfl dX32_gap_11 q1430 q1226 q177 q1227 (by decide +kernel)) rfl (xcP (xok_putfield (ref := "WaysAtlas$Scope") (Or.inr (Or.inr ⟨rfl, by decide, rfl⟩)) dX32_gap_14 (Or.inl ⟨q1340, (Or.inl rfl)⟩) (Or.inl rfl) xh1141) rfl (xcP (xok_aload_n dX32_gap_17 rfl) rfl (xcP (xok_getfield (ref := "WaysAtlas$Scope") (Or.inr ⟨rfl, by decide⟩) dX32_gap_18 (Or.inl ⟨q1340, (Or.inl rfl)⟩) xh1141) rfl (xcP (xok_aload_n dX32_gap_21 rfl) rfl (xcP (xok_getfield (ref := "WaysAtlas$Scope") (Or.inl ⟨rfl, by decide⟩) dX32_gap_22 (Or.inl ⟨q1342, (Or.inl rfl)⟩) xh97) rfl (xcP (xok_iload_n dX32_gap_25 rfl) rfl (xcP (xok_iastore dX32_gap_26) rfl (xcP (xok_aload_n dX32_gap_27 rfl) rfl (xcP (xok_getfield (ref := "WaysAtlas$Scope") (Or.inr ⟨rfl, by decide⟩) dX32_gap_28 (Or.inl ⟨q1340, (Or.inl rfl)⟩) xh1141) rfl (xcP (xok_aload_n dX32_gap_31 rfl) rfl (xcP (xok_getfield (ref := "WaysAtlas$Scope") (Or.inl ⟨rfl, by decide⟩) dX32_gap_32 (Or.inl ⟨q1342, (Or.inl rfl)⟩) xh97) rfl (xcP (xok_iconst dX32_gap_35 rfl) rfl (xcP (xok_iadd dX32_gap_36) rfl (xcP (xok_iload_n dX32_gap_37 rfl) rfl (xcP (xok_iastore dX32_gap_38) rfl (xcP (xok_aload_n dX32_gap_39 rfl) rfl (xcP (xok_dup dX32_gap_40) rfl (xcP (xok_getfield (ref := "WaysAtlas$Scope") (Or.inl ⟨rfl, by decide⟩) dX32_gap_41 (Or.inl ⟨q1342, (Or.inl rfl)⟩) xh97) rfl (xcP (xok_iconst dX32_gap_44 rfl) rfl (xcP (xok_iadd dX32_gap_45) rfl (xcP (xok_putfield (ref := "WaysAtlas$Scope") (Or.inl ⟨rfl, by decide, rfl⟩) dX32_gap_46 (Or.inl ⟨q1342, (Or.inl rfl)⟩) (Or.inl rfl) xh97) rfl (xcR ⟨dX32_gap_49, rfl⟩)))))))))))))))))))))))))))))
theorem okM_X32_gap : XOkM xms rX32_gap := xokM0 (List.forall_mem_cons.mpr ⟨⟨rfl, okX32_gap_0⟩, fun _ h => nomatch h⟩) (xokH0 rfl (fun _ _ => rfl)) (by decide +kernel) (by decide)
abbrev cX33_init : ByteArray := prog_10_method_1_code
def dkwX33_init_1 : List UInt8 := [181, 0, 18, 177]
abbrev dktX33_init_1 : List UInt8 := dkwX33_init_1 ++ []
def dkwX33_init_0 : List UInt8 := [42, 183, 0, 3, 42, 17, 2, 88, 188, 10, 181, 0, 9, 42, 17, 0, 200, 188, 10, 181, 0, 15, 42, 27]
abbrev dktX33_init_0 : List UInt8 := dkwX33_init_0 ++ dktX33_init_1
theorem dksX33_init_0 : cX33_init.data.toList.drop 0 = dktX33_init_0 := by decide +kernel
theorem dksX33_init_1 : cX33_init.data.toList.drop 24 = dktX33_init_1 := dk_seg dksX33_init_0 24 rfl rfl
theorem dX33_init_0 : decode cX33_init 0 = .ok (.aload_n 0, 1) := dk_42 (dk_at dksX33_init_0 0 rfl rfl)
theorem dX33_init_1 : decode cX33_init 1 = .ok (.invokespecial 3, 3) := dk_183 0 3 (dk_at dksX33_init_0 1 rfl rfl)
theorem dX33_init_4 : decode cX33_init 4 = .ok (.aload_n 0, 1) := dk_42 (dk_at dksX33_init_0 4 rfl rfl)
theorem dX33_init_5 : decode cX33_init 5 = .ok (.sipush 600, 3) := dk_17 2 88 (dk_at dksX33_init_0 5 rfl rfl)
theorem dX33_init_8 : decode cX33_init 8 = .ok (.newarray .int, 2) := dk_188_10 (dk_at dksX33_init_0 8 rfl rfl)
theorem dX33_init_10 : decode cX33_init 10 = .ok (.putfield 9, 3) := dk_181 0 9 (dk_at dksX33_init_0 10 rfl rfl)
theorem dX33_init_13 : decode cX33_init 13 = .ok (.aload_n 0, 1) := dk_42 (dk_at dksX33_init_0 13 rfl rfl)
theorem dX33_init_14 : decode cX33_init 14 = .ok (.sipush 200, 3) := dk_17 0 200 (dk_at dksX33_init_0 14 rfl rfl)
theorem dX33_init_17 : decode cX33_init 17 = .ok (.newarray .int, 2) := dk_188_10 (dk_at dksX33_init_0 17 rfl rfl)
theorem dX33_init_19 : decode cX33_init 19 = .ok (.putfield 15, 3) := dk_181 0 15 (dk_at dksX33_init_0 19 rfl rfl)
theorem dX33_init_22 : decode cX33_init 22 = .ok (.aload_n 0, 1) := dk_42 (dk_at dksX33_init_0 22 rfl rfl)
theorem dX33_init_23 : decode cX33_init 23 = .ok (.iload_n 1, 1) := dk_27 (dk_at dksX33_init_0 23 rfl rfl)
theorem dX33_init_24 : decode cX33_init 24 = .ok (.putfield 18, 3) := dk_181 0 18 (dk_at dksX33_init_1 0 rfl rfl)
theorem dX33_init_27 : decode cX33_init 27 = .ok (.return_, 1) := dk_177 (dk_at dksX33_init_1 3 rfl rfl)
theorem okX33_init_0 : XOkL xms rX33_init bX33_init_0 := xcP (xok_aload_n dX33_init_0 rfl) rfl (xcP (xok_objInit dX33_init_1 q1241 q186 q187) rfl (xcP (xok_aload_n dX33_init_4 rfl) rfl (xcP (xok_sipush dX33_init_5 rfl) rfl (xcP (xok_newarray (atype := .int) (by decide) rfl dX33_init_8 q222) rfl (xcP (xok_putfield (ref := "WaysAtlas$Lower") (Or.inr (Or.inr ⟨rfl, by decide, rfl⟩)) dX33_init_10 (Or.inl ⟨q1242, (Or.inl rfl)⟩) (Or.inl rfl) xh1143) rfl (xcP (xok_aload_n dX33_init_13 rfl) rfl (xcP (xok_sipush dX33_init_14 rfl) rfl (xcP (xok_newarray (atype := .int) (by decide) rfl dX33_init_17 q222) rfl (xcP (xok_putfield (ref := "WaysAtlas$Lower") (Or.inr (Or.inr ⟨rfl, by decide, rfl⟩)) dX33_init_19 (Or.inl ⟨q1247, (Or.inl rfl)⟩) (Or.inl rfl) xh1144) rfl (xcP (xok_aload_n dX33_init_22 rfl) rfl (xcP (xok_iload_n dX33_init_23 rfl) rfl (xcP (xok_putfield (ref := "WaysAtlas$Lower") (Or.inr (Or.inl ⟨rfl, by decide, rfl⟩)) dX33_init_24 (Or.inl ⟨q1251, (Or.inl rfl)⟩) (Or.inr ⟨rfl, rfl, ⟨q1251, (Or.inl rfl)⟩⟩) xh102) rfl (xcR ⟨dX33_init_27, rfl⟩)))))))))))))
theorem okM_X33_init : XOkM xms rX33_init := xokM0 (List.forall_mem_cons.mpr ⟨⟨rfl, okX33_init_0⟩, fun _ h => nomatch h⟩) (xokH0 rfl (fun _ _ => rfl)) (by decide +kernel) (by decide)
abbrev cX33_isTooLong : ByteArray := prog_10_method_6_code
def dkwX33_isTooLong_0 : List UInt8 := [42, 180, 0, 18, 154, 0, 17, 42, 180, 0, 22, 17, 7, 208, 164, 0, 7, 4, 167, 0, 4, 3, 172]
abbrev dktX33_isTooLong_0 : List UInt8 := dkwX33_isTooLong_0 ++ []
theorem dksX33_isTooLong_0 : cX33_isTooLong.data.toList.drop 0 = dktX33_isTooLong_0 := by decide +kernel
theorem dX33_isTooLong_0 : decode cX33_isTooLong 0 = .ok (.aload_n 0, 1) := dk_42 (dk_at dksX33_isTooLong_0 0 rfl rfl)
theorem dX33_isTooLong_1 : decode cX33_isTooLong 1 = .ok (.getfield 18, 3) := dk_180 0 18 (dk_at dksX33_isTooLong_0 1 rfl rfl)
theorem dX33_isTooLong_4 : decode cX33_isTooLong 4 = .ok (.ifCond .ne 17, 3) := dk_154 0 17 (dk_at dksX33_isTooLong_0 4 rfl rfl)
theorem dX33_isTooLong_7 : decode cX33_isTooLong 7 = .ok (.aload_n 0, 1) := dk_42 (dk_at dksX33_isTooLong_0 7 rfl rfl)
theorem dX33_isTooLong_8 : decode cX33_isTooLong 8 = .ok (.getfield 22, 3) := dk_180 0 22 (dk_at dksX33_isTooLong_0 8 rfl rfl)
theorem dX33_isTooLong_11 : decode cX33_isTooLong 11 = .ok (.sipush 2000, 3) := dk_17 7 208 (dk_at dksX33_isTooLong_0 11 rfl rfl)
theorem dX33_isTooLong_14 : decode cX33_isTooLong 14 = .ok (.if_icmp .le 7, 3) := dk_164 0 7 (dk_at dksX33_isTooLong_0 14 rfl rfl)
theorem dX33_isTooLong_17 : decode cX33_isTooLong 17 = .ok (.iconst 1, 1) := dk_4 (dk_at dksX33_isTooLong_0 17 rfl rfl)
theorem dX33_isTooLong_18 : decode cX33_isTooLong 18 = .ok (.goto 4, 3) := dk_167 0 4 (dk_at dksX33_isTooLong_0 18 rfl rfl)
theorem dX33_isTooLong_21 : decode cX33_isTooLong 21 = .ok (.iconst 0, 1) := dk_3 (dk_at dksX33_isTooLong_0 21 rfl rfl)
theorem dX33_isTooLong_22 : decode cX33_isTooLong 22 = .ok (.ireturn, 1) := dk_172 (dk_at dksX33_isTooLong_0 22 rfl rfl)
theorem okX33_isTooLong_0 : XOkL xms rX33_isTooLong bX33_isTooLong_0 := xcP (xok_aload_n dX33_isTooLong_0 rfl) rfl (xcP (xok_getfield (ref := "WaysAtlas$Lower") (Or.inl ⟨rfl, by decide⟩) dX33_isTooLong_1 (Or.inl ⟨q1251, (Or.inl rfl)⟩) xh102) rfl (xcP (xok_ifne dX33_isTooLong_4 (by decide)) rfl (xcP (xok_aload_n dX33_isTooLong_7 rfl) rfl (xcP (xok_getfield (ref := "WaysAtlas$Lower") (Or.inl ⟨rfl, by decide⟩) dX33_isTooLong_8 (Or.inl ⟨q1244, (Or.inl rfl)⟩) xh100) rfl (xcP (xok_sipush dX33_isTooLong_11 rfl) rfl (xcP (xok_icmple dX33_isTooLong_14 (by decide)) rfl (xcP (xok_iconst dX33_isTooLong_17 rfl) rfl (xcP (xok_goto dX33_isTooLong_18 (by decide)) rfl trivial))))))))
theorem okX33_isTooLong_21 : XOkL xms rX33_isTooLong bX33_isTooLong_21 := xcP (xok_iconst dX33_isTooLong_21 rfl) rfl (xcP xok_fal rfl trivial)
theorem okX33_isTooLong_22 : XOkL xms rX33_isTooLong bX33_isTooLong_22 := xcR ⟨dX33_isTooLong_22, rfl⟩
theorem okM_X33_isTooLong : XOkM xms rX33_isTooLong := xokM0 (List.forall_mem_cons.mpr ⟨⟨rfl, okX33_isTooLong_0⟩, List.forall_mem_cons.mpr ⟨⟨rfl, okX33_isTooLong_21⟩, List.forall_mem_cons.mpr ⟨⟨rfl, okX33_isTooLong_22⟩, fun _ h => nomatch h⟩⟩⟩) (xokH0 rfl (fun _ _ => rfl)) (by decide +kernel) (by decide)
abbrev cX33_method : ByteArray := prog_10_method_18_code
def dkwX33_method_1 : List UInt8 := [3, 3, 182, 0, 51, 87, 42, 16, 22, 3, 3, 182, 0, 51, 87, 177]
abbrev dktX33_method_1 : List UInt8 := dkwX33_method_1 ++ []
def dkwX33_method_0 : List UInt8 := [43, 42, 180, 0, 22, 181, 0, 161, 42, 1, 181, 0, 32, 42, 43, 180, 0, 166, 182, 0, 109, 42, 16, 21]
abbrev dktX33_method_0 : List UInt8 := dkwX33_method_0 ++ dktX33_method_1
theorem dksX33_method_0 : cX33_method.data.toList.drop 0 = dktX33_method_0 := by decide +kernel
theorem dksX33_method_1 : cX33_method.data.toList.drop 24 = dktX33_method_1 := dk_seg dksX33_method_0 24 rfl rfl
theorem dX33_method_0 : decode cX33_method 0 = .ok (.aload_n 1, 1) := dk_43 (dk_at dksX33_method_0 0 rfl rfl)
theorem dX33_method_1 : decode cX33_method 1 = .ok (.aload_n 0, 1) := dk_42 (dk_at dksX33_method_0 1 rfl rfl)
theorem dX33_method_2 : decode cX33_method 2 = .ok (.getfield 22, 3) := dk_180 0 22 (dk_at dksX33_method_0 2 rfl rfl)
theorem dX33_method_5 : decode cX33_method 5 = .ok (.putfield 161, 3) := dk_181 0 161 (dk_at dksX33_method_0 5 rfl rfl)
theorem dX33_method_8 : decode cX33_method 8 = .ok (.aload_n 0, 1) := dk_42 (dk_at dksX33_method_0 8 rfl rfl)
theorem dX33_method_9 : decode cX33_method 9 = .ok (.aconst_null, 1) := dk_1 (dk_at dksX33_method_0 9 rfl rfl)
theorem dX33_method_10 : decode cX33_method 10 = .ok (.putfield 32, 3) := dk_181 0 32 (dk_at dksX33_method_0 10 rfl rfl)
theorem dX33_method_13 : decode cX33_method 13 = .ok (.aload_n 0, 1) := dk_42 (dk_at dksX33_method_0 13 rfl rfl)
theorem dX33_method_14 : decode cX33_method 14 = .ok (.aload_n 1, 1) := dk_43 (dk_at dksX33_method_0 14 rfl rfl)
theorem dX33_method_15 : decode cX33_method 15 = .ok (.getfield 166, 3) := dk_180 0 166 (dk_at dksX33_method_0 15 rfl rfl)
theorem dX33_method_18 : decode cX33_method 18 = .ok (.invokevirtual 109, 3) := dk_182 0 109 (dk_at dksX33_method_0 18 rfl rfl)
theorem dX33_method_21 : decode cX33_method 21 = .ok (.aload_n 0, 1) := dk_42 (dk_at dksX33_method_0 21 rfl rfl)
theorem dX33_method_22 : decode cX33_method 22 = .ok (.bipush 21, 2) := dk_16 21 (dk_at dksX33_method_0 22 rfl rfl)
theorem dX33_method_24 : decode cX33_method 24 = .ok (.iconst 0, 1) := dk_3 (dk_at dksX33_method_1 0 rfl rfl)
theorem dX33_method_25 : decode cX33_method 25 = .ok (.iconst 0, 1) := dk_3 (dk_at dksX33_method_1 1 rfl rfl)
theorem dX33_method_26 : decode cX33_method 26 = .ok (.invokevirtual 51, 3) := dk_182 0 51 (dk_at dksX33_method_1 2 rfl rfl)
theorem dX33_method_29 : decode cX33_method 29 = .ok (.pop, 1) := dk_87 (dk_at dksX33_method_1 5 rfl rfl)
theorem dX33_method_30 : decode cX33_method 30 = .ok (.aload_n 0, 1) := dk_42 (dk_at dksX33_method_1 6 rfl rfl)
theorem dX33_method_31 : decode cX33_method 31 = .ok (.bipush 22, 2) := dk_16 22 (dk_at dksX33_method_1 7 rfl rfl)
theorem dX33_method_33 : decode cX33_method 33 = .ok (.iconst 0, 1) := dk_3 (dk_at dksX33_method_1 9 rfl rfl)
theorem dX33_method_34 : decode cX33_method 34 = .ok (.iconst 0, 1) := dk_3 (dk_at dksX33_method_1 10 rfl rfl)
theorem dX33_method_35 : decode cX33_method 35 = .ok (.invokevirtual 51, 3) := dk_182 0 51 (dk_at dksX33_method_1 11 rfl rfl)
theorem dX33_method_38 : decode cX33_method 38 = .ok (.pop, 1) := dk_87 (dk_at dksX33_method_1 14 rfl rfl)
theorem dX33_method_39 : decode cX33_method 39 = .ok (.return_, 1) := dk_177 (dk_at dksX33_method_1 15 rfl rfl)
theorem okX33_method_0 : XOkL xms rX33_method bX33_method_0 := xcP (xok_aload_n dX33_method_0 rfl) rfl (xcP (xok_aload_n dX33_method_1 rfl) rfl (xcP (xok_getfield (ref := "WaysAtlas$Lower") (Or.inl ⟨rfl, by decide⟩) dX33_method_2 (Or.inl ⟨q1244, (Or.inl rfl)⟩) xh100) rfl (xcP (xok_putfield (ref := "WaysAtlas$Method") (Or.inl ⟨rfl, by decide, rfl⟩) dX33_method_5 (Or.inr ⟨⟨"WaysAtlas", (List.mem_of_getElem? (i := 24) rfl)⟩, (Or.inl rfl)⟩) (Or.inl rfl) xh77) rfl (xcP (xok_aload_n dX33_method_8 rfl) rfl (xcP (xok_null dX33_method_9) rfl (xcP (xok_putfield (ref := "WaysAtlas$Lower") (Or.inr (Or.inr ⟨rfl, by decide, rfl⟩)) dX33_method_10 (Or.inl ⟨q1252, (Or.inl rfl)⟩) (Or.inl rfl) xh1145) rfl (xcP (xok_aload_n dX33_method_13 rfl) rfl (xcP (xok_aload_n dX33_method_14 rfl) rfl (xcP (xok_getfield (ref := "WaysAtlas$Method") (Or.inr ⟨rfl, by decide⟩) dX33_method_15 (Or.inr ⟨⟨"WaysAtlas", (List.mem_of_getElem? (i := 25) rfl)⟩, (Or.inl rfl)⟩) xh1117) rfl (xcC0 (xokc_list (List.forall_mem_cons.mpr ⟨xokc_V (r := (RX33, TX33, 6)) xm275 (List.mem_of_getElem? (i := 30) rfl) (by decide) rfl dX33_method_18 q1274 q1275 q1276 q179 q1277 (by decide +kernel), fun _ h => nomatch h⟩)) rfl (xcP (xok_aload_n dX33_method_21 rfl) rfl (xcP (xok_bipush dX33_method_22 rfl) rfl (xcP (xok_iconst dX33_method_24 rfl) rfl (xcP (xok_iconst dX33_method_25 rfl) rfl (xcC0 (xokc_list (List.forall_mem_cons.mpr ⟨xokc_V (r := (RX33, TX33, 6)) xm276 (List.mem_of_getElem? (i := 30) rfl) (by decide) rfl dX33_method_26 q1279 q1280 q1281 q179 q1282 (by decide +kernel), fun _ h => nomatch h⟩)) rfl (xcP (xok_pop dX33_method_29) rfl (xcP (xok_aload_n dX33_method_30 rfl) rfl (xcP (xok_bipush dX33_method_31 rfl) rfl (xcP (xok_iconst dX33_method_33 rfl) rfl (xcP (xok_iconst dX33_method_34 rfl) rfl (xcC0 (xokc_list (List.forall_mem_cons.mpr ⟨xokc_V (r := (RX33, TX33, 6)) xm276 (List.mem_of_getElem? (i := 30) rfl) (by decide) rfl dX33_method_35 q1279 q1280 q1281 q179 q1282 (by decide +kernel), fun _ h => nomatch h⟩)) rfl (xcP (xok_pop dX33_method_38) rfl (xcR ⟨dX33_method_39, rfl⟩)))))))))))))))))))))))
theorem okM_X33_method : XOkM xms rX33_method := xokM0 (List.forall_mem_cons.mpr ⟨⟨rfl, okX33_method_0⟩, fun _ h => nomatch h⟩) (xokH0 rfl (fun _ _ => rfl)) (by decide +kernel) (by decide)
abbrev cX33_block : ByteArray := prog_10_method_7_code
def dkwX33_block_1 : List UInt8 := [182, 0, 51, 87, 43, 28, 50, 78, 45, 42, 185, 0, 55, 2, 0, 132, 2, 1, 167, 255, 216, 177]
abbrev dktX33_block_1 : List UInt8 := dkwX33_block_1 ++ []
def dkwX33_block_0 : List UInt8 := [3, 61, 28, 43, 190, 162, 0, 40, 42, 182, 0, 42, 154, 0, 33, 42, 3, 43, 28, 50, 180, 0, 46, 3]
abbrev dktX33_block_0 : List UInt8 := dkwX33_block_0 ++ dktX33_block_1
theorem dksX33_block_0 : cX33_block.data.toList.drop 0 = dktX33_block_0 := by decide +kernel
theorem dksX33_block_1 : cX33_block.data.toList.drop 24 = dktX33_block_1 := dk_seg dksX33_block_0 24 rfl rfl
theorem dX33_block_0 : decode cX33_block 0 = .ok (.iconst 0, 1) := dk_3 (dk_at dksX33_block_0 0 rfl rfl)
theorem dX33_block_1 : decode cX33_block 1 = .ok (.istore_n 2, 1) := dk_61 (dk_at dksX33_block_0 1 rfl rfl)
theorem dX33_block_2 : decode cX33_block 2 = .ok (.iload_n 2, 1) := dk_28 (dk_at dksX33_block_0 2 rfl rfl)
theorem dX33_block_3 : decode cX33_block 3 = .ok (.aload_n 1, 1) := dk_43 (dk_at dksX33_block_0 3 rfl rfl)
theorem dX33_block_4 : decode cX33_block 4 = .ok (.arraylength, 1) := dk_190 (dk_at dksX33_block_0 4 rfl rfl)
theorem dX33_block_5 : decode cX33_block 5 = .ok (.if_icmp .ge 40, 3) := dk_162 0 40 (dk_at dksX33_block_0 5 rfl rfl)
theorem dX33_block_8 : decode cX33_block 8 = .ok (.aload_n 0, 1) := dk_42 (dk_at dksX33_block_0 8 rfl rfl)
theorem dX33_block_9 : decode cX33_block 9 = .ok (.invokevirtual 42, 3) := dk_182 0 42 (dk_at dksX33_block_0 9 rfl rfl)
theorem dX33_block_12 : decode cX33_block 12 = .ok (.ifCond .ne 33, 3) := dk_154 0 33 (dk_at dksX33_block_0 12 rfl rfl)
theorem dX33_block_15 : decode cX33_block 15 = .ok (.aload_n 0, 1) := dk_42 (dk_at dksX33_block_0 15 rfl rfl)
theorem dX33_block_16 : decode cX33_block 16 = .ok (.iconst 0, 1) := dk_3 (dk_at dksX33_block_0 16 rfl rfl)
theorem dX33_block_17 : decode cX33_block 17 = .ok (.aload_n 1, 1) := dk_43 (dk_at dksX33_block_0 17 rfl rfl)
theorem dX33_block_18 : decode cX33_block 18 = .ok (.iload_n 2, 1) := dk_28 (dk_at dksX33_block_0 18 rfl rfl)
theorem dX33_block_19 : decode cX33_block 19 = .ok (.aaload, 1) := dk_50 (dk_at dksX33_block_0 19 rfl rfl)
theorem dX33_block_20 : decode cX33_block 20 = .ok (.getfield 46, 3) := dk_180 0 46 (dk_at dksX33_block_0 20 rfl rfl)
theorem dX33_block_23 : decode cX33_block 23 = .ok (.iconst 0, 1) := dk_3 (dk_at dksX33_block_0 23 rfl rfl)
theorem dX33_block_24 : decode cX33_block 24 = .ok (.invokevirtual 51, 3) := dk_182 0 51 (dk_at dksX33_block_1 0 rfl rfl)
theorem dX33_block_27 : decode cX33_block 27 = .ok (.pop, 1) := dk_87 (dk_at dksX33_block_1 3 rfl rfl)
theorem dX33_block_28 : decode cX33_block 28 = .ok (.aload_n 1, 1) := dk_43 (dk_at dksX33_block_1 4 rfl rfl)
theorem dX33_block_29 : decode cX33_block 29 = .ok (.iload_n 2, 1) := dk_28 (dk_at dksX33_block_1 5 rfl rfl)
theorem dX33_block_30 : decode cX33_block 30 = .ok (.aaload, 1) := dk_50 (dk_at dksX33_block_1 6 rfl rfl)
theorem dX33_block_31 : decode cX33_block 31 = .ok (.astore_n 3, 1) := dk_78 (dk_at dksX33_block_1 7 rfl rfl)
theorem dX33_block_32 : decode cX33_block 32 = .ok (.aload_n 3, 1) := dk_45 (dk_at dksX33_block_1 8 rfl rfl)
theorem dX33_block_33 : decode cX33_block 33 = .ok (.aload_n 0, 1) := dk_42 (dk_at dksX33_block_1 9 rfl rfl)
theorem dX33_block_34 : decode cX33_block 34 = .ok (.invokeinterface 55 2, 5) := by decide +kernel
theorem dX33_block_39 : decode cX33_block 39 = .ok (.iinc 2 1, 3) := dk_132 2 1 (dk_at dksX33_block_1 15 rfl rfl)
theorem dX33_block_42 : decode cX33_block 42 = .ok (.goto (-40), 3) := dk_167 255 216 (dk_at dksX33_block_1 18 rfl rfl)
theorem dX33_block_45 : decode cX33_block 45 = .ok (.return_, 1) := dk_177 (dk_at dksX33_block_1 21 rfl rfl)
theorem okX33_block_0 : XOkL xms rX33_block bX33_block_0 := xcP (xok_iconst dX33_block_0 rfl) rfl (xcP (xok_istore_n dX33_block_1 rfl) rfl (xcP xok_fal rfl trivial))
theorem okX33_block_2 : XOkL xms rX33_block bX33_block_2 := xcP (xok_iload_n dX33_block_2 rfl) rfl (xcP (xok_aload_n dX33_block_3 rfl) rfl (xcP (xok_len dX33_block_4) rfl (xcP (xok_icmpge dX33_block_5 (by decide)) rfl (xcP (xok_aload_n dX33_block_8 rfl) rfl (xcC0 (xokc_list (List.forall_mem_cons.mpr ⟨xokc_V (r := (RX33, TX33, 6)) xm273 (List.mem_of_getElem? (i := 30) rfl) (by decide) rfl dX33_block_9 q1278 q1267 q1268 q179 q1269 (by decide +kernel), fun _ h => nomatch h⟩)) rfl (xcP (xok_ifne dX33_block_12 (by decide)) rfl (xcP (xok_aload_n dX33_block_15 rfl) rfl (xcP (xok_iconst dX33_block_16 rfl) rfl (xcP (xok_aload_n dX33_block_17 rfl) rfl (xcP (xok_iload_n dX33_block_18 rfl) rfl (xcP (xok_aaload (by decide) rfl dX33_block_19) rfl (xcP (xok_getfield (ref := "WaysAtlas$Statement") (Or.inl ⟨rfl, by decide⟩) dX33_block_20 (Or.inl ⟨q987, (Or.inl rfl)⟩) xh82) rfl (xcP (xok_iconst dX33_block_23 rfl) rfl (xcC0 (xokc_list (List.forall_mem_cons.mpr ⟨xokc_V (r := (RX33, TX33, 6)) xm276 (List.mem_of_getElem? (i := 30) rfl) (by decide) rfl dX33_block_24 q1279 q1280 q1281 q179 q1282 (by decide +kernel), fun _ h => nomatch h⟩)) rfl (xcP (xok_pop dX33_block_27) rfl (xcP (xok_aload_n dX33_block_28 rfl) rfl (xcP (xok_iload_n dX33_block_29 rfl) rfl (xcP (xok_aaload (by decide) rfl dX33_block_30) rfl (xcP (xok_astore_n dX33_block_31 rfl) rfl (xcP (xok_aload_n dX33_block_32 rfl) rfl (xcP (xok_aload_n dX33_block_33 rfl) rfl (xcC0 (xokc_list (List.forall_mem_cons.mpr ⟨xokc_F (r := (RX18, TX18, 5)) xm218 (List.mem_of_getElem? (i := 16) rfl) (by decide) rfl dX33_block_34 q1285 q1296 q1298 q163 (List.mem_of_getElem? (i := 2) rfl) q1300 (by decide +kernel), List.forall_mem_cons.mpr ⟨xokc_F (r := (RX20, TX20, 3)) xm222 (List.mem_of_getElem? (i := 17) rfl) (by decide) rfl dX33_block_34 q1285 q1476 q1454 q164 (List.mem_of_getElem? (i := 22) rfl) q1456 (by decide +kernel), List.forall_mem_cons.mpr ⟨xokc_F (r := (RX21, TX21, 3)) xm222 (List.mem_of_getElem? (i := 18) rfl) (by decide) rfl dX33_block_34 q1285 q1462 q1454 q164 (List.mem_of_getElem? (i := 16) rfl) q1456 (by decide +kernel), List.forall_mem_cons.mpr ⟨xokc_F (r := (RX22, TX22, 3)) xm222 (List.mem_of_getElem? (i := 19) rfl) (by decide) rfl dX33_block_34 q1285 q1459 q1454 q164 (List.mem_of_getElem? (i := 14) rfl) q1456 (by decide +kernel), List.forall_mem_cons.mpr ⟨xokc_F (r := (RX23, TX23, 3)) xm222 (List.mem_of_getElem? (i := 20) rfl) (by decide) rfl dX33_block_34 q1285 q1473 q1454 q164 (List.mem_of_getElem? (i := 20) rfl) q1456 (by decide +kernel), List.forall_mem_cons.mpr ⟨xokc_F (r := (RX24, TX24, 2)) xm222 (List.mem_of_getElem? (i := 21) rfl) (by decide) rfl dX33_block_34 q1285 q1452 q1454 q164 (List.mem_of_getElem? (i := 12) rfl) q1456 (by decide +kernel), List.forall_mem_cons.mpr ⟨xokc_F (r := (RX25, TX25, 2)) xm236 (List.mem_of_getElem? (i := 22) rfl) (by decide) rfl dX33_block_34 q1285 q1465 q1467 q170 (List.mem_of_getElem? (i := 18) rfl) q1469 (by decide +kernel), List.forall_mem_cons.mpr ⟨xokc_F (r := (RX26, TX26, 6)) xm240 (List.mem_of_getElem? (i := 23) rfl) (by decide) rfl dX33_block_34 q1285 q1403 q1405 q171 (List.mem_of_getElem? (i := 6) rfl) q1407 (by decide +kernel), List.forall_mem_cons.mpr ⟨xokc_F (r := (RX27, TX27, 3)) xm244 (List.mem_of_getElem? (i := 24) rfl) (by decide) rfl dX33_block_34 q1285 q1436 q1438 q172 (List.mem_of_getElem? (i := 10) rfl) q1440 (by decide +kernel), List.forall_mem_cons.mpr ⟨xokc_F (r := (RX28, TX28, 2)) xm249 (List.mem_of_getElem? (i := 25) rfl) (by decide) rfl dX33_block_34 q1285 q1412 q1414 q173 (List.mem_of_getElem? (i := 8) rfl) q1416 (by decide +kernel), List.forall_mem_cons.mpr ⟨xokc_F (r := (RX29, TX29, 2)) xm222 (List.mem_of_getElem? (i := 26) rfl) (by decide) rfl dX33_block_34 q1285 q1479 q1454 q164 (List.mem_of_getElem? (i := 24) rfl) q1456 (by decide +kernel), List.forall_mem_cons.mpr ⟨xokc_F (r := (RX30, TX30, 3)) xm254 (List.mem_of_getElem? (i := 27) rfl) (by decide) rfl dX33_block_34 q1285 q1289 q1291 q175 (List.mem_of_getElem? (i := 0) rfl) q1293 (by decide +kernel), List.forall_mem_cons.mpr ⟨xokc_F (r := (RX31, TX31, 7)) xm259 (List.mem_of_getElem? (i := 28) rfl) (by decide) rfl dX33_block_34 q1285 q1303 q1305 q176 (List.mem_of_getElem? (i := 4) rfl) q1307 (by decide +kernel), fun _ h => nomatch h⟩⟩⟩⟩⟩⟩⟩⟩⟩⟩⟩⟩⟩)) rfl (xcP (xok_iinc dX33_block_39 rfl) rfl (xcP (xok_goto dX33_block_42 (by decide)) rfl trivial))))))))))))))))))))))))
theorem okX33_block_45 : XOkL xms rX33_block bX33_block_45 := xcR ⟨dX33_block_45, rfl⟩
theorem okM_X33_block : XOkM xms rX33_block := xokM0 (List.forall_mem_cons.mpr ⟨⟨rfl, okX33_block_0⟩, List.forall_mem_cons.mpr ⟨⟨rfl, okX33_block_2⟩, List.forall_mem_cons.mpr ⟨⟨rfl, okX33_block_45⟩, fun _ h => nomatch h⟩⟩⟩) (xokH0 rfl (fun _ _ => rfl)) (by decide +kernel) (by decide)
abbrev cX33_add : ByteArray := prog_10_method_2_code
def dkwX33_add_3 : List UInt8 := [180, 0, 22, 4, 100, 172]
abbrev dktX33_add_3 : List UInt8 := dkwX33_add_3 ++ []
def dkwX33_add_2 : List UInt8 := [180, 0, 9, 6, 42, 180, 0, 22, 104, 5, 96, 29, 79, 42, 89, 180, 0, 22, 4, 96, 181, 0, 22, 42]
abbrev dktX33_add_2 : List UInt8 := dkwX33_add_2 ++ dktX33_add_3
def dkwX33_add_1 : List UInt8 := [42, 180, 0, 22, 104, 27, 79, 42, 180, 0, 9, 6, 42, 180, 0, 22, 104, 4, 96, 28, 79, 42]
abbrev dktX33_add_1 : List UInt8 := dkwX33_add_1 ++ dktX33_add_2
def dkwX33_add_0 : List UInt8 := [42, 42, 180, 0, 9, 6, 42, 180, 0, 22, 104, 6, 96, 184, 0, 26, 181, 0, 9, 42, 180, 0, 9, 6]
abbrev dktX33_add_0 : List UInt8 := dkwX33_add_0 ++ dktX33_add_1
theorem dksX33_add_0 : cX33_add.data.toList.drop 0 = dktX33_add_0 := by decide +kernel
theorem dksX33_add_1 : cX33_add.data.toList.drop 24 = dktX33_add_1 := dk_seg dksX33_add_0 24 rfl rfl
theorem dksX33_add_2 : cX33_add.data.toList.drop 46 = dktX33_add_2 := dk_seg dksX33_add_1 22 rfl rfl
theorem dksX33_add_3 : cX33_add.data.toList.drop 70 = dktX33_add_3 := dk_seg dksX33_add_2 24 rfl rfl
theorem dX33_add_0 : decode cX33_add 0 = .ok (.aload_n 0, 1) := dk_42 (dk_at dksX33_add_0 0 rfl rfl)
theorem dX33_add_1 : decode cX33_add 1 = .ok (.aload_n 0, 1) := dk_42 (dk_at dksX33_add_0 1 rfl rfl)
theorem dX33_add_2 : decode cX33_add 2 = .ok (.getfield 9, 3) := dk_180 0 9 (dk_at dksX33_add_0 2 rfl rfl)
theorem dX33_add_5 : decode cX33_add 5 = .ok (.iconst 3, 1) := dk_6 (dk_at dksX33_add_0 5 rfl rfl)
theorem dX33_add_6 : decode cX33_add 6 = .ok (.aload_n 0, 1) := dk_42 (dk_at dksX33_add_0 6 rfl rfl)
theorem dX33_add_7 : decode cX33_add 7 = .ok (.getfield 22, 3) := dk_180 0 22 (dk_at dksX33_add_0 7 rfl rfl)
theorem dX33_add_10 : decode cX33_add 10 = .ok (.imul, 1) := dk_104 (dk_at dksX33_add_0 10 rfl rfl)
theorem dX33_add_11 : decode cX33_add 11 = .ok (.iconst 3, 1) := dk_6 (dk_at dksX33_add_0 11 rfl rfl)
theorem dX33_add_12 : decode cX33_add 12 = .ok (.iadd, 1) := dk_96 (dk_at dksX33_add_0 12 rfl rfl)
theorem dX33_add_13 : decode cX33_add 13 = .ok (.invokestatic 26, 3) := dk_184 0 26 (dk_at dksX33_add_0 13 rfl rfl)
theorem dX33_add_16 : decode cX33_add 16 = .ok (.putfield 9, 3) := dk_181 0 9 (dk_at dksX33_add_0 16 rfl rfl)
theorem dX33_add_19 : decode cX33_add 19 = .ok (.aload_n 0, 1) := dk_42 (dk_at dksX33_add_0 19 rfl rfl)
theorem dX33_add_20 : decode cX33_add 20 = .ok (.getfield 9, 3) := dk_180 0 9 (dk_at dksX33_add_0 20 rfl rfl)
theorem dX33_add_23 : decode cX33_add 23 = .ok (.iconst 3, 1) := dk_6 (dk_at dksX33_add_0 23 rfl rfl)
theorem dX33_add_24 : decode cX33_add 24 = .ok (.aload_n 0, 1) := dk_42 (dk_at dksX33_add_1 0 rfl rfl)
theorem dX33_add_25 : decode cX33_add 25 = .ok (.getfield 22, 3) := dk_180 0 22 (dk_at dksX33_add_1 1 rfl rfl)
theorem dX33_add_28 : decode cX33_add 28 = .ok (.imul, 1) := dk_104 (dk_at dksX33_add_1 4 rfl rfl)
theorem dX33_add_29 : decode cX33_add 29 = .ok (.iload_n 1, 1) := dk_27 (dk_at dksX33_add_1 5 rfl rfl)
theorem dX33_add_30 : decode cX33_add 30 = .ok (.iastore, 1) := dk_79 (dk_at dksX33_add_1 6 rfl rfl)
theorem dX33_add_31 : decode cX33_add 31 = .ok (.aload_n 0, 1) := dk_42 (dk_at dksX33_add_1 7 rfl rfl)
theorem dX33_add_32 : decode cX33_add 32 = .ok (.getfield 9, 3) := dk_180 0 9 (dk_at dksX33_add_1 8 rfl rfl)
theorem dX33_add_35 : decode cX33_add 35 = .ok (.iconst 3, 1) := dk_6 (dk_at dksX33_add_1 11 rfl rfl)
theorem dX33_add_36 : decode cX33_add 36 = .ok (.aload_n 0, 1) := dk_42 (dk_at dksX33_add_1 12 rfl rfl)
theorem dX33_add_37 : decode cX33_add 37 = .ok (.getfield 22, 3) := dk_180 0 22 (dk_at dksX33_add_1 13 rfl rfl)
theorem dX33_add_40 : decode cX33_add 40 = .ok (.imul, 1) := dk_104 (dk_at dksX33_add_1 16 rfl rfl)
theorem dX33_add_41 : decode cX33_add 41 = .ok (.iconst 1, 1) := dk_4 (dk_at dksX33_add_1 17 rfl rfl)
theorem dX33_add_42 : decode cX33_add 42 = .ok (.iadd, 1) := dk_96 (dk_at dksX33_add_1 18 rfl rfl)
theorem dX33_add_43 : decode cX33_add 43 = .ok (.iload_n 2, 1) := dk_28 (dk_at dksX33_add_1 19 rfl rfl)
theorem dX33_add_44 : decode cX33_add 44 = .ok (.iastore, 1) := dk_79 (dk_at dksX33_add_1 20 rfl rfl)
theorem dX33_add_45 : decode cX33_add 45 = .ok (.aload_n 0, 1) := dk_42 (dk_at dksX33_add_1 21 rfl rfl)
theorem dX33_add_46 : decode cX33_add 46 = .ok (.getfield 9, 3) := dk_180 0 9 (dk_at dksX33_add_2 0 rfl rfl)
theorem dX33_add_49 : decode cX33_add 49 = .ok (.iconst 3, 1) := dk_6 (dk_at dksX33_add_2 3 rfl rfl)
theorem dX33_add_50 : decode cX33_add 50 = .ok (.aload_n 0, 1) := dk_42 (dk_at dksX33_add_2 4 rfl rfl)
theorem dX33_add_51 : decode cX33_add 51 = .ok (.getfield 22, 3) := dk_180 0 22 (dk_at dksX33_add_2 5 rfl rfl)
theorem dX33_add_54 : decode cX33_add 54 = .ok (.imul, 1) := dk_104 (dk_at dksX33_add_2 8 rfl rfl)
theorem dX33_add_55 : decode cX33_add 55 = .ok (.iconst 2, 1) := dk_5 (dk_at dksX33_add_2 9 rfl rfl)
theorem dX33_add_56 : decode cX33_add 56 = .ok (.iadd, 1) := dk_96 (dk_at dksX33_add_2 10 rfl rfl)
theorem dX33_add_57 : decode cX33_add 57 = .ok (.iload_n 3, 1) := dk_29 (dk_at dksX33_add_2 11 rfl rfl)
theorem dX33_add_58 : decode cX33_add 58 = .ok (.iastore, 1) := dk_79 (dk_at dksX33_add_2 12 rfl rfl)
theorem dX33_add_59 : decode cX33_add 59 = .ok (.aload_n 0, 1) := dk_42 (dk_at dksX33_add_2 13 rfl rfl)
theorem dX33_add_60 : decode cX33_add 60 = .ok (.dup, 1) := dk_89 (dk_at dksX33_add_2 14 rfl rfl)
theorem dX33_add_61 : decode cX33_add 61 = .ok (.getfield 22, 3) := dk_180 0 22 (dk_at dksX33_add_2 15 rfl rfl)
theorem dX33_add_64 : decode cX33_add 64 = .ok (.iconst 1, 1) := dk_4 (dk_at dksX33_add_2 18 rfl rfl)
theorem dX33_add_65 : decode cX33_add 65 = .ok (.iadd, 1) := dk_96 (dk_at dksX33_add_2 19 rfl rfl)
theorem dX33_add_66 : decode cX33_add 66 = .ok (.putfield 22, 3) := dk_181 0 22 (dk_at dksX33_add_2 20 rfl rfl)
theorem dX33_add_69 : decode cX33_add 69 = .ok (.aload_n 0, 1) := dk_42 (dk_at dksX33_add_2 23 rfl rfl)
theorem dX33_add_70 : decode cX33_add 70 = .ok (.getfield 22, 3) := dk_180 0 22 (dk_at dksX33_add_3 0 rfl rfl)
theorem dX33_add_73 : decode cX33_add 73 = .ok (.iconst 1, 1) := dk_4 (dk_at dksX33_add_3 3 rfl rfl)
theorem dX33_add_74 : decode cX33_add 74 = .ok (.isub, 1) := dk_100 (dk_at dksX33_add_3 4 rfl rfl)
theorem dX33_add_75 : decode cX33_add 75 = .ok (.ireturn, 1) := dk_172 (dk_at dksX33_add_3 5 rfl rfl)
theorem okX33_add_0 : XOkL xms rX33_add bX33_add_0 := xcP (xok_aload_n dX33_add_0 rfl) rfl (xcP (xok_aload_n dX33_add_1 rfl) rfl (xcP (xok_getfield (ref := "WaysAtlas$Lower") (Or.inr ⟨rfl, by decide⟩) dX33_add_2 (Or.inl ⟨q1242, (Or.inl rfl)⟩) xh1143) rfl (xcP (xok_iconst dX33_add_5 rfl) rfl (xcP (xok_aload_n dX33_add_6 rfl) rfl (xcP (xok_getfield (ref := "WaysAtlas$Lower") (Or.inl ⟨rfl, by decide⟩) dX33_add_7 (Or.inl ⟨q1244, (Or.inl rfl)⟩) xh100) rfl (xcP (xok_imul dX33_add_10) rfl (xcP (xok_iconst dX33_add_11 rfl) rfl (xcP (xok_iadd dX33_add_12) rfl (xcC0 (xokc_SN (host := "WaysAtlas") xm267 rfl dX33_add_13 (List.mem_of_getElem? (i := 4) rfl) q1226 q177 q1227 (by decide +kernel)) rfl (xcP (xok_putfield (ref := "WaysAtlas$Lower") (Or.inr (Or.inr ⟨rfl, by decide, rfl⟩)) dX33_add_16 (Or.inl ⟨q1242, (Or.inl rfl)⟩) (Or.inl rfl) xh1143) rfl (xcP (xok_aload_n dX33_add_19 rfl) rfl (xcP (xok_getfield (ref := "WaysAtlas$Lower") (Or.inr ⟨rfl, by decide⟩) dX33_add_20 (Or.inl ⟨q1242, (Or.inl rfl)⟩) xh1143) rfl (xcP (xok_iconst dX33_add_23 rfl) rfl (xcP (xok_aload_n dX33_add_24 rfl) rfl (xcP (xok_getfield (ref := "WaysAtlas$Lower") (Or.inl ⟨rfl, by decide⟩) dX33_add_25 (Or.inl ⟨q1244, (Or.inl rfl)⟩) xh100) rfl (xcP (xok_imul dX33_add_28) rfl (xcP (xok_iload_n dX33_add_29 rfl) rfl (xcP (xok_iastore dX33_add_30) rfl (xcP (xok_aload_n dX33_add_31 rfl) rfl (xcP (xok_getfield (ref := "WaysAtlas$Lower") (Or.inr ⟨rfl, by decide⟩) dX33_add_32 (Or.inl ⟨q1242, (Or.inl rfl)⟩) xh1143) rfl (xcP (xok_iconst dX33_add_35 rfl) rfl (xcP (xok_aload_n dX33_add_36 rfl) rfl (xcP (xok_getfield (ref := "WaysAtlas$Lower") (Or.inl ⟨rfl, by decide⟩) dX33_add_37 (Or.inl ⟨q1244, (Or.inl rfl)⟩) xh100) rfl (xcP (xok_imul dX33_add_40) rfl (xcP (xok_iconst dX33_add_41 rfl) rfl (xcP (xok_iadd dX33_add_42) rfl (xcP (xok_iload_n dX33_add_43 rfl) rfl (xcP (xok_iastore dX33_add_44) rfl (xcP (xok_aload_n dX33_add_45 rfl) rfl (xcP (xok_getfield (ref := "WaysAtlas$Lower") (Or.inr ⟨rfl, by decide⟩) dX33_add_46 (Or.inl ⟨q1242, (Or.inl rfl)⟩) xh1143) rfl (xcP (xok_iconst dX33_add_49 rfl) rfl (xcP (xok_aload_n dX33_add_50 rfl) rfl (xcP (xok_getfield (ref := "WaysAtlas$Lower") (Or.inl ⟨rfl, by decide⟩) dX33_add_51 (Or.inl ⟨q1244, (Or.inl rfl)⟩) xh100) rfl (xcP (xok_imul dX33_add_54) rfl (xcP (xok_iconst dX33_add_55 rfl) rfl (xcP (xok_iadd dX33_add_56) rfl (xcP (xok_iload_n dX33_add_57 rfl) rfl (xcP (xok_iastore dX33_add_58) rfl (xcP (xok_aload_n dX33_add_59 rfl) rfl (xcP (xok_dup dX33_add_60) rfl (xcP (xok_getfield (ref := "WaysAtlas$Lower") (Or.inl ⟨rfl, by decide⟩) dX33_add_61 (Or.inl ⟨q1244, (Or.inl rfl)⟩) xh100) rfl (xcP (xok_iconst dX33_add_64 rfl) rfl (xcP (xok_iadd dX33_add_65) rfl (xcP (xok_putfield (ref := "WaysAtlas$Lower") (Or.inl ⟨rfl, by decide, rfl⟩) dX33_add_66 (Or.inl ⟨q1244, (Or.inl rfl)⟩) (Or.inl rfl) xh100) rfl (xcP (xok_aload_n dX33_add_69 rfl) rfl (xcP (xok_getfield (ref := "WaysAtlas$Lower") (Or.inl ⟨rfl, by decide⟩) dX33_add_70 (Or.inl ⟨q1244, (Or.inl rfl)⟩) xh100) rfl (xcP (xok_iconst dX33_add_73 rfl) rfl (xcP (xok_isub dX33_add_74) rfl (xcR ⟨dX33_add_75, rfl⟩)))))))))))))))))))))))))))))))))))))))))))))))))
theorem okM_X33_add : XOkM xms rX33_add := xokM0 (List.forall_mem_cons.mpr ⟨⟨rfl, okX33_add_0⟩, fun _ h => nomatch h⟩) (xokH0 rfl (fun _ _ => rfl)) (by decide +kernel) (by decide)
abbrev cX33_guard : ByteArray := prog_10_method_14_code
def dkwX33_guard_2 : List UInt8 := [43, 45, 28, 21, 4, 182, 0, 147, 167, 0, 12, 42, 43, 45, 28, 21, 4, 182, 0, 151, 177]
abbrev dktX33_guard_2 : List UInt8 := dkwX33_guard_2 ++ []
def dkwX33_guard_1 : List UInt8 := [78, 42, 43, 182, 0, 144, 42, 182, 0, 124, 42, 180, 0, 22, 54, 4, 42, 180, 0, 18, 153, 0, 15, 42]
abbrev dktX33_guard_1 : List UInt8 := dkwX33_guard_1 ++ dktX33_guard_2
def dkwX33_guard_0 : List UInt8 := [43, 180, 0, 105, 199, 0, 9, 42, 43, 182, 0, 144, 177, 42, 180, 0, 22, 61, 42, 6, 43, 182, 0, 120]
abbrev dktX33_guard_0 : List UInt8 := dkwX33_guard_0 ++ dktX33_guard_1
theorem dksX33_guard_0 : cX33_guard.data.toList.drop 0 = dktX33_guard_0 := by decide +kernel
theorem dksX33_guard_1 : cX33_guard.data.toList.drop 24 = dktX33_guard_1 := dk_seg dksX33_guard_0 24 rfl rfl
theorem dksX33_guard_2 : cX33_guard.data.toList.drop 48 = dktX33_guard_2 := dk_seg dksX33_guard_1 24 rfl rfl
theorem dX33_guard_0 : decode cX33_guard 0 = .ok (.aload_n 1, 1) := dk_43 (dk_at dksX33_guard_0 0 rfl rfl)
theorem dX33_guard_1 : decode cX33_guard 1 = .ok (.getfield 105, 3) := dk_180 0 105 (dk_at dksX33_guard_0 1 rfl rfl)
theorem dX33_guard_4 : decode cX33_guard 4 = .ok (.ifnonnull 9, 3) := dk_199 0 9 (dk_at dksX33_guard_0 4 rfl rfl)
theorem dX33_guard_7 : decode cX33_guard 7 = .ok (.aload_n 0, 1) := dk_42 (dk_at dksX33_guard_0 7 rfl rfl)
theorem dX33_guard_8 : decode cX33_guard 8 = .ok (.aload_n 1, 1) := dk_43 (dk_at dksX33_guard_0 8 rfl rfl)
theorem dX33_guard_9 : decode cX33_guard 9 = .ok (.invokevirtual 144, 3) := dk_182 0 144 (dk_at dksX33_guard_0 9 rfl rfl)
theorem dX33_guard_12 : decode cX33_guard 12 = .ok (.return_, 1) := dk_177 (dk_at dksX33_guard_0 12 rfl rfl)
theorem dX33_guard_13 : decode cX33_guard 13 = .ok (.aload_n 0, 1) := dk_42 (dk_at dksX33_guard_0 13 rfl rfl)
theorem dX33_guard_14 : decode cX33_guard 14 = .ok (.getfield 22, 3) := dk_180 0 22 (dk_at dksX33_guard_0 14 rfl rfl)
theorem dX33_guard_17 : decode cX33_guard 17 = .ok (.istore_n 2, 1) := dk_61 (dk_at dksX33_guard_0 17 rfl rfl)
theorem dX33_guard_18 : decode cX33_guard 18 = .ok (.aload_n 0, 1) := dk_42 (dk_at dksX33_guard_0 18 rfl rfl)
theorem dX33_guard_19 : decode cX33_guard 19 = .ok (.iconst 3, 1) := dk_6 (dk_at dksX33_guard_0 19 rfl rfl)
theorem dX33_guard_20 : decode cX33_guard 20 = .ok (.aload_n 1, 1) := dk_43 (dk_at dksX33_guard_0 20 rfl rfl)
theorem dX33_guard_21 : decode cX33_guard 21 = .ok (.invokevirtual 120, 3) := dk_182 0 120 (dk_at dksX33_guard_0 21 rfl rfl)
theorem dX33_guard_24 : decode cX33_guard 24 = .ok (.astore_n 3, 1) := dk_78 (dk_at dksX33_guard_1 0 rfl rfl)
theorem dX33_guard_25 : decode cX33_guard 25 = .ok (.aload_n 0, 1) := dk_42 (dk_at dksX33_guard_1 1 rfl rfl)
theorem dX33_guard_26 : decode cX33_guard 26 = .ok (.aload_n 1, 1) := dk_43 (dk_at dksX33_guard_1 2 rfl rfl)
theorem dX33_guard_27 : decode cX33_guard 27 = .ok (.invokevirtual 144, 3) := dk_182 0 144 (dk_at dksX33_guard_1 3 rfl rfl)
theorem dX33_guard_30 : decode cX33_guard 30 = .ok (.aload_n 0, 1) := dk_42 (dk_at dksX33_guard_1 6 rfl rfl)
theorem dX33_guard_31 : decode cX33_guard 31 = .ok (.invokevirtual 124, 3) := dk_182 0 124 (dk_at dksX33_guard_1 7 rfl rfl)
theorem dX33_guard_34 : decode cX33_guard 34 = .ok (.aload_n 0, 1) := dk_42 (dk_at dksX33_guard_1 10 rfl rfl)
theorem dX33_guard_35 : decode cX33_guard 35 = .ok (.getfield 22, 3) := dk_180 0 22 (dk_at dksX33_guard_1 11 rfl rfl)
theorem dX33_guard_38 : decode cX33_guard 38 = .ok (.istore 4, 2) := dk_54 4 (dk_at dksX33_guard_1 14 rfl rfl)
theorem dX33_guard_40 : decode cX33_guard 40 = .ok (.aload_n 0, 1) := dk_42 (dk_at dksX33_guard_1 16 rfl rfl)
theorem dX33_guard_41 : decode cX33_guard 41 = .ok (.getfield 18, 3) := dk_180 0 18 (dk_at dksX33_guard_1 17 rfl rfl)
theorem dX33_guard_44 : decode cX33_guard 44 = .ok (.ifCond .eq 15, 3) := dk_153 0 15 (dk_at dksX33_guard_1 20 rfl rfl)
theorem dX33_guard_47 : decode cX33_guard 47 = .ok (.aload_n 0, 1) := dk_42 (dk_at dksX33_guard_1 23 rfl rfl)
theorem dX33_guard_48 : decode cX33_guard 48 = .ok (.aload_n 1, 1) := dk_43 (dk_at dksX33_guard_2 0 rfl rfl)
theorem dX33_guard_49 : decode cX33_guard 49 = .ok (.aload_n 3, 1) := dk_45 (dk_at dksX33_guard_2 1 rfl rfl)
theorem dX33_guard_50 : decode cX33_guard 50 = .ok (.iload_n 2, 1) := dk_28 (dk_at dksX33_guard_2 2 rfl rfl)
theorem dX33_guard_51 : decode cX33_guard 51 = .ok (.iload 4, 2) := dk_21 4 (dk_at dksX33_guard_2 3 rfl rfl)
theorem dX33_guard_53 : decode cX33_guard 53 = .ok (.invokevirtual 147, 3) := dk_182 0 147 (dk_at dksX33_guard_2 5 rfl rfl)
theorem dX33_guard_56 : decode cX33_guard 56 = .ok (.goto 12, 3) := dk_167 0 12 (dk_at dksX33_guard_2 8 rfl rfl)
theorem dX33_guard_59 : decode cX33_guard 59 = .ok (.aload_n 0, 1) := dk_42 (dk_at dksX33_guard_2 11 rfl rfl)
theorem dX33_guard_60 : decode cX33_guard 60 = .ok (.aload_n 1, 1) := dk_43 (dk_at dksX33_guard_2 12 rfl rfl)
theorem dX33_guard_61 : decode cX33_guard 61 = .ok (.aload_n 3, 1) := dk_45 (dk_at dksX33_guard_2 13 rfl rfl)
theorem dX33_guard_62 : decode cX33_guard 62 = .ok (.iload_n 2, 1) := dk_28 (dk_at dksX33_guard_2 14 rfl rfl)
theorem dX33_guard_63 : decode cX33_guard 63 = .ok (.iload 4, 2) := dk_21 4 (dk_at dksX33_guard_2 15 rfl rfl)
theorem dX33_guard_65 : decode cX33_guard 65 = .ok (.invokevirtual 151, 3) := dk_182 0 151 (dk_at dksX33_guard_2 17 rfl rfl)
theorem dX33_guard_68 : decode cX33_guard 68 = .ok (.return_, 1) := dk_177 (dk_at dksX33_guard_2 20 rfl rfl)
theorem okX33_guard_0 : XOkL xms rX33_guard bX33_guard_0 := xcP (xok_aload_n dX33_guard_0 rfl) rfl (xcP (xok_getfield (ref := "WaysAtlas$Guard") (Or.inr ⟨rfl, by decide⟩) dX33_guard_1 (Or.inr ⟨⟨"WaysAtlas", (List.mem_of_getElem? (i := 19) rfl)⟩, (Or.inl rfl)⟩) xh1138) rfl (xcP (xok_ifnonnull dX33_guard_4 (by decide)) rfl (xcP (xok_aload_n dX33_guard_7 rfl) rfl (xcP (xok_aload_n dX33_guard_8 rfl) rfl (xcC0 (xokc_list (List.forall_mem_cons.mpr ⟨xokc_V (r := (RX33, TX33, 6)) xm278 (List.mem_of_getElem? (i := 30) rfl) (by decide) rfl dX33_guard_9 q1312 q1314 qs33 q179 q1315 (by decide +kernel), fun _ h => nomatch h⟩)) rfl (xcR ⟨dX33_guard_12, rfl⟩))))))
theorem okX33_guard_13 : XOkL xms rX33_guard bX33_guard_13 := xcP (xok_aload_n dX33_guard_13 rfl) rfl (xcP (xok_getfield (ref := "WaysAtlas$Lower") (Or.inl ⟨rfl, by decide⟩) dX33_guard_14 (Or.inl ⟨q1244, (Or.inl rfl)⟩) xh100) rfl (xcP (xok_istore_n dX33_guard_17 rfl) rfl (xcP (xok_aload_n dX33_guard_18 rfl) rfl (xcP (xok_iconst dX33_guard_19 rfl) rfl (xcP (xok_aload_n dX33_guard_20 rfl) rfl (xcC0 (xokc_list (List.forall_mem_cons.mpr ⟨xokc_V (r := (RX33, TX33, 6)) xm280 (List.mem_of_getElem? (i := 30) rfl) (by decide) rfl dX33_guard_21 q1324 q1325 q1326 q179 q1327 (by decide +kernel), fun _ h => nomatch h⟩)) rfl (xcP (xok_astore_n dX33_guard_24 rfl) rfl (xcP (xok_aload_n dX33_guard_25 rfl) rfl (xcP (xok_aload_n dX33_guard_26 rfl) rfl (xcC0 (xokc_list (List.forall_mem_cons.mpr ⟨xokc_V (r := (RX33, TX33, 6)) xm278 (List.mem_of_getElem? (i := 30) rfl) (by decide) rfl dX33_guard_27 q1312 q1314 qs33 q179 q1315 (by decide +kernel), fun _ h => nomatch h⟩)) rfl (xcP (xok_aload_n dX33_guard_30 rfl) rfl (xcC0 (xokc_list (List.forall_mem_cons.mpr ⟨xokc_V (r := (RX33, TX33, 6)) xm281 (List.mem_of_getElem? (i := 30) rfl) (by decide) rfl dX33_guard_31 q1365 q1366 q1367 q179 q1368 (by decide +kernel), fun _ h => nomatch h⟩)) rfl (xcP (xok_aload_n dX33_guard_34 rfl) rfl (xcP (xok_getfield (ref := "WaysAtlas$Lower") (Or.inl ⟨rfl, by decide⟩) dX33_guard_35 (Or.inl ⟨q1244, (Or.inl rfl)⟩) xh100) rfl (xcP (xok_istore dX33_guard_38) rfl (xcP (xok_aload_n dX33_guard_40 rfl) rfl (xcP (xok_getfield (ref := "WaysAtlas$Lower") (Or.inl ⟨rfl, by decide⟩) dX33_guard_41 (Or.inl ⟨q1251, (Or.inl rfl)⟩) xh102) rfl (xcP (xok_ifeq dX33_guard_44 (by decide)) rfl (xcP (xok_aload_n dX33_guard_47 rfl) rfl (xcP (xok_aload_n dX33_guard_48 rfl) rfl (xcP (xok_aload_n dX33_guard_49 rfl) rfl (xcP (xok_iload_n dX33_guard_50 rfl) rfl (xcP (xok_iload dX33_guard_51) rfl (xcC0 (xokc_list (List.forall_mem_cons.mpr ⟨xokc_V (r := (RX33, TX33, 6)) xm285 (List.mem_of_getElem? (i := 30) rfl) (by decide) rfl dX33_guard_53 q1385 q1387 qs37 q179 q1388 (by decide +kernel), fun _ h => nomatch h⟩)) rfl (xcP (xok_goto dX33_guard_56 (by decide)) rfl trivial)))))))))))))))))))))))))
theorem okX33_guard_59 : XOkL xms rX33_guard bX33_guard_59 := xcP (xok_aload_n dX33_guard_59 rfl) rfl (xcP (xok_aload_n dX33_guard_60 rfl) rfl (xcP (xok_aload_n dX33_guard_61 rfl) rfl (xcP (xok_iload_n dX33_guard_62 rfl) rfl (xcP (xok_iload dX33_guard_63) rfl (xcC0 (xokc_list (List.forall_mem_cons.mpr ⟨xokc_V (r := (RX33, TX33, 6)) xm287 (List.mem_of_getElem? (i := 30) rfl) (by decide) rfl dX33_guard_65 q1398 q1400 qs39 q179 q1401 (by decide +kernel), fun _ h => nomatch h⟩)) rfl (xcP xok_fal rfl trivial))))))
theorem okX33_guard_68 : XOkL xms rX33_guard bX33_guard_68 := xcR ⟨dX33_guard_68, rfl⟩
theorem okM_X33_guard : XOkM xms rX33_guard := xokM0 (List.forall_mem_cons.mpr ⟨⟨rfl, okX33_guard_0⟩, List.forall_mem_cons.mpr ⟨⟨rfl, okX33_guard_13⟩, List.forall_mem_cons.mpr ⟨⟨rfl, okX33_guard_59⟩, List.forall_mem_cons.mpr ⟨⟨rfl, okX33_guard_68⟩, fun _ h => nomatch h⟩⟩⟩⟩) (xokH0 rfl (fun _ _ => rfl)) (by decide +kernel) (by decide)
abbrev cX33_caught : ByteArray := prog_10_method_13_code
def dkwX33_caught_6 : List UInt8 := [25, 5, 21, 6, 46, 42, 180, 0, 22, 182, 0, 102, 132, 6, 1, 167, 255, 231, 177]
abbrev dktX33_caught_6 : List UInt8 := dkwX33_caught_6 ++ []
def dkwX33_caught_5 : List UInt8 := [182, 0, 51, 79, 132, 6, 1, 167, 255, 195, 3, 54, 6, 21, 6, 43, 180, 0, 130, 163, 0, 22, 42]
abbrev dktX33_caught_5 : List UInt8 := dkwX33_caught_5 ++ dktX33_caught_6
def dkwX33_caught_4 : List UInt8 := [182, 0, 127, 42, 43, 180, 0, 140, 21, 6, 50, 182, 0, 109, 25, 5, 21, 6, 4, 96, 42, 8, 3, 3]
abbrev dktX33_caught_4 : List UInt8 := dkwX33_caught_4 ++ dktX33_caught_5
def dkwX33_caught_3 : List UInt8 := [162, 0, 58, 42, 45, 28, 21, 4, 42, 180, 0, 22, 43, 180, 0, 137, 21, 6, 46, 43, 3, 182, 0, 98]
abbrev dktX33_caught_3 : List UInt8 := dkwX33_caught_3 ++ dktX33_caught_4
def dkwX33_caught_2 : List UInt8 := [58, 5, 25, 5, 3, 42, 8, 3, 3, 182, 0, 51, 79, 3, 54, 6, 21, 6, 43, 180, 0, 130]
abbrev dktX33_caught_2 : List UInt8 := dkwX33_caught_2 ++ dktX33_caught_3
def dkwX33_caught_1 : List UInt8 := [78, 42, 43, 182, 0, 133, 42, 182, 0, 124, 42, 180, 0, 22, 54, 4, 43, 180, 0, 130, 4, 96, 188, 10]
abbrev dktX33_caught_1 : List UInt8 := dkwX33_caught_1 ++ dktX33_caught_2
def dkwX33_caught_0 : List UInt8 := [43, 180, 0, 130, 154, 0, 9, 42, 43, 182, 0, 133, 177, 42, 180, 0, 22, 61, 42, 5, 43, 182, 0, 120]
abbrev dktX33_caught_0 : List UInt8 := dkwX33_caught_0 ++ dktX33_caught_1
theorem dksX33_caught_0 : cX33_caught.data.toList.drop 0 = dktX33_caught_0 := by decide +kernel
theorem dksX33_caught_1 : cX33_caught.data.toList.drop 24 = dktX33_caught_1 := dk_seg dksX33_caught_0 24 rfl rfl
theorem dksX33_caught_2 : cX33_caught.data.toList.drop 48 = dktX33_caught_2 := dk_seg dksX33_caught_1 24 rfl rfl
theorem dksX33_caught_3 : cX33_caught.data.toList.drop 70 = dktX33_caught_3 := dk_seg dksX33_caught_2 22 rfl rfl
theorem dksX33_caught_4 : cX33_caught.data.toList.drop 94 = dktX33_caught_4 := dk_seg dksX33_caught_3 24 rfl rfl
theorem dksX33_caught_5 : cX33_caught.data.toList.drop 118 = dktX33_caught_5 := dk_seg dksX33_caught_4 24 rfl rfl
theorem dksX33_caught_6 : cX33_caught.data.toList.drop 141 = dktX33_caught_6 := dk_seg dksX33_caught_5 23 rfl rfl
theorem dX33_caught_0 : decode cX33_caught 0 = .ok (.aload_n 1, 1) := dk_43 (dk_at dksX33_caught_0 0 rfl rfl)
theorem dX33_caught_1 : decode cX33_caught 1 = .ok (.getfield 130, 3) := dk_180 0 130 (dk_at dksX33_caught_0 1 rfl rfl)
theorem dX33_caught_4 : decode cX33_caught 4 = .ok (.ifCond .ne 9, 3) := dk_154 0 9 (dk_at dksX33_caught_0 4 rfl rfl)
theorem dX33_caught_7 : decode cX33_caught 7 = .ok (.aload_n 0, 1) := dk_42 (dk_at dksX33_caught_0 7 rfl rfl)
theorem dX33_caught_8 : decode cX33_caught 8 = .ok (.aload_n 1, 1) := dk_43 (dk_at dksX33_caught_0 8 rfl rfl)
theorem dX33_caught_9 : decode cX33_caught 9 = .ok (.invokevirtual 133, 3) := dk_182 0 133 (dk_at dksX33_caught_0 9 rfl rfl)
theorem dX33_caught_12 : decode cX33_caught 12 = .ok (.return_, 1) := dk_177 (dk_at dksX33_caught_0 12 rfl rfl)
theorem dX33_caught_13 : decode cX33_caught 13 = .ok (.aload_n 0, 1) := dk_42 (dk_at dksX33_caught_0 13 rfl rfl)
theorem dX33_caught_14 : decode cX33_caught 14 = .ok (.getfield 22, 3) := dk_180 0 22 (dk_at dksX33_caught_0 14 rfl rfl)
theorem dX33_caught_17 : decode cX33_caught 17 = .ok (.istore_n 2, 1) := dk_61 (dk_at dksX33_caught_0 17 rfl rfl)
theorem dX33_caught_18 : decode cX33_caught 18 = .ok (.aload_n 0, 1) := dk_42 (dk_at dksX33_caught_0 18 rfl rfl)
theorem dX33_caught_19 : decode cX33_caught 19 = .ok (.iconst 2, 1) := dk_5 (dk_at dksX33_caught_0 19 rfl rfl)
theorem dX33_caught_20 : decode cX33_caught 20 = .ok (.aload_n 1, 1) := dk_43 (dk_at dksX33_caught_0 20 rfl rfl)
theorem dX33_caught_21 : decode cX33_caught 21 = .ok (.invokevirtual 120, 3) := dk_182 0 120 (dk_at dksX33_caught_0 21 rfl rfl)
theorem dX33_caught_24 : decode cX33_caught 24 = .ok (.astore_n 3, 1) := dk_78 (dk_at dksX33_caught_1 0 rfl rfl)
theorem dX33_caught_25 : decode cX33_caught 25 = .ok (.aload_n 0, 1) := dk_42 (dk_at dksX33_caught_1 1 rfl rfl)
theorem dX33_caught_26 : decode cX33_caught 26 = .ok (.aload_n 1, 1) := dk_43 (dk_at dksX33_caught_1 2 rfl rfl)
theorem dX33_caught_27 : decode cX33_caught 27 = .ok (.invokevirtual 133, 3) := dk_182 0 133 (dk_at dksX33_caught_1 3 rfl rfl)
theorem dX33_caught_30 : decode cX33_caught 30 = .ok (.aload_n 0, 1) := dk_42 (dk_at dksX33_caught_1 6 rfl rfl)
theorem dX33_caught_31 : decode cX33_caught 31 = .ok (.invokevirtual 124, 3) := dk_182 0 124 (dk_at dksX33_caught_1 7 rfl rfl)
theorem dX33_caught_34 : decode cX33_caught 34 = .ok (.aload_n 0, 1) := dk_42 (dk_at dksX33_caught_1 10 rfl rfl)
theorem dX33_caught_35 : decode cX33_caught 35 = .ok (.getfield 22, 3) := dk_180 0 22 (dk_at dksX33_caught_1 11 rfl rfl)
theorem dX33_caught_38 : decode cX33_caught 38 = .ok (.istore 4, 2) := dk_54 4 (dk_at dksX33_caught_1 14 rfl rfl)
theorem dX33_caught_40 : decode cX33_caught 40 = .ok (.aload_n 1, 1) := dk_43 (dk_at dksX33_caught_1 16 rfl rfl)
theorem dX33_caught_41 : decode cX33_caught 41 = .ok (.getfield 130, 3) := dk_180 0 130 (dk_at dksX33_caught_1 17 rfl rfl)
theorem dX33_caught_44 : decode cX33_caught 44 = .ok (.iconst 1, 1) := dk_4 (dk_at dksX33_caught_1 20 rfl rfl)
theorem dX33_caught_45 : decode cX33_caught 45 = .ok (.iadd, 1) := dk_96 (dk_at dksX33_caught_1 21 rfl rfl)
theorem dX33_caught_46 : decode cX33_caught 46 = .ok (.newarray .int, 2) := dk_188_10 (dk_at dksX33_caught_1 22 rfl rfl)
theorem dX33_caught_48 : decode cX33_caught 48 = .ok (.astore 5, 2) := dk_58 5 (dk_at dksX33_caught_2 0 rfl rfl)
theorem dX33_caught_50 : decode cX33_caught 50 = .ok (.aload 5, 2) := dk_25 5 (dk_at dksX33_caught_2 2 rfl rfl)
theorem dX33_caught_52 : decode cX33_caught 52 = .ok (.iconst 0, 1) := dk_3 (dk_at dksX33_caught_2 4 rfl rfl)
theorem dX33_caught_53 : decode cX33_caught 53 = .ok (.aload_n 0, 1) := dk_42 (dk_at dksX33_caught_2 5 rfl rfl)
theorem dX33_caught_54 : decode cX33_caught 54 = .ok (.iconst 5, 1) := dk_8 (dk_at dksX33_caught_2 6 rfl rfl)
theorem dX33_caught_55 : decode cX33_caught 55 = .ok (.iconst 0, 1) := dk_3 (dk_at dksX33_caught_2 7 rfl rfl)
theorem dX33_caught_56 : decode cX33_caught 56 = .ok (.iconst 0, 1) := dk_3 (dk_at dksX33_caught_2 8 rfl rfl)
theorem dX33_caught_57 : decode cX33_caught 57 = .ok (.invokevirtual 51, 3) := dk_182 0 51 (dk_at dksX33_caught_2 9 rfl rfl)
theorem dX33_caught_60 : decode cX33_caught 60 = .ok (.iastore, 1) := dk_79 (dk_at dksX33_caught_2 12 rfl rfl)
theorem dX33_caught_61 : decode cX33_caught 61 = .ok (.iconst 0, 1) := dk_3 (dk_at dksX33_caught_2 13 rfl rfl)
theorem dX33_caught_62 : decode cX33_caught 62 = .ok (.istore 6, 2) := dk_54 6 (dk_at dksX33_caught_2 14 rfl rfl)
theorem dX33_caught_64 : decode cX33_caught 64 = .ok (.iload 6, 2) := dk_21 6 (dk_at dksX33_caught_2 16 rfl rfl)
theorem dX33_caught_66 : decode cX33_caught 66 = .ok (.aload_n 1, 1) := dk_43 (dk_at dksX33_caught_2 18 rfl rfl)
theorem dX33_caught_67 : decode cX33_caught 67 = .ok (.getfield 130, 3) := dk_180 0 130 (dk_at dksX33_caught_2 19 rfl rfl)
theorem dX33_caught_70 : decode cX33_caught 70 = .ok (.if_icmp .ge 58, 3) := dk_162 0 58 (dk_at dksX33_caught_3 0 rfl rfl)
theorem dX33_caught_73 : decode cX33_caught 73 = .ok (.aload_n 0, 1) := dk_42 (dk_at dksX33_caught_3 3 rfl rfl)
theorem dX33_caught_74 : decode cX33_caught 74 = .ok (.aload_n 3, 1) := dk_45 (dk_at dksX33_caught_3 4 rfl rfl)
theorem dX33_caught_75 : decode cX33_caught 75 = .ok (.iload_n 2, 1) := dk_28 (dk_at dksX33_caught_3 5 rfl rfl)
theorem dX33_caught_76 : decode cX33_caught 76 = .ok (.iload 4, 2) := dk_21 4 (dk_at dksX33_caught_3 6 rfl rfl)
theorem dX33_caught_78 : decode cX33_caught 78 = .ok (.aload_n 0, 1) := dk_42 (dk_at dksX33_caught_3 8 rfl rfl)
theorem dX33_caught_79 : decode cX33_caught 79 = .ok (.getfield 22, 3) := dk_180 0 22 (dk_at dksX33_caught_3 9 rfl rfl)
theorem dX33_caught_82 : decode cX33_caught 82 = .ok (.aload_n 1, 1) := dk_43 (dk_at dksX33_caught_3 12 rfl rfl)
theorem dX33_caught_83 : decode cX33_caught 83 = .ok (.getfield 137, 3) := dk_180 0 137 (dk_at dksX33_caught_3 13 rfl rfl)
theorem dX33_caught_86 : decode cX33_caught 86 = .ok (.iload 6, 2) := dk_21 6 (dk_at dksX33_caught_3 16 rfl rfl)
theorem dX33_caught_88 : decode cX33_caught 88 = .ok (.iaload, 1) := dk_46 (dk_at dksX33_caught_3 18 rfl rfl)
theorem dX33_caught_89 : decode cX33_caught 89 = .ok (.aload_n 1, 1) := dk_43 (dk_at dksX33_caught_3 19 rfl rfl)
theorem dX33_caught_90 : decode cX33_caught 90 = .ok (.iconst 0, 1) := dk_3 (dk_at dksX33_caught_3 20 rfl rfl)
theorem dX33_caught_91 : decode cX33_caught 91 = .ok (.invokevirtual 98, 3) := dk_182 0 98 (dk_at dksX33_caught_3 21 rfl rfl)
theorem dX33_caught_94 : decode cX33_caught 94 = .ok (.invokevirtual 127, 3) := dk_182 0 127 (dk_at dksX33_caught_4 0 rfl rfl)
theorem dX33_caught_97 : decode cX33_caught 97 = .ok (.aload_n 0, 1) := dk_42 (dk_at dksX33_caught_4 3 rfl rfl)
theorem dX33_caught_98 : decode cX33_caught 98 = .ok (.aload_n 1, 1) := dk_43 (dk_at dksX33_caught_4 4 rfl rfl)
theorem dX33_caught_99 : decode cX33_caught 99 = .ok (.getfield 140, 3) := dk_180 0 140 (dk_at dksX33_caught_4 5 rfl rfl)
theorem dX33_caught_102 : decode cX33_caught 102 = .ok (.iload 6, 2) := dk_21 6 (dk_at dksX33_caught_4 8 rfl rfl)
theorem dX33_caught_104 : decode cX33_caught 104 = .ok (.aaload, 1) := dk_50 (dk_at dksX33_caught_4 10 rfl rfl)
theorem dX33_caught_105 : decode cX33_caught 105 = .ok (.invokevirtual 109, 3) := dk_182 0 109 (dk_at dksX33_caught_4 11 rfl rfl)
theorem dX33_caught_108 : decode cX33_caught 108 = .ok (.aload 5, 2) := dk_25 5 (dk_at dksX33_caught_4 14 rfl rfl)
theorem dX33_caught_110 : decode cX33_caught 110 = .ok (.iload 6, 2) := dk_21 6 (dk_at dksX33_caught_4 16 rfl rfl)
theorem dX33_caught_112 : decode cX33_caught 112 = .ok (.iconst 1, 1) := dk_4 (dk_at dksX33_caught_4 18 rfl rfl)
theorem dX33_caught_113 : decode cX33_caught 113 = .ok (.iadd, 1) := dk_96 (dk_at dksX33_caught_4 19 rfl rfl)
theorem dX33_caught_114 : decode cX33_caught 114 = .ok (.aload_n 0, 1) := dk_42 (dk_at dksX33_caught_4 20 rfl rfl)
theorem dX33_caught_115 : decode cX33_caught 115 = .ok (.iconst 5, 1) := dk_8 (dk_at dksX33_caught_4 21 rfl rfl)
theorem dX33_caught_116 : decode cX33_caught 116 = .ok (.iconst 0, 1) := dk_3 (dk_at dksX33_caught_4 22 rfl rfl)
theorem dX33_caught_117 : decode cX33_caught 117 = .ok (.iconst 0, 1) := dk_3 (dk_at dksX33_caught_4 23 rfl rfl)
theorem dX33_caught_118 : decode cX33_caught 118 = .ok (.invokevirtual 51, 3) := dk_182 0 51 (dk_at dksX33_caught_5 0 rfl rfl)
theorem dX33_caught_121 : decode cX33_caught 121 = .ok (.iastore, 1) := dk_79 (dk_at dksX33_caught_5 3 rfl rfl)
theorem dX33_caught_122 : decode cX33_caught 122 = .ok (.iinc 6 1, 3) := dk_132 6 1 (dk_at dksX33_caught_5 4 rfl rfl)
theorem dX33_caught_125 : decode cX33_caught 125 = .ok (.goto (-61), 3) := dk_167 255 195 (dk_at dksX33_caught_5 7 rfl rfl)
theorem dX33_caught_128 : decode cX33_caught 128 = .ok (.iconst 0, 1) := dk_3 (dk_at dksX33_caught_5 10 rfl rfl)
theorem dX33_caught_129 : decode cX33_caught 129 = .ok (.istore 6, 2) := dk_54 6 (dk_at dksX33_caught_5 11 rfl rfl)
theorem dX33_caught_131 : decode cX33_caught 131 = .ok (.iload 6, 2) := dk_21 6 (dk_at dksX33_caught_5 13 rfl rfl)
theorem dX33_caught_133 : decode cX33_caught 133 = .ok (.aload_n 1, 1) := dk_43 (dk_at dksX33_caught_5 15 rfl rfl)
theorem dX33_caught_134 : decode cX33_caught 134 = .ok (.getfield 130, 3) := dk_180 0 130 (dk_at dksX33_caught_5 16 rfl rfl)
theorem dX33_caught_137 : decode cX33_caught 137 = .ok (.if_icmp .gt 22, 3) := dk_163 0 22 (dk_at dksX33_caught_5 19 rfl rfl)
theorem dX33_caught_140 : decode cX33_caught 140 = .ok (.aload_n 0, 1) := dk_42 (dk_at dksX33_caught_5 22 rfl rfl)
theorem dX33_caught_141 : decode cX33_caught 141 = .ok (.aload 5, 2) := dk_25 5 (dk_at dksX33_caught_6 0 rfl rfl)
theorem dX33_caught_143 : decode cX33_caught 143 = .ok (.iload 6, 2) := dk_21 6 (dk_at dksX33_caught_6 2 rfl rfl)
theorem dX33_caught_145 : decode cX33_caught 145 = .ok (.iaload, 1) := dk_46 (dk_at dksX33_caught_6 4 rfl rfl)
theorem dX33_caught_146 : decode cX33_caught 146 = .ok (.aload_n 0, 1) := dk_42 (dk_at dksX33_caught_6 5 rfl rfl)
theorem dX33_caught_147 : decode cX33_caught 147 = .ok (.getfield 22, 3) := dk_180 0 22 (dk_at dksX33_caught_6 6 rfl rfl)
theorem dX33_caught_150 : decode cX33_caught 150 = .ok (.invokevirtual 102, 3) := dk_182 0 102 (dk_at dksX33_caught_6 9 rfl rfl)
theorem dX33_caught_153 : decode cX33_caught 153 = .ok (.iinc 6 1, 3) := dk_132 6 1 (dk_at dksX33_caught_6 12 rfl rfl)
theorem dX33_caught_156 : decode cX33_caught 156 = .ok (.goto (-25), 3) := dk_167 255 231 (dk_at dksX33_caught_6 15 rfl rfl)
theorem dX33_caught_159 : decode cX33_caught 159 = .ok (.return_, 1) := dk_177 (dk_at dksX33_caught_6 18 rfl rfl)
theorem okX33_caught_0 : XOkL xms rX33_caught bX33_caught_0 := xcP (xok_aload_n dX33_caught_0 rfl) rfl (xcP (xok_getfield (ref := "WaysAtlas$Guard") (Or.inl ⟨rfl, by decide⟩) dX33_caught_1 (Or.inr ⟨⟨"WaysAtlas", (List.mem_of_getElem? (i := 21) rfl)⟩, (Or.inl rfl)⟩) xh95) rfl (xcP (xok_ifne dX33_caught_4 (by decide)) rfl (xcP (xok_aload_n dX33_caught_7 rfl) rfl (xcP (xok_aload_n dX33_caught_8 rfl) rfl (xcC0 (xokc_list (List.forall_mem_cons.mpr ⟨xokc_V (r := (RX33, TX33, 6)) xm279 (List.mem_of_getElem? (i := 30) rfl) (by decide) rfl dX33_caught_9 q1316 q1318 qs34 q179 q1319 (by decide +kernel), fun _ h => nomatch h⟩)) rfl (xcR ⟨dX33_caught_12, rfl⟩))))))
theorem okX33_caught_13 : XOkL xms rX33_caught bX33_caught_13 := xcP (xok_aload_n dX33_caught_13 rfl) rfl (xcP (xok_getfield (ref := "WaysAtlas$Lower") (Or.inl ⟨rfl, by decide⟩) dX33_caught_14 (Or.inl ⟨q1244, (Or.inl rfl)⟩) xh100) rfl (xcP (xok_istore_n dX33_caught_17 rfl) rfl (xcP (xok_aload_n dX33_caught_18 rfl) rfl (xcP (xok_iconst dX33_caught_19 rfl) rfl (xcP (xok_aload_n dX33_caught_20 rfl) rfl (xcC0 (xokc_list (List.forall_mem_cons.mpr ⟨xokc_V (r := (RX33, TX33, 6)) xm280 (List.mem_of_getElem? (i := 30) rfl) (by decide) rfl dX33_caught_21 q1324 q1325 q1326 q179 q1327 (by decide +kernel), fun _ h => nomatch h⟩)) rfl (xcP (xok_astore_n dX33_caught_24 rfl) rfl (xcP (xok_aload_n dX33_caught_25 rfl) rfl (xcP (xok_aload_n dX33_caught_26 rfl) rfl (xcC0 (xokc_list (List.forall_mem_cons.mpr ⟨xokc_V (r := (RX33, TX33, 6)) xm279 (List.mem_of_getElem? (i := 30) rfl) (by decide) rfl dX33_caught_27 q1316 q1318 qs34 q179 q1319 (by decide +kernel), fun _ h => nomatch h⟩)) rfl (xcP (xok_aload_n dX33_caught_30 rfl) rfl (xcC0 (xokc_list (List.forall_mem_cons.mpr ⟨xokc_V (r := (RX33, TX33, 6)) xm281 (List.mem_of_getElem? (i := 30) rfl) (by decide) rfl dX33_caught_31 q1365 q1366 q1367 q179 q1368 (by decide +kernel), fun _ h => nomatch h⟩)) rfl (xcP (xok_aload_n dX33_caught_34 rfl) rfl (xcP (xok_getfield (ref := "WaysAtlas$Lower") (Or.inl ⟨rfl, by decide⟩) dX33_caught_35 (Or.inl ⟨q1244, (Or.inl rfl)⟩) xh100) rfl (xcP (xok_istore dX33_caught_38) rfl (xcP (xok_aload_n dX33_caught_40 rfl) rfl (xcP (xok_getfield (ref := "WaysAtlas$Guard") (Or.inl ⟨rfl, by decide⟩) dX33_caught_41 (Or.inr ⟨⟨"WaysAtlas", (List.mem_of_getElem? (i := 21) rfl)⟩, (Or.inl rfl)⟩) xh95) rfl (xcP (xok_iconst dX33_caught_44 rfl) rfl (xcP (xok_iadd dX33_caught_45) rfl (xcP (xok_newarray (atype := .int) (by decide) rfl dX33_caught_46 q222) rfl (xcP (xok_astore dX33_caught_48) rfl (xcP (xok_aload dX33_caught_50) rfl (xcP (xok_iconst dX33_caught_52 rfl) rfl (xcP (xok_aload_n dX33_caught_53 rfl) rfl (xcP (xok_iconst dX33_caught_54 rfl) rfl (xcP (xok_iconst dX33_caught_55 rfl) rfl (xcP (xok_iconst dX33_caught_56 rfl) rfl (xcC0 (xokc_list (List.forall_mem_cons.mpr ⟨xokc_V (r := (RX33, TX33, 6)) xm276 (List.mem_of_getElem? (i := 30) rfl) (by decide) rfl dX33_caught_57 q1279 q1280 q1281 q179 q1282 (by decide +kernel), fun _ h => nomatch h⟩)) rfl (xcP (xok_iastore dX33_caught_60) rfl (xcP (xok_iconst dX33_caught_61 rfl) rfl (xcP (xok_istore dX33_caught_62) rfl (xcP xok_fal rfl trivial))))))))))))))))))))))))))))))))
theorem okX33_caught_64 : XOkL xms rX33_caught bX33_caught_64 := xcP (xok_iload dX33_caught_64) rfl (xcP (xok_aload_n dX33_caught_66 rfl) rfl (xcP (xok_getfield (ref := "WaysAtlas$Guard") (Or.inl ⟨rfl, by decide⟩) dX33_caught_67 (Or.inr ⟨⟨"WaysAtlas", (List.mem_of_getElem? (i := 21) rfl)⟩, (Or.inl rfl)⟩) xh95) rfl (xcP (xok_icmpge dX33_caught_70 (by decide)) rfl (xcP (xok_aload_n dX33_caught_73 rfl) rfl (xcP (xok_aload_n dX33_caught_74 rfl) rfl (xcP (xok_iload_n dX33_caught_75 rfl) rfl (xcP (xok_iload dX33_caught_76) rfl (xcP (xok_aload_n dX33_caught_78 rfl) rfl (xcP (xok_getfield (ref := "WaysAtlas$Lower") (Or.inl ⟨rfl, by decide⟩) dX33_caught_79 (Or.inl ⟨q1244, (Or.inl rfl)⟩) xh100) rfl (xcP (xok_aload_n dX33_caught_82 rfl) rfl (xcP (xok_getfield (ref := "WaysAtlas$Guard") (Or.inr ⟨rfl, by decide⟩) dX33_caught_83 (Or.inr ⟨⟨"WaysAtlas", (List.mem_of_getElem? (i := 22) rfl)⟩, (Or.inl rfl)⟩) xh1136) rfl (xcP (xok_iload dX33_caught_86) rfl (xcP (xok_iaload dX33_caught_88) rfl (xcP (xok_aload_n dX33_caught_89 rfl) rfl (xcP (xok_iconst dX33_caught_90 rfl) rfl (xcC0 (xokc_list (List.forall_mem_cons.mpr ⟨xokc_V (r := (RX31, TX31, 7)) xm261 (List.mem_of_getElem? (i := 28) rfl) (by decide) rfl dX33_caught_91 q1369 q1370 q1371 q176 q1372 (by decide +kernel), fun _ h => nomatch h⟩)) rfl (xcC0 (xokc_list (List.forall_mem_cons.mpr ⟨xokc_V (r := (RX33, TX33, 6)) xm282 (List.mem_of_getElem? (i := 30) rfl) (by decide) rfl dX33_caught_94 q1373 q1375 qs35 q179 q1376 (by decide +kernel), fun _ h => nomatch h⟩)) rfl (xcP (xok_aload_n dX33_caught_97 rfl) rfl (xcP (xok_aload_n dX33_caught_98 rfl) rfl (xcP (xok_getfield (ref := "WaysAtlas$Guard") (Or.inr ⟨rfl, by decide⟩) dX33_caught_99 (Or.inr ⟨⟨"WaysAtlas", (List.mem_of_getElem? (i := 23) rfl)⟩, (Or.inl rfl)⟩) xh1137) rfl (xcP (xok_iload dX33_caught_102) rfl (xcP (xok_aaload (by decide) rfl dX33_caught_104) rfl (xcC0 (xokc_list (List.forall_mem_cons.mpr ⟨xokc_V (r := (RX33, TX33, 6)) xm275 (List.mem_of_getElem? (i := 30) rfl) (by decide) rfl dX33_caught_105 q1274 q1275 q1276 q179 q1277 (by decide +kernel), fun _ h => nomatch h⟩)) rfl (xcP (xok_aload dX33_caught_108) rfl (xcP (xok_iload dX33_caught_110) rfl (xcP (xok_iconst dX33_caught_112 rfl) rfl (xcP (xok_iadd dX33_caught_113) rfl (xcP (xok_aload_n dX33_caught_114 rfl) rfl (xcP (xok_iconst dX33_caught_115 rfl) rfl (xcP (xok_iconst dX33_caught_116 rfl) rfl (xcP (xok_iconst dX33_caught_117 rfl) rfl (xcC0 (xokc_list (List.forall_mem_cons.mpr ⟨xokc_V (r := (RX33, TX33, 6)) xm276 (List.mem_of_getElem? (i := 30) rfl) (by decide) rfl dX33_caught_118 q1279 q1280 q1281 q179 q1282 (by decide +kernel), fun _ h => nomatch h⟩)) rfl (xcP (xok_iastore dX33_caught_121) rfl (xcP (xok_iinc dX33_caught_122 rfl) rfl (xcP (xok_goto dX33_caught_125 (by decide)) rfl trivial)))))))))))))))))))))))))))))))))))
theorem okX33_caught_128 : XOkL xms rX33_caught bX33_caught_128 := xcP (xok_iconst dX33_caught_128 rfl) rfl (xcP (xok_istore dX33_caught_129) rfl (xcP xok_fal rfl trivial))
theorem okX33_caught_131 : XOkL xms rX33_caught bX33_caught_131 := xcP (xok_iload dX33_caught_131) rfl (xcP (xok_aload_n dX33_caught_133 rfl) rfl (xcP (xok_getfield (ref := "WaysAtlas$Guard") (Or.inl ⟨rfl, by decide⟩) dX33_caught_134 (Or.inr ⟨⟨"WaysAtlas", (List.mem_of_getElem? (i := 21) rfl)⟩, (Or.inl rfl)⟩) xh95) rfl (xcP (xok_icmpgt dX33_caught_137 (by decide)) rfl (xcP (xok_aload_n dX33_caught_140 rfl) rfl (xcP (xok_aload dX33_caught_141) rfl (xcP (xok_iload dX33_caught_143) rfl (xcP (xok_iaload dX33_caught_145) rfl (xcP (xok_aload_n dX33_caught_146 rfl) rfl (xcP (xok_getfield (ref := "WaysAtlas$Lower") (Or.inl ⟨rfl, by decide⟩) dX33_caught_147 (Or.inl ⟨q1244, (Or.inl rfl)⟩) xh100) rfl (xcC0 (xokc_list (List.forall_mem_cons.mpr ⟨xokc_V (r := (RX33, TX33, 6)) xm284 (List.mem_of_getElem? (i := 30) rfl) (by decide) rfl dX33_caught_150 q1381 q1382 q1383 q179 q1384 (by decide +kernel), fun _ h => nomatch h⟩)) rfl (xcP (xok_iinc dX33_caught_153 rfl) rfl (xcP (xok_goto dX33_caught_156 (by decide)) rfl trivial))))))))))))
theorem okX33_caught_159 : XOkL xms rX33_caught bX33_caught_159 := xcR ⟨dX33_caught_159, rfl⟩
theorem okM_X33_caught : XOkM xms rX33_caught := xokM0 (List.forall_mem_cons.mpr ⟨⟨rfl, okX33_caught_0⟩, List.forall_mem_cons.mpr ⟨⟨rfl, okX33_caught_13⟩, List.forall_mem_cons.mpr ⟨⟨rfl, okX33_caught_64⟩, List.forall_mem_cons.mpr ⟨⟨rfl, okX33_caught_128⟩, List.forall_mem_cons.mpr ⟨⟨rfl, okX33_caught_131⟩, List.forall_mem_cons.mpr ⟨⟨rfl, okX33_caught_159⟩, fun _ h => nomatch h⟩⟩⟩⟩⟩⟩) (xokH0 rfl (fun _ _ => rfl)) (by decide +kernel) (by decide)
abbrev cX33_inner : ByteArray := prog_10_method_12_code
def dkwX33_inner_5 : List UInt8 := [180, 0, 22, 182, 0, 102, 177]
abbrev dktX33_inner_5 : List UInt8 := dkwX33_inner_5 ++ []
def dkwX33_inner_4 : List UInt8 := [182, 0, 127, 42, 16, 11, 43, 180, 0, 119, 43, 16, 7, 182, 0, 98, 182, 0, 51, 87, 42, 21, 5, 42]
abbrev dktX33_inner_4 : List UInt8 := dkwX33_inner_4 ++ dktX33_inner_5
def dkwX33_inner_3 : List UInt8 := [3, 3, 182, 0, 51, 54, 5, 42, 45, 28, 21, 4, 42, 180, 0, 22, 16, 247, 43, 16, 7, 182, 0, 98]
abbrev dktX33_inner_3 : List UInt8 := dkwX33_inner_3 ++ dktX33_inner_4
def dkwX33_inner_2 : List UInt8 := [42, 182, 0, 124, 42, 180, 0, 22, 54, 4, 42, 16, 10, 43, 180, 0, 119, 3, 182, 0, 51, 87, 42, 8]
abbrev dktX33_inner_2 : List UInt8 := dkwX33_inner_2 ++ dktX33_inner_3
def dkwX33_inner_1 : List UInt8 := [182, 0, 51, 87, 42, 180, 0, 22, 61, 42, 4, 43, 182, 0, 120, 78, 42, 43, 180, 0, 117, 182, 0, 109]
abbrev dktX33_inner_1 : List UInt8 := dkwX33_inner_1 ++ dktX33_inner_2
def dkwX33_inner_0 : List UInt8 := [43, 182, 0, 113, 154, 0, 12, 42, 43, 180, 0, 117, 182, 0, 109, 177, 42, 16, 9, 43, 180, 0, 119, 3]
abbrev dktX33_inner_0 : List UInt8 := dkwX33_inner_0 ++ dktX33_inner_1
theorem dksX33_inner_0 : cX33_inner.data.toList.drop 0 = dktX33_inner_0 := by decide +kernel
theorem dksX33_inner_1 : cX33_inner.data.toList.drop 24 = dktX33_inner_1 := dk_seg dksX33_inner_0 24 rfl rfl
theorem dksX33_inner_2 : cX33_inner.data.toList.drop 48 = dktX33_inner_2 := dk_seg dksX33_inner_1 24 rfl rfl
theorem dksX33_inner_3 : cX33_inner.data.toList.drop 72 = dktX33_inner_3 := dk_seg dksX33_inner_2 24 rfl rfl
theorem dksX33_inner_4 : cX33_inner.data.toList.drop 96 = dktX33_inner_4 := dk_seg dksX33_inner_3 24 rfl rfl
theorem dksX33_inner_5 : cX33_inner.data.toList.drop 120 = dktX33_inner_5 := dk_seg dksX33_inner_4 24 rfl rfl
theorem dX33_inner_0 : decode cX33_inner 0 = .ok (.aload_n 1, 1) := dk_43 (dk_at dksX33_inner_0 0 rfl rfl)
theorem dX33_inner_1 : decode cX33_inner 1 = .ok (.invokevirtual 113, 3) := dk_182 0 113 (dk_at dksX33_inner_0 1 rfl rfl)
theorem dX33_inner_4 : decode cX33_inner 4 = .ok (.ifCond .ne 12, 3) := dk_154 0 12 (dk_at dksX33_inner_0 4 rfl rfl)
theorem dX33_inner_7 : decode cX33_inner 7 = .ok (.aload_n 0, 1) := dk_42 (dk_at dksX33_inner_0 7 rfl rfl)
theorem dX33_inner_8 : decode cX33_inner 8 = .ok (.aload_n 1, 1) := dk_43 (dk_at dksX33_inner_0 8 rfl rfl)
theorem dX33_inner_9 : decode cX33_inner 9 = .ok (.getfield 117, 3) := dk_180 0 117 (dk_at dksX33_inner_0 9 rfl rfl)
theorem dX33_inner_12 : decode cX33_inner 12 = .ok (.invokevirtual 109, 3) := dk_182 0 109 (dk_at dksX33_inner_0 12 rfl rfl)
theorem dX33_inner_15 : decode cX33_inner 15 = .ok (.return_, 1) := dk_177 (dk_at dksX33_inner_0 15 rfl rfl)
theorem dX33_inner_16 : decode cX33_inner 16 = .ok (.aload_n 0, 1) := dk_42 (dk_at dksX33_inner_0 16 rfl rfl)
theorem dX33_inner_17 : decode cX33_inner 17 = .ok (.bipush 9, 2) := dk_16 9 (dk_at dksX33_inner_0 17 rfl rfl)
theorem dX33_inner_19 : decode cX33_inner 19 = .ok (.aload_n 1, 1) := dk_43 (dk_at dksX33_inner_0 19 rfl rfl)
theorem dX33_inner_20 : decode cX33_inner 20 = .ok (.getfield 119, 3) := dk_180 0 119 (dk_at dksX33_inner_0 20 rfl rfl)
theorem dX33_inner_23 : decode cX33_inner 23 = .ok (.iconst 0, 1) := dk_3 (dk_at dksX33_inner_0 23 rfl rfl)
theorem dX33_inner_24 : decode cX33_inner 24 = .ok (.invokevirtual 51, 3) := dk_182 0 51 (dk_at dksX33_inner_1 0 rfl rfl)
theorem dX33_inner_27 : decode cX33_inner 27 = .ok (.pop, 1) := dk_87 (dk_at dksX33_inner_1 3 rfl rfl)
theorem dX33_inner_28 : decode cX33_inner 28 = .ok (.aload_n 0, 1) := dk_42 (dk_at dksX33_inner_1 4 rfl rfl)
theorem dX33_inner_29 : decode cX33_inner 29 = .ok (.getfield 22, 3) := dk_180 0 22 (dk_at dksX33_inner_1 5 rfl rfl)
theorem dX33_inner_32 : decode cX33_inner 32 = .ok (.istore_n 2, 1) := dk_61 (dk_at dksX33_inner_1 8 rfl rfl)
theorem dX33_inner_33 : decode cX33_inner 33 = .ok (.aload_n 0, 1) := dk_42 (dk_at dksX33_inner_1 9 rfl rfl)
theorem dX33_inner_34 : decode cX33_inner 34 = .ok (.iconst 1, 1) := dk_4 (dk_at dksX33_inner_1 10 rfl rfl)
theorem dX33_inner_35 : decode cX33_inner 35 = .ok (.aload_n 1, 1) := dk_43 (dk_at dksX33_inner_1 11 rfl rfl)
theorem dX33_inner_36 : decode cX33_inner 36 = .ok (.invokevirtual 120, 3) := dk_182 0 120 (dk_at dksX33_inner_1 12 rfl rfl)
theorem dX33_inner_39 : decode cX33_inner 39 = .ok (.astore_n 3, 1) := dk_78 (dk_at dksX33_inner_1 15 rfl rfl)
theorem dX33_inner_40 : decode cX33_inner 40 = .ok (.aload_n 0, 1) := dk_42 (dk_at dksX33_inner_1 16 rfl rfl)
theorem dX33_inner_41 : decode cX33_inner 41 = .ok (.aload_n 1, 1) := dk_43 (dk_at dksX33_inner_1 17 rfl rfl)
theorem dX33_inner_42 : decode cX33_inner 42 = .ok (.getfield 117, 3) := dk_180 0 117 (dk_at dksX33_inner_1 18 rfl rfl)
theorem dX33_inner_45 : decode cX33_inner 45 = .ok (.invokevirtual 109, 3) := dk_182 0 109 (dk_at dksX33_inner_1 21 rfl rfl)
theorem dX33_inner_48 : decode cX33_inner 48 = .ok (.aload_n 0, 1) := dk_42 (dk_at dksX33_inner_2 0 rfl rfl)
theorem dX33_inner_49 : decode cX33_inner 49 = .ok (.invokevirtual 124, 3) := dk_182 0 124 (dk_at dksX33_inner_2 1 rfl rfl)
theorem dX33_inner_52 : decode cX33_inner 52 = .ok (.aload_n 0, 1) := dk_42 (dk_at dksX33_inner_2 4 rfl rfl)
theorem dX33_inner_53 : decode cX33_inner 53 = .ok (.getfield 22, 3) := dk_180 0 22 (dk_at dksX33_inner_2 5 rfl rfl)
theorem dX33_inner_56 : decode cX33_inner 56 = .ok (.istore 4, 2) := dk_54 4 (dk_at dksX33_inner_2 8 rfl rfl)
theorem dX33_inner_58 : decode cX33_inner 58 = .ok (.aload_n 0, 1) := dk_42 (dk_at dksX33_inner_2 10 rfl rfl)
theorem dX33_inner_59 : decode cX33_inner 59 = .ok (.bipush 10, 2) := dk_16 10 (dk_at dksX33_inner_2 11 rfl rfl)
theorem dX33_inner_61 : decode cX33_inner 61 = .ok (.aload_n 1, 1) := dk_43 (dk_at dksX33_inner_2 13 rfl rfl)
theorem dX33_inner_62 : decode cX33_inner 62 = .ok (.getfield 119, 3) := dk_180 0 119 (dk_at dksX33_inner_2 14 rfl rfl)
theorem dX33_inner_65 : decode cX33_inner 65 = .ok (.iconst 0, 1) := dk_3 (dk_at dksX33_inner_2 17 rfl rfl)
theorem dX33_inner_66 : decode cX33_inner 66 = .ok (.invokevirtual 51, 3) := dk_182 0 51 (dk_at dksX33_inner_2 18 rfl rfl)
theorem dX33_inner_69 : decode cX33_inner 69 = .ok (.pop, 1) := dk_87 (dk_at dksX33_inner_2 21 rfl rfl)
theorem dX33_inner_70 : decode cX33_inner 70 = .ok (.aload_n 0, 1) := dk_42 (dk_at dksX33_inner_2 22 rfl rfl)
theorem dX33_inner_71 : decode cX33_inner 71 = .ok (.iconst 5, 1) := dk_8 (dk_at dksX33_inner_2 23 rfl rfl)
theorem dX33_inner_72 : decode cX33_inner 72 = .ok (.iconst 0, 1) := dk_3 (dk_at dksX33_inner_3 0 rfl rfl)
theorem dX33_inner_73 : decode cX33_inner 73 = .ok (.iconst 0, 1) := dk_3 (dk_at dksX33_inner_3 1 rfl rfl)
theorem dX33_inner_74 : decode cX33_inner 74 = .ok (.invokevirtual 51, 3) := dk_182 0 51 (dk_at dksX33_inner_3 2 rfl rfl)
theorem dX33_inner_77 : decode cX33_inner 77 = .ok (.istore 5, 2) := dk_54 5 (dk_at dksX33_inner_3 5 rfl rfl)
theorem dX33_inner_79 : decode cX33_inner 79 = .ok (.aload_n 0, 1) := dk_42 (dk_at dksX33_inner_3 7 rfl rfl)
theorem dX33_inner_80 : decode cX33_inner 80 = .ok (.aload_n 3, 1) := dk_45 (dk_at dksX33_inner_3 8 rfl rfl)
theorem dX33_inner_81 : decode cX33_inner 81 = .ok (.iload_n 2, 1) := dk_28 (dk_at dksX33_inner_3 9 rfl rfl)
theorem dX33_inner_82 : decode cX33_inner 82 = .ok (.iload 4, 2) := dk_21 4 (dk_at dksX33_inner_3 10 rfl rfl)
theorem dX33_inner_84 : decode cX33_inner 84 = .ok (.aload_n 0, 1) := dk_42 (dk_at dksX33_inner_3 12 rfl rfl)
theorem dX33_inner_85 : decode cX33_inner 85 = .ok (.getfield 22, 3) := dk_180 0 22 (dk_at dksX33_inner_3 13 rfl rfl)
theorem dX33_inner_88 : decode cX33_inner 88 = .ok (.bipush (-9), 2) := dk_16 247 (dk_at dksX33_inner_3 16 rfl rfl)
theorem dX33_inner_90 : decode cX33_inner 90 = .ok (.aload_n 1, 1) := dk_43 (dk_at dksX33_inner_3 18 rfl rfl)
theorem dX33_inner_91 : decode cX33_inner 91 = .ok (.bipush 7, 2) := dk_16 7 (dk_at dksX33_inner_3 19 rfl rfl)
theorem dX33_inner_93 : decode cX33_inner 93 = .ok (.invokevirtual 98, 3) := dk_182 0 98 (dk_at dksX33_inner_3 21 rfl rfl)
theorem dX33_inner_96 : decode cX33_inner 96 = .ok (.invokevirtual 127, 3) := dk_182 0 127 (dk_at dksX33_inner_4 0 rfl rfl)
theorem dX33_inner_99 : decode cX33_inner 99 = .ok (.aload_n 0, 1) := dk_42 (dk_at dksX33_inner_4 3 rfl rfl)
theorem dX33_inner_100 : decode cX33_inner 100 = .ok (.bipush 11, 2) := dk_16 11 (dk_at dksX33_inner_4 4 rfl rfl)
theorem dX33_inner_102 : decode cX33_inner 102 = .ok (.aload_n 1, 1) := dk_43 (dk_at dksX33_inner_4 6 rfl rfl)
theorem dX33_inner_103 : decode cX33_inner 103 = .ok (.getfield 119, 3) := dk_180 0 119 (dk_at dksX33_inner_4 7 rfl rfl)
theorem dX33_inner_106 : decode cX33_inner 106 = .ok (.aload_n 1, 1) := dk_43 (dk_at dksX33_inner_4 10 rfl rfl)
theorem dX33_inner_107 : decode cX33_inner 107 = .ok (.bipush 7, 2) := dk_16 7 (dk_at dksX33_inner_4 11 rfl rfl)
theorem dX33_inner_109 : decode cX33_inner 109 = .ok (.invokevirtual 98, 3) := dk_182 0 98 (dk_at dksX33_inner_4 13 rfl rfl)
theorem dX33_inner_112 : decode cX33_inner 112 = .ok (.invokevirtual 51, 3) := dk_182 0 51 (dk_at dksX33_inner_4 16 rfl rfl)
theorem dX33_inner_115 : decode cX33_inner 115 = .ok (.pop, 1) := dk_87 (dk_at dksX33_inner_4 19 rfl rfl)
theorem dX33_inner_116 : decode cX33_inner 116 = .ok (.aload_n 0, 1) := dk_42 (dk_at dksX33_inner_4 20 rfl rfl)
theorem dX33_inner_117 : decode cX33_inner 117 = .ok (.iload 5, 2) := dk_21 5 (dk_at dksX33_inner_4 21 rfl rfl)
theorem dX33_inner_119 : decode cX33_inner 119 = .ok (.aload_n 0, 1) := dk_42 (dk_at dksX33_inner_4 23 rfl rfl)
theorem dX33_inner_120 : decode cX33_inner 120 = .ok (.getfield 22, 3) := dk_180 0 22 (dk_at dksX33_inner_5 0 rfl rfl)
theorem dX33_inner_123 : decode cX33_inner 123 = .ok (.invokevirtual 102, 3) := dk_182 0 102 (dk_at dksX33_inner_5 3 rfl rfl)
theorem dX33_inner_126 : decode cX33_inner 126 = .ok (.return_, 1) := dk_177 (dk_at dksX33_inner_5 6 rfl rfl)
theorem okX33_inner_0 : XOkL xms rX33_inner bX33_inner_0 := xcP (xok_aload_n dX33_inner_0 rfl) rfl (xcC0 (xokc_list (List.forall_mem_cons.mpr ⟨xokc_V (r := (RX31, TX31, 7)) xm260 (List.mem_of_getElem? (i := 28) rfl) (by decide) rfl dX33_inner_1 q1320 q1321 q1322 q176 q1323 (by decide +kernel), fun _ h => nomatch h⟩)) rfl (xcP (xok_ifne dX33_inner_4 (by decide)) rfl (xcP (xok_aload_n dX33_inner_7 rfl) rfl (xcP (xok_aload_n dX33_inner_8 rfl) rfl (xcP (xok_getfield (ref := "WaysAtlas$Guard") (Or.inr ⟨rfl, by decide⟩) dX33_inner_9 (Or.inr ⟨⟨"WaysAtlas", (List.mem_of_getElem? (i := 20) rfl)⟩, (Or.inl rfl)⟩) xh1135) rfl (xcC0 (xokc_list (List.forall_mem_cons.mpr ⟨xokc_V (r := (RX33, TX33, 6)) xm275 (List.mem_of_getElem? (i := 30) rfl) (by decide) rfl dX33_inner_12 q1274 q1275 q1276 q179 q1277 (by decide +kernel), fun _ h => nomatch h⟩)) rfl (xcR ⟨dX33_inner_15, rfl⟩)))))))
theorem okX33_inner_16 : XOkL xms rX33_inner bX33_inner_16 := xcP (xok_aload_n dX33_inner_16 rfl) rfl (xcP (xok_bipush dX33_inner_17 rfl) rfl (xcP (xok_aload_n dX33_inner_19 rfl) rfl (xcP (xok_getfield (ref := "WaysAtlas$Guard") (Or.inl ⟨rfl, by decide⟩) dX33_inner_20 (Or.inl ⟨q988, (Or.inr q971)⟩) xh82) rfl (xcP (xok_iconst dX33_inner_23 rfl) rfl (xcC0 (xokc_list (List.forall_mem_cons.mpr ⟨xokc_V (r := (RX33, TX33, 6)) xm276 (List.mem_of_getElem? (i := 30) rfl) (by decide) rfl dX33_inner_24 q1279 q1280 q1281 q179 q1282 (by decide +kernel), fun _ h => nomatch h⟩)) rfl (xcP (xok_pop dX33_inner_27) rfl (xcP (xok_aload_n dX33_inner_28 rfl) rfl (xcP (xok_getfield (ref := "WaysAtlas$Lower") (Or.inl ⟨rfl, by decide⟩) dX33_inner_29 (Or.inl ⟨q1244, (Or.inl rfl)⟩) xh100) rfl (xcP (xok_istore_n dX33_inner_32 rfl) rfl (xcP (xok_aload_n dX33_inner_33 rfl) rfl (xcP (xok_iconst dX33_inner_34 rfl) rfl (xcP (xok_aload_n dX33_inner_35 rfl) rfl (xcC0 (xokc_list (List.forall_mem_cons.mpr ⟨xokc_V (r := (RX33, TX33, 6)) xm280 (List.mem_of_getElem? (i := 30) rfl) (by decide) rfl dX33_inner_36 q1324 q1325 q1326 q179 q1327 (by decide +kernel), fun _ h => nomatch h⟩)) rfl (xcP (xok_astore_n dX33_inner_39 rfl) rfl (xcP (xok_aload_n dX33_inner_40 rfl) rfl (xcP (xok_aload_n dX33_inner_41 rfl) rfl (xcP (xok_getfield (ref := "WaysAtlas$Guard") (Or.inr ⟨rfl, by decide⟩) dX33_inner_42 (Or.inr ⟨⟨"WaysAtlas", (List.mem_of_getElem? (i := 20) rfl)⟩, (Or.inl rfl)⟩) xh1135) rfl (xcC0 (xokc_list (List.forall_mem_cons.mpr ⟨xokc_V (r := (RX33, TX33, 6)) xm275 (List.mem_of_getElem? (i := 30) rfl) (by decide) rfl dX33_inner_45 q1274 q1275 q1276 q179 q1277 (by decide +kernel), fun _ h => nomatch h⟩)) rfl (xcP (xok_aload_n dX33_inner_48 rfl) rfl (xcC0 (xokc_list (List.forall_mem_cons.mpr ⟨xokc_V (r := (RX33, TX33, 6)) xm281 (List.mem_of_getElem? (i := 30) rfl) (by decide) rfl dX33_inner_49 q1365 q1366 q1367 q179 q1368 (by decide +kernel), fun _ h => nomatch h⟩)) rfl (xcP (xok_aload_n dX33_inner_52 rfl) rfl (xcP (xok_getfield (ref := "WaysAtlas$Lower") (Or.inl ⟨rfl, by decide⟩) dX33_inner_53 (Or.inl ⟨q1244, (Or.inl rfl)⟩) xh100) rfl (xcP (xok_istore dX33_inner_56) rfl (xcP (xok_aload_n dX33_inner_58 rfl) rfl (xcP (xok_bipush dX33_inner_59 rfl) rfl (xcP (xok_aload_n dX33_inner_61 rfl) rfl (xcP (xok_getfield (ref := "WaysAtlas$Guard") (Or.inl ⟨rfl, by decide⟩) dX33_inner_62 (Or.inl ⟨q988, (Or.inr q971)⟩) xh82) rfl (xcP (xok_iconst dX33_inner_65 rfl) rfl (xcC0 (xokc_list (List.forall_mem_cons.mpr ⟨xokc_V (r := (RX33, TX33, 6)) xm276 (List.mem_of_getElem? (i := 30) rfl) (by decide) rfl dX33_inner_66 q1279 q1280 q1281 q179 q1282 (by decide +kernel), fun _ h => nomatch h⟩)) rfl (xcP (xok_pop dX33_inner_69) rfl (xcP (xok_aload_n dX33_inner_70 rfl) rfl (xcP (xok_iconst dX33_inner_71 rfl) rfl (xcP (xok_iconst dX33_inner_72 rfl) rfl (xcP (xok_iconst dX33_inner_73 rfl) rfl (xcC0 (xokc_list (List.forall_mem_cons.mpr ⟨xokc_V (r := (RX33, TX33, 6)) xm276 (List.mem_of_getElem? (i := 30) rfl) (by decide) rfl dX33_inner_74 q1279 q1280 q1281 q179 q1282 (by decide +kernel), fun _ h => nomatch h⟩)) rfl (xcP (xok_istore dX33_inner_77) rfl (xcP (xok_aload_n dX33_inner_79 rfl) rfl (xcP (xok_aload_n dX33_inner_80 rfl) rfl (xcP (xok_iload_n dX33_inner_81 rfl) rfl (xcP (xok_iload dX33_inner_82) rfl (xcP (xok_aload_n dX33_inner_84 rfl) rfl (xcP (xok_getfield (ref := "WaysAtlas$Lower") (Or.inl ⟨rfl, by decide⟩) dX33_inner_85 (Or.inl ⟨q1244, (Or.inl rfl)⟩) xh100) rfl (xcP (xok_bipush dX33_inner_88 rfl) rfl (xcP (xok_aload_n dX33_inner_90 rfl) rfl (xcP (xok_bipush dX33_inner_91 rfl) rfl (xcC0 (xokc_list (List.forall_mem_cons.mpr ⟨xokc_V (r := (RX31, TX31, 7)) xm261 (List.mem_of_getElem? (i := 28) rfl) (by decide) rfl dX33_inner_93 q1369 q1370 q1371 q176 q1372 (by decide +kernel), fun _ h => nomatch h⟩)) rfl (xcC0 (xokc_list (List.forall_mem_cons.mpr ⟨xokc_V (r := (RX33, TX33, 6)) xm282 (List.mem_of_getElem? (i := 30) rfl) (by decide) rfl dX33_inner_96 q1373 q1375 qs35 q179 q1376 (by decide +kernel), fun _ h => nomatch h⟩)) rfl (xcP (xok_aload_n dX33_inner_99 rfl) rfl (xcP (xok_bipush dX33_inner_100 rfl) rfl (xcP (xok_aload_n dX33_inner_102 rfl) rfl (xcP (xok_getfield (ref := "WaysAtlas$Guard") (Or.inl ⟨rfl, by decide⟩) dX33_inner_103 (Or.inl ⟨q988, (Or.inr q971)⟩) xh82) rfl (xcP (xok_aload_n dX33_inner_106 rfl) rfl (xcP (xok_bipush dX33_inner_107 rfl) rfl (xcC0 (xokc_list (List.forall_mem_cons.mpr ⟨xokc_V (r := (RX31, TX31, 7)) xm261 (List.mem_of_getElem? (i := 28) rfl) (by decide) rfl dX33_inner_109 q1369 q1370 q1371 q176 q1372 (by decide +kernel), fun _ h => nomatch h⟩)) rfl (xcC0 (xokc_list (List.forall_mem_cons.mpr ⟨xokc_V (r := (RX33, TX33, 6)) xm276 (List.mem_of_getElem? (i := 30) rfl) (by decide) rfl dX33_inner_112 q1279 q1280 q1281 q179 q1282 (by decide +kernel), fun _ h => nomatch h⟩)) rfl (xcP (xok_pop dX33_inner_115) rfl (xcP (xok_aload_n dX33_inner_116 rfl) rfl (xcP (xok_iload dX33_inner_117) rfl (xcP (xok_aload_n dX33_inner_119 rfl) rfl (xcP (xok_getfield (ref := "WaysAtlas$Lower") (Or.inl ⟨rfl, by decide⟩) dX33_inner_120 (Or.inl ⟨q1244, (Or.inl rfl)⟩) xh100) rfl (xcC0 (xokc_list (List.forall_mem_cons.mpr ⟨xokc_V (r := (RX33, TX33, 6)) xm284 (List.mem_of_getElem? (i := 30) rfl) (by decide) rfl dX33_inner_123 q1381 q1382 q1383 q179 q1384 (by decide +kernel), fun _ h => nomatch h⟩)) rfl (xcR ⟨dX33_inner_126, rfl⟩))))))))))))))))))))))))))))))))))))))))))))))))))))))))))))))
theorem okM_X33_inner : XOkM xms rX33_inner := xokM0 (List.forall_mem_cons.mpr ⟨⟨rfl, okX33_inner_0⟩, List.forall_mem_cons.mpr ⟨⟨rfl, okX33_inner_16⟩, fun _ h => nomatch h⟩⟩) (xokH0 rfl (fun _ _ => rfl)) (by decide +kernel) (by decide)
abbrev cX33_enters : ByteArray := prog_10_method_4_code
def dkwX33_enters_0 : List UInt8 := [42, 187, 0, 27, 89, 27, 44, 42, 180, 0, 32, 183, 0, 36, 181, 0, 32, 42, 180, 0, 32, 176]
abbrev dktX33_enters_0 : List UInt8 := dkwX33_enters_0 ++ []
theorem dksX33_enters_0 : cX33_enters.data.toList.drop 0 = dktX33_enters_0 := by decide +kernel
theorem dX33_enters_0 : decode cX33_enters 0 = .ok (.aload_n 0, 1) := dk_42 (dk_at dksX33_enters_0 0 rfl rfl)
theorem dX33_enters_1 : decode cX33_enters 1 = .ok (.new 27, 3) := dk_187 0 27 (dk_at dksX33_enters_0 1 rfl rfl)
theorem dX33_enters_4 : decode cX33_enters 4 = .ok (.dup, 1) := dk_89 (dk_at dksX33_enters_0 4 rfl rfl)
theorem dX33_enters_5 : decode cX33_enters 5 = .ok (.iload_n 1, 1) := dk_27 (dk_at dksX33_enters_0 5 rfl rfl)
theorem dX33_enters_6 : decode cX33_enters 6 = .ok (.aload_n 2, 1) := dk_44 (dk_at dksX33_enters_0 6 rfl rfl)
theorem dX33_enters_7 : decode cX33_enters 7 = .ok (.aload_n 0, 1) := dk_42 (dk_at dksX33_enters_0 7 rfl rfl)
theorem dX33_enters_8 : decode cX33_enters 8 = .ok (.getfield 32, 3) := dk_180 0 32 (dk_at dksX33_enters_0 8 rfl rfl)
theorem dX33_enters_11 : decode cX33_enters 11 = .ok (.invokespecial 36, 3) := dk_183 0 36 (dk_at dksX33_enters_0 11 rfl rfl)
theorem dX33_enters_14 : decode cX33_enters 14 = .ok (.putfield 32, 3) := dk_181 0 32 (dk_at dksX33_enters_0 14 rfl rfl)
theorem dX33_enters_17 : decode cX33_enters 17 = .ok (.aload_n 0, 1) := dk_42 (dk_at dksX33_enters_0 17 rfl rfl)
theorem dX33_enters_18 : decode cX33_enters 18 = .ok (.getfield 32, 3) := dk_180 0 32 (dk_at dksX33_enters_0 18 rfl rfl)
theorem dX33_enters_21 : decode cX33_enters 21 = .ok (.areturn, 1) := dk_176 (dk_at dksX33_enters_0 21 rfl rfl)
theorem okX33_enters_0 : XOkL xms rX33_enters bX33_enters_0 := xcP (xok_aload_n dX33_enters_0 rfl) rfl (xcP (xok_new (r := (RX32, TX32, 8)) (List.mem_of_getElem? (i := 29) rfl) rfl (by decide) dX33_enters_1 q1328 q1329 q177) rfl (xcP (xok_dup dX33_enters_4) rfl (xcP (xok_iload_n dX33_enters_5 rfl) rfl (xcP (xok_aload_n dX33_enters_6 rfl) rfl (xcP (xok_aload_n dX33_enters_7 rfl) rfl (xcP (xok_getfield (ref := "WaysAtlas$Lower") (Or.inr ⟨rfl, by decide⟩) dX33_enters_8 (Or.inl ⟨q1252, (Or.inl rfl)⟩) xh1145) rfl (xcC0 (xokc_I xm268 rfl rfl dX33_enters_11 q1330 q1331 q177 q1332 rfl (by decide +kernel)) rfl (xcP (xok_putfield (ref := "WaysAtlas$Lower") (Or.inr (Or.inr ⟨rfl, by decide, rfl⟩)) dX33_enters_14 (Or.inl ⟨q1252, (Or.inl rfl)⟩) (Or.inl rfl) xh1145) rfl (xcP (xok_aload_n dX33_enters_17 rfl) rfl (xcP (xok_getfield (ref := "WaysAtlas$Lower") (Or.inr ⟨rfl, by decide⟩) dX33_enters_18 (Or.inl ⟨q1252, (Or.inl rfl)⟩) xh1145) rfl (xcR ⟨dX33_enters_21, _, rfl, Or.inl ⟨_, rfl⟩⟩)))))))))))
theorem okM_X33_enters : XOkM xms rX33_enters := xokM0 (List.forall_mem_cons.mpr ⟨⟨rfl, okX33_enters_0⟩, fun _ h => nomatch h⟩) (xokH0 rfl (fun _ _ => rfl)) (by decide +kernel) (by decide)
abbrev cX33_exits : ByteArray := prog_10_method_5_code
def dkwX33_exits_0 : List UInt8 := [42, 42, 180, 0, 32, 180, 0, 39, 181, 0, 32, 177]
abbrev dktX33_exits_0 : List UInt8 := dkwX33_exits_0 ++ []
theorem dksX33_exits_0 : cX33_exits.data.toList.drop 0 = dktX33_exits_0 := by decide +kernel
theorem dX33_exits_0 : decode cX33_exits 0 = .ok (.aload_n 0, 1) := dk_42 (dk_at dksX33_exits_0 0 rfl rfl)
theorem dX33_exits_1 : decode cX33_exits 1 = .ok (.aload_n 0, 1) := dk_42 (dk_at dksX33_exits_0 1 rfl rfl)
theorem dX33_exits_2 : decode cX33_exits 2 = .ok (.getfield 32, 3) := dk_180 0 32 (dk_at dksX33_exits_0 2 rfl rfl)
theorem dX33_exits_5 : decode cX33_exits 5 = .ok (.getfield 39, 3) := dk_180 0 39 (dk_at dksX33_exits_0 5 rfl rfl)
theorem dX33_exits_8 : decode cX33_exits 8 = .ok (.putfield 32, 3) := dk_181 0 32 (dk_at dksX33_exits_0 8 rfl rfl)
theorem dX33_exits_11 : decode cX33_exits 11 = .ok (.return_, 1) := dk_177 (dk_at dksX33_exits_0 11 rfl rfl)
theorem okX33_exits_0 : XOkL xms rX33_exits bX33_exits_0 := xcP (xok_aload_n dX33_exits_0 rfl) rfl (xcP (xok_aload_n dX33_exits_1 rfl) rfl (xcP (xok_getfield (ref := "WaysAtlas$Lower") (Or.inr ⟨rfl, by decide⟩) dX33_exits_2 (Or.inl ⟨q1252, (Or.inl rfl)⟩) xh1145) rfl (xcP (xok_getfield (ref := "WaysAtlas$Scope") (Or.inr ⟨rfl, by decide⟩) dX33_exits_5 (Or.inr ⟨⟨"WaysAtlas", (List.mem_of_getElem? (i := 26) rfl)⟩, (Or.inl rfl)⟩) xh1140) rfl (xcP (xok_putfield (ref := "WaysAtlas$Lower") (Or.inr (Or.inr ⟨rfl, by decide, rfl⟩)) dX33_exits_8 (Or.inl ⟨q1252, (Or.inl rfl)⟩) (Or.inl rfl) xh1145) rfl (xcR ⟨dX33_exits_11, rfl⟩)))))
theorem okM_X33_exits : XOkM xms rX33_exits := xokM0 (List.forall_mem_cons.mpr ⟨⟨rfl, okX33_exits_0⟩, fun _ h => nomatch h⟩) (xokH0 rfl (fun _ _ => rfl)) (by decide +kernel) (by decide)
abbrev cX33_rows : ByteArray := prog_10_method_9_code
def dkwX33_rows_2 : List UInt8 := [167, 255, 214, 42, 21, 7, 29, 21, 4, 21, 5, 21, 6, 182, 0, 70, 177]
abbrev dktX33_rows_2 : List UInt8 := dkwX33_rows_2 ++ []
def dkwX33_rows_1 : List UInt8 := [46, 21, 4, 21, 5, 21, 6, 182, 0, 70, 43, 180, 0, 67, 21, 8, 4, 96, 46, 54, 7, 132, 8, 2]
abbrev dktX33_rows_1 : List UInt8 := dkwX33_rows_1 ++ dktX33_rows_2
def dkwX33_rows_0 : List UInt8 := [28, 54, 7, 3, 54, 8, 21, 8, 43, 180, 0, 64, 162, 0, 39, 42, 21, 7, 43, 180, 0, 67, 21, 8]
abbrev dktX33_rows_0 : List UInt8 := dkwX33_rows_0 ++ dktX33_rows_1
theorem dksX33_rows_0 : cX33_rows.data.toList.drop 0 = dktX33_rows_0 := by decide +kernel
theorem dksX33_rows_1 : cX33_rows.data.toList.drop 24 = dktX33_rows_1 := dk_seg dksX33_rows_0 24 rfl rfl
theorem dksX33_rows_2 : cX33_rows.data.toList.drop 48 = dktX33_rows_2 := dk_seg dksX33_rows_1 24 rfl rfl
theorem dX33_rows_0 : decode cX33_rows 0 = .ok (.iload_n 2, 1) := dk_28 (dk_at dksX33_rows_0 0 rfl rfl)
theorem dX33_rows_1 : decode cX33_rows 1 = .ok (.istore 7, 2) := dk_54 7 (dk_at dksX33_rows_0 1 rfl rfl)
theorem dX33_rows_3 : decode cX33_rows 3 = .ok (.iconst 0, 1) := dk_3 (dk_at dksX33_rows_0 3 rfl rfl)
theorem dX33_rows_4 : decode cX33_rows 4 = .ok (.istore 8, 2) := dk_54 8 (dk_at dksX33_rows_0 4 rfl rfl)
theorem dX33_rows_6 : decode cX33_rows 6 = .ok (.iload 8, 2) := dk_21 8 (dk_at dksX33_rows_0 6 rfl rfl)
theorem dX33_rows_8 : decode cX33_rows 8 = .ok (.aload_n 1, 1) := dk_43 (dk_at dksX33_rows_0 8 rfl rfl)
theorem dX33_rows_9 : decode cX33_rows 9 = .ok (.getfield 64, 3) := dk_180 0 64 (dk_at dksX33_rows_0 9 rfl rfl)
theorem dX33_rows_12 : decode cX33_rows 12 = .ok (.if_icmp .ge 39, 3) := dk_162 0 39 (dk_at dksX33_rows_0 12 rfl rfl)
theorem dX33_rows_15 : decode cX33_rows 15 = .ok (.aload_n 0, 1) := dk_42 (dk_at dksX33_rows_0 15 rfl rfl)
theorem dX33_rows_16 : decode cX33_rows 16 = .ok (.iload 7, 2) := dk_21 7 (dk_at dksX33_rows_0 16 rfl rfl)
theorem dX33_rows_18 : decode cX33_rows 18 = .ok (.aload_n 1, 1) := dk_43 (dk_at dksX33_rows_0 18 rfl rfl)
theorem dX33_rows_19 : decode cX33_rows 19 = .ok (.getfield 67, 3) := dk_180 0 67 (dk_at dksX33_rows_0 19 rfl rfl)
theorem dX33_rows_22 : decode cX33_rows 22 = .ok (.iload 8, 2) := dk_21 8 (dk_at dksX33_rows_0 22 rfl rfl)
theorem dX33_rows_24 : decode cX33_rows 24 = .ok (.iaload, 1) := dk_46 (dk_at dksX33_rows_1 0 rfl rfl)
theorem dX33_rows_25 : decode cX33_rows 25 = .ok (.iload 4, 2) := dk_21 4 (dk_at dksX33_rows_1 1 rfl rfl)
theorem dX33_rows_27 : decode cX33_rows 27 = .ok (.iload 5, 2) := dk_21 5 (dk_at dksX33_rows_1 3 rfl rfl)
theorem dX33_rows_29 : decode cX33_rows 29 = .ok (.iload 6, 2) := dk_21 6 (dk_at dksX33_rows_1 5 rfl rfl)
theorem dX33_rows_31 : decode cX33_rows 31 = .ok (.invokevirtual 70, 3) := dk_182 0 70 (dk_at dksX33_rows_1 7 rfl rfl)
theorem dX33_rows_34 : decode cX33_rows 34 = .ok (.aload_n 1, 1) := dk_43 (dk_at dksX33_rows_1 10 rfl rfl)
theorem dX33_rows_35 : decode cX33_rows 35 = .ok (.getfield 67, 3) := dk_180 0 67 (dk_at dksX33_rows_1 11 rfl rfl)
theorem dX33_rows_38 : decode cX33_rows 38 = .ok (.iload 8, 2) := dk_21 8 (dk_at dksX33_rows_1 14 rfl rfl)
theorem dX33_rows_40 : decode cX33_rows 40 = .ok (.iconst 1, 1) := dk_4 (dk_at dksX33_rows_1 16 rfl rfl)
theorem dX33_rows_41 : decode cX33_rows 41 = .ok (.iadd, 1) := dk_96 (dk_at dksX33_rows_1 17 rfl rfl)
theorem dX33_rows_42 : decode cX33_rows 42 = .ok (.iaload, 1) := dk_46 (dk_at dksX33_rows_1 18 rfl rfl)
theorem dX33_rows_43 : decode cX33_rows 43 = .ok (.istore 7, 2) := dk_54 7 (dk_at dksX33_rows_1 19 rfl rfl)
theorem dX33_rows_45 : decode cX33_rows 45 = .ok (.iinc 8 2, 3) := dk_132 8 2 (dk_at dksX33_rows_1 21 rfl rfl)
theorem dX33_rows_48 : decode cX33_rows 48 = .ok (.goto (-42), 3) := dk_167 255 214 (dk_at dksX33_rows_2 0 rfl rfl)
theorem dX33_rows_51 : decode cX33_rows 51 = .ok (.aload_n 0, 1) := dk_42 (dk_at dksX33_rows_2 3 rfl rfl)
theorem dX33_rows_52 : decode cX33_rows 52 = .ok (.iload 7, 2) := dk_21 7 (dk_at dksX33_rows_2 4 rfl rfl)
theorem dX33_rows_54 : decode cX33_rows 54 = .ok (.iload_n 3, 1) := dk_29 (dk_at dksX33_rows_2 6 rfl rfl)
theorem dX33_rows_55 : decode cX33_rows 55 = .ok (.iload 4, 2) := dk_21 4 (dk_at dksX33_rows_2 7 rfl rfl)
theorem dX33_rows_57 : decode cX33_rows 57 = .ok (.iload 5, 2) := dk_21 5 (dk_at dksX33_rows_2 9 rfl rfl)
theorem dX33_rows_59 : decode cX33_rows 59 = .ok (.iload 6, 2) := dk_21 6 (dk_at dksX33_rows_2 11 rfl rfl)
theorem dX33_rows_61 : decode cX33_rows 61 = .ok (.invokevirtual 70, 3) := dk_182 0 70 (dk_at dksX33_rows_2 13 rfl rfl)
theorem dX33_rows_64 : decode cX33_rows 64 = .ok (.return_, 1) := dk_177 (dk_at dksX33_rows_2 16 rfl rfl)
theorem okX33_rows_0 : XOkL xms rX33_rows bX33_rows_0 := xcP (xok_iload_n dX33_rows_0 rfl) rfl (xcP (xok_istore dX33_rows_1) rfl (xcP (xok_iconst dX33_rows_3 rfl) rfl (xcP (xok_istore dX33_rows_4) rfl (xcP xok_fal rfl trivial))))
theorem okX33_rows_6 : XOkL xms rX33_rows bX33_rows_6 := xcP (xok_iload dX33_rows_6) rfl (xcP (xok_aload_n dX33_rows_8 rfl) rfl (xcP (xok_getfield (ref := "WaysAtlas$Scope") (Or.inl ⟨rfl, by decide⟩) dX33_rows_9 (Or.inr ⟨⟨"WaysAtlas", (List.mem_of_getElem? (i := 27) rfl)⟩, (Or.inl rfl)⟩) xh97) rfl (xcP (xok_icmpge dX33_rows_12 (by decide)) rfl (xcP (xok_aload_n dX33_rows_15 rfl) rfl (xcP (xok_iload dX33_rows_16) rfl (xcP (xok_aload_n dX33_rows_18 rfl) rfl (xcP (xok_getfield (ref := "WaysAtlas$Scope") (Or.inr ⟨rfl, by decide⟩) dX33_rows_19 (Or.inr ⟨⟨"WaysAtlas", (List.mem_of_getElem? (i := 28) rfl)⟩, (Or.inl rfl)⟩) xh1141) rfl (xcP (xok_iload dX33_rows_22) rfl (xcP (xok_iaload dX33_rows_24) rfl (xcP (xok_iload dX33_rows_25) rfl (xcP (xok_iload dX33_rows_27) rfl (xcP (xok_iload dX33_rows_29) rfl (xcC0 (xokc_list (List.forall_mem_cons.mpr ⟨xokc_V (r := (RX33, TX33, 6)) xm283 (List.mem_of_getElem? (i := 30) rfl) (by decide) rfl dX33_rows_31 q1377 q1379 qs36 q179 q1380 (by decide +kernel), fun _ h => nomatch h⟩)) rfl (xcP (xok_aload_n dX33_rows_34 rfl) rfl (xcP (xok_getfield (ref := "WaysAtlas$Scope") (Or.inr ⟨rfl, by decide⟩) dX33_rows_35 (Or.inr ⟨⟨"WaysAtlas", (List.mem_of_getElem? (i := 28) rfl)⟩, (Or.inl rfl)⟩) xh1141) rfl (xcP (xok_iload dX33_rows_38) rfl (xcP (xok_iconst dX33_rows_40 rfl) rfl (xcP (xok_iadd dX33_rows_41) rfl (xcP (xok_iaload dX33_rows_42) rfl (xcP (xok_istore dX33_rows_43) rfl (xcP (xok_iinc dX33_rows_45 rfl) rfl (xcP (xok_goto dX33_rows_48 (by decide)) rfl trivial))))))))))))))))))))))
theorem okX33_rows_51 : XOkL xms rX33_rows bX33_rows_51 := xcP (xok_aload_n dX33_rows_51 rfl) rfl (xcP (xok_iload dX33_rows_52) rfl (xcP (xok_iload_n dX33_rows_54 rfl) rfl (xcP (xok_iload dX33_rows_55) rfl (xcP (xok_iload dX33_rows_57) rfl (xcP (xok_iload dX33_rows_59) rfl (xcC0 (xokc_list (List.forall_mem_cons.mpr ⟨xokc_V (r := (RX33, TX33, 6)) xm283 (List.mem_of_getElem? (i := 30) rfl) (by decide) rfl dX33_rows_61 q1377 q1379 qs36 q179 q1380 (by decide +kernel), fun _ h => nomatch h⟩)) rfl (xcR ⟨dX33_rows_64, rfl⟩)))))))
theorem okM_X33_rows : XOkM xms rX33_rows := xokM0 (List.forall_mem_cons.mpr ⟨⟨rfl, okX33_rows_0⟩, List.forall_mem_cons.mpr ⟨⟨rfl, okX33_rows_6⟩, List.forall_mem_cons.mpr ⟨⟨rfl, okX33_rows_51⟩, fun _ h => nomatch h⟩⟩⟩) (xokH0 rfl (fun _ _ => rfl)) (by decide +kernel) (by decide)
abbrev cX33_row : ByteArray := prog_10_method_8_code
def dkwX33_row_4 : List UInt8 := [42, 89, 180, 0, 61, 4, 96, 181, 0, 61, 177]
abbrev dktX33_row_4 : List UInt8 := dkwX33_row_4 ++ []
def dkwX33_row_3 : List UInt8 := [180, 0, 61, 104, 6, 96, 21, 4, 79, 42, 180, 0, 15, 8, 42, 180, 0, 61, 104, 7, 96, 21, 5, 79]
abbrev dktX33_row_3 : List UInt8 := dkwX33_row_3 ++ dktX33_row_4
def dkwX33_row_2 : List UInt8 := [28, 79, 42, 180, 0, 15, 8, 42, 180, 0, 61, 104, 5, 96, 29, 79, 42, 180, 0, 15, 8, 42]
abbrev dktX33_row_2 : List UInt8 := dkwX33_row_2 ++ dktX33_row_3
def dkwX33_row_1 : List UInt8 := [42, 180, 0, 15, 8, 42, 180, 0, 61, 104, 27, 79, 42, 180, 0, 15, 8, 42, 180, 0, 61, 104, 4, 96]
abbrev dktX33_row_1 : List UInt8 := dkwX33_row_1 ++ dktX33_row_2
def dkwX33_row_0 : List UInt8 := [27, 28, 162, 0, 102, 42, 42, 180, 0, 15, 8, 42, 180, 0, 61, 104, 8, 96, 184, 0, 26, 181, 0, 15]
abbrev dktX33_row_0 : List UInt8 := dkwX33_row_0 ++ dktX33_row_1
theorem dksX33_row_0 : cX33_row.data.toList.drop 0 = dktX33_row_0 := by decide +kernel
theorem dksX33_row_1 : cX33_row.data.toList.drop 24 = dktX33_row_1 := dk_seg dksX33_row_0 24 rfl rfl
theorem dksX33_row_2 : cX33_row.data.toList.drop 48 = dktX33_row_2 := dk_seg dksX33_row_1 24 rfl rfl
theorem dksX33_row_3 : cX33_row.data.toList.drop 70 = dktX33_row_3 := dk_seg dksX33_row_2 22 rfl rfl
theorem dksX33_row_4 : cX33_row.data.toList.drop 94 = dktX33_row_4 := dk_seg dksX33_row_3 24 rfl rfl
theorem dX33_row_0 : decode cX33_row 0 = .ok (.iload_n 1, 1) := dk_27 (dk_at dksX33_row_0 0 rfl rfl)
theorem dX33_row_1 : decode cX33_row 1 = .ok (.iload_n 2, 1) := dk_28 (dk_at dksX33_row_0 1 rfl rfl)
theorem dX33_row_2 : decode cX33_row 2 = .ok (.if_icmp .ge 102, 3) := dk_162 0 102 (dk_at dksX33_row_0 2 rfl rfl)
theorem dX33_row_5 : decode cX33_row 5 = .ok (.aload_n 0, 1) := dk_42 (dk_at dksX33_row_0 5 rfl rfl)
theorem dX33_row_6 : decode cX33_row 6 = .ok (.aload_n 0, 1) := dk_42 (dk_at dksX33_row_0 6 rfl rfl)
theorem dX33_row_7 : decode cX33_row 7 = .ok (.getfield 15, 3) := dk_180 0 15 (dk_at dksX33_row_0 7 rfl rfl)
theorem dX33_row_10 : decode cX33_row 10 = .ok (.iconst 5, 1) := dk_8 (dk_at dksX33_row_0 10 rfl rfl)
theorem dX33_row_11 : decode cX33_row 11 = .ok (.aload_n 0, 1) := dk_42 (dk_at dksX33_row_0 11 rfl rfl)
theorem dX33_row_12 : decode cX33_row 12 = .ok (.getfield 61, 3) := dk_180 0 61 (dk_at dksX33_row_0 12 rfl rfl)
theorem dX33_row_15 : decode cX33_row 15 = .ok (.imul, 1) := dk_104 (dk_at dksX33_row_0 15 rfl rfl)
theorem dX33_row_16 : decode cX33_row 16 = .ok (.iconst 5, 1) := dk_8 (dk_at dksX33_row_0 16 rfl rfl)
theorem dX33_row_17 : decode cX33_row 17 = .ok (.iadd, 1) := dk_96 (dk_at dksX33_row_0 17 rfl rfl)
theorem dX33_row_18 : decode cX33_row 18 = .ok (.invokestatic 26, 3) := dk_184 0 26 (dk_at dksX33_row_0 18 rfl rfl)
theorem dX33_row_21 : decode cX33_row 21 = .ok (.putfield 15, 3) := dk_181 0 15 (dk_at dksX33_row_0 21 rfl rfl)
theorem dX33_row_24 : decode cX33_row 24 = .ok (.aload_n 0, 1) := dk_42 (dk_at dksX33_row_1 0 rfl rfl)
theorem dX33_row_25 : decode cX33_row 25 = .ok (.getfield 15, 3) := dk_180 0 15 (dk_at dksX33_row_1 1 rfl rfl)
theorem dX33_row_28 : decode cX33_row 28 = .ok (.iconst 5, 1) := dk_8 (dk_at dksX33_row_1 4 rfl rfl)
theorem dX33_row_29 : decode cX33_row 29 = .ok (.aload_n 0, 1) := dk_42 (dk_at dksX33_row_1 5 rfl rfl)
theorem dX33_row_30 : decode cX33_row 30 = .ok (.getfield 61, 3) := dk_180 0 61 (dk_at dksX33_row_1 6 rfl rfl)
theorem dX33_row_33 : decode cX33_row 33 = .ok (.imul, 1) := dk_104 (dk_at dksX33_row_1 9 rfl rfl)
theorem dX33_row_34 : decode cX33_row 34 = .ok (.iload_n 1, 1) := dk_27 (dk_at dksX33_row_1 10 rfl rfl)
theorem dX33_row_35 : decode cX33_row 35 = .ok (.iastore, 1) := dk_79 (dk_at dksX33_row_1 11 rfl rfl)
theorem dX33_row_36 : decode cX33_row 36 = .ok (.aload_n 0, 1) := dk_42 (dk_at dksX33_row_1 12 rfl rfl)
theorem dX33_row_37 : decode cX33_row 37 = .ok (.getfield 15, 3) := dk_180 0 15 (dk_at dksX33_row_1 13 rfl rfl)
theorem dX33_row_40 : decode cX33_row 40 = .ok (.iconst 5, 1) := dk_8 (dk_at dksX33_row_1 16 rfl rfl)
theorem dX33_row_41 : decode cX33_row 41 = .ok (.aload_n 0, 1) := dk_42 (dk_at dksX33_row_1 17 rfl rfl)
theorem dX33_row_42 : decode cX33_row 42 = .ok (.getfield 61, 3) := dk_180 0 61 (dk_at dksX33_row_1 18 rfl rfl)
theorem dX33_row_45 : decode cX33_row 45 = .ok (.imul, 1) := dk_104 (dk_at dksX33_row_1 21 rfl rfl)
theorem dX33_row_46 : decode cX33_row 46 = .ok (.iconst 1, 1) := dk_4 (dk_at dksX33_row_1 22 rfl rfl)
theorem dX33_row_47 : decode cX33_row 47 = .ok (.iadd, 1) := dk_96 (dk_at dksX33_row_1 23 rfl rfl)
theorem dX33_row_48 : decode cX33_row 48 = .ok (.iload_n 2, 1) := dk_28 (dk_at dksX33_row_2 0 rfl rfl)
theorem dX33_row_49 : decode cX33_row 49 = .ok (.iastore, 1) := dk_79 (dk_at dksX33_row_2 1 rfl rfl)
theorem dX33_row_50 : decode cX33_row 50 = .ok (.aload_n 0, 1) := dk_42 (dk_at dksX33_row_2 2 rfl rfl)
theorem dX33_row_51 : decode cX33_row 51 = .ok (.getfield 15, 3) := dk_180 0 15 (dk_at dksX33_row_2 3 rfl rfl)
theorem dX33_row_54 : decode cX33_row 54 = .ok (.iconst 5, 1) := dk_8 (dk_at dksX33_row_2 6 rfl rfl)
theorem dX33_row_55 : decode cX33_row 55 = .ok (.aload_n 0, 1) := dk_42 (dk_at dksX33_row_2 7 rfl rfl)
theorem dX33_row_56 : decode cX33_row 56 = .ok (.getfield 61, 3) := dk_180 0 61 (dk_at dksX33_row_2 8 rfl rfl)
theorem dX33_row_59 : decode cX33_row 59 = .ok (.imul, 1) := dk_104 (dk_at dksX33_row_2 11 rfl rfl)
theorem dX33_row_60 : decode cX33_row 60 = .ok (.iconst 2, 1) := dk_5 (dk_at dksX33_row_2 12 rfl rfl)
theorem dX33_row_61 : decode cX33_row 61 = .ok (.iadd, 1) := dk_96 (dk_at dksX33_row_2 13 rfl rfl)
theorem dX33_row_62 : decode cX33_row 62 = .ok (.iload_n 3, 1) := dk_29 (dk_at dksX33_row_2 14 rfl rfl)
theorem dX33_row_63 : decode cX33_row 63 = .ok (.iastore, 1) := dk_79 (dk_at dksX33_row_2 15 rfl rfl)
theorem dX33_row_64 : decode cX33_row 64 = .ok (.aload_n 0, 1) := dk_42 (dk_at dksX33_row_2 16 rfl rfl)
theorem dX33_row_65 : decode cX33_row 65 = .ok (.getfield 15, 3) := dk_180 0 15 (dk_at dksX33_row_2 17 rfl rfl)
theorem dX33_row_68 : decode cX33_row 68 = .ok (.iconst 5, 1) := dk_8 (dk_at dksX33_row_2 20 rfl rfl)
theorem dX33_row_69 : decode cX33_row 69 = .ok (.aload_n 0, 1) := dk_42 (dk_at dksX33_row_2 21 rfl rfl)
theorem dX33_row_70 : decode cX33_row 70 = .ok (.getfield 61, 3) := dk_180 0 61 (dk_at dksX33_row_3 0 rfl rfl)
theorem dX33_row_73 : decode cX33_row 73 = .ok (.imul, 1) := dk_104 (dk_at dksX33_row_3 3 rfl rfl)
theorem dX33_row_74 : decode cX33_row 74 = .ok (.iconst 3, 1) := dk_6 (dk_at dksX33_row_3 4 rfl rfl)
theorem dX33_row_75 : decode cX33_row 75 = .ok (.iadd, 1) := dk_96 (dk_at dksX33_row_3 5 rfl rfl)
theorem dX33_row_76 : decode cX33_row 76 = .ok (.iload 4, 2) := dk_21 4 (dk_at dksX33_row_3 6 rfl rfl)
theorem dX33_row_78 : decode cX33_row 78 = .ok (.iastore, 1) := dk_79 (dk_at dksX33_row_3 8 rfl rfl)
theorem dX33_row_79 : decode cX33_row 79 = .ok (.aload_n 0, 1) := dk_42 (dk_at dksX33_row_3 9 rfl rfl)
theorem dX33_row_80 : decode cX33_row 80 = .ok (.getfield 15, 3) := dk_180 0 15 (dk_at dksX33_row_3 10 rfl rfl)
theorem dX33_row_83 : decode cX33_row 83 = .ok (.iconst 5, 1) := dk_8 (dk_at dksX33_row_3 13 rfl rfl)
theorem dX33_row_84 : decode cX33_row 84 = .ok (.aload_n 0, 1) := dk_42 (dk_at dksX33_row_3 14 rfl rfl)
theorem dX33_row_85 : decode cX33_row 85 = .ok (.getfield 61, 3) := dk_180 0 61 (dk_at dksX33_row_3 15 rfl rfl)
theorem dX33_row_88 : decode cX33_row 88 = .ok (.imul, 1) := dk_104 (dk_at dksX33_row_3 18 rfl rfl)
theorem dX33_row_89 : decode cX33_row 89 = .ok (.iconst 4, 1) := dk_7 (dk_at dksX33_row_3 19 rfl rfl)
theorem dX33_row_90 : decode cX33_row 90 = .ok (.iadd, 1) := dk_96 (dk_at dksX33_row_3 20 rfl rfl)
theorem dX33_row_91 : decode cX33_row 91 = .ok (.iload 5, 2) := dk_21 5 (dk_at dksX33_row_3 21 rfl rfl)
theorem dX33_row_93 : decode cX33_row 93 = .ok (.iastore, 1) := dk_79 (dk_at dksX33_row_3 23 rfl rfl)
theorem dX33_row_94 : decode cX33_row 94 = .ok (.aload_n 0, 1) := dk_42 (dk_at dksX33_row_4 0 rfl rfl)
theorem dX33_row_95 : decode cX33_row 95 = .ok (.dup, 1) := dk_89 (dk_at dksX33_row_4 1 rfl rfl)
theorem dX33_row_96 : decode cX33_row 96 = .ok (.getfield 61, 3) := dk_180 0 61 (dk_at dksX33_row_4 2 rfl rfl)
theorem dX33_row_99 : decode cX33_row 99 = .ok (.iconst 1, 1) := dk_4 (dk_at dksX33_row_4 5 rfl rfl)
theorem dX33_row_100 : decode cX33_row 100 = .ok (.iadd, 1) := dk_96 (dk_at dksX33_row_4 6 rfl rfl)
theorem dX33_row_101 : decode cX33_row 101 = .ok (.putfield 61, 3) := dk_181 0 61 (dk_at dksX33_row_4 7 rfl rfl)
theorem dX33_row_104 : decode cX33_row 104 = .ok (.return_, 1) := dk_177 (dk_at dksX33_row_4 10 rfl rfl)
theorem okX33_row_0 : XOkL xms rX33_row bX33_row_0 := xcP (xok_iload_n dX33_row_0 rfl) rfl (xcP (xok_iload_n dX33_row_1 rfl) rfl (xcP (xok_icmpge dX33_row_2 (by decide)) rfl (xcP (xok_aload_n dX33_row_5 rfl) rfl (xcP (xok_aload_n dX33_row_6 rfl) rfl (xcP (xok_getfield (ref := "WaysAtlas$Lower") (Or.inr ⟨rfl, by decide⟩) dX33_row_7 (Or.inl ⟨q1247, (Or.inl rfl)⟩) xh1144) rfl (xcP (xok_iconst dX33_row_10 rfl) rfl (xcP (xok_aload_n dX33_row_11 rfl) rfl (xcP (xok_getfield (ref := "WaysAtlas$Lower") (Or.inl ⟨rfl, by decide⟩) dX33_row_12 (Or.inl ⟨q1250, (Or.inl rfl)⟩) xh101) rfl (xcP (xok_imul dX33_row_15) rfl (xcP (xok_iconst dX33_row_16 rfl) rfl (xcP (xok_iadd dX33_row_17) rfl (xcC0 (xokc_SN (host := "WaysAtlas") xm267 rfl dX33_row_18 (List.mem_of_getElem? (i := 4) rfl) q1226 q177 q1227 (by decide +kernel)) rfl (xcP (xok_putfield (ref := "WaysAtlas$Lower") (Or.inr (Or.inr ⟨rfl, by decide, rfl⟩)) dX33_row_21 (Or.inl ⟨q1247, (Or.inl rfl)⟩) (Or.inl rfl) xh1144) rfl (xcP (xok_aload_n dX33_row_24 rfl) rfl (xcP (xok_getfield (ref := "WaysAtlas$Lower") (Or.inr ⟨rfl, by decide⟩) dX33_row_25 (Or.inl ⟨q1247, (Or.inl rfl)⟩) xh1144) rfl (xcP (xok_iconst dX33_row_28 rfl) rfl (xcP (xok_aload_n dX33_row_29 rfl) rfl (xcP (xok_getfield (ref := "WaysAtlas$Lower") (Or.inl ⟨rfl, by decide⟩) dX33_row_30 (Or.inl ⟨q1250, (Or.inl rfl)⟩) xh101) rfl (xcP (xok_imul dX33_row_33) rfl (xcP (xok_iload_n dX33_row_34 rfl) rfl (xcP (xok_iastore dX33_row_35) rfl (xcP (xok_aload_n dX33_row_36 rfl) rfl (xcP (xok_getfield (ref := "WaysAtlas$Lower") (Or.inr ⟨rfl, by decide⟩) dX33_row_37 (Or.inl ⟨q1247, (Or.inl rfl)⟩) xh1144) rfl (xcP (xok_iconst dX33_row_40 rfl) rfl (xcP (xok_aload_n dX33_row_41 rfl) rfl (xcP (xok_getfield (ref := "WaysAtlas$Lower") (Or.inl ⟨rfl, by decide⟩) dX33_row_42 (Or.inl ⟨q1250, (Or.inl rfl)⟩) xh101) rfl (xcP (xok_imul dX33_row_45) rfl (xcP (xok_iconst dX33_row_46 rfl) rfl (xcP (xok_iadd dX33_row_47) rfl (xcP (xok_iload_n dX33_row_48 rfl) rfl (xcP (xok_iastore dX33_row_49) rfl (xcP (xok_aload_n dX33_row_50 rfl) rfl (xcP (xok_getfield (ref := "WaysAtlas$Lower") (Or.inr ⟨rfl, by decide⟩) dX33_row_51 (Or.inl ⟨q1247, (Or.inl rfl)⟩) xh1144) rfl (xcP (xok_iconst dX33_row_54 rfl) rfl (xcP (xok_aload_n dX33_row_55 rfl) rfl (xcP (xok_getfield (ref := "WaysAtlas$Lower") (Or.inl ⟨rfl, by decide⟩) dX33_row_56 (Or.inl ⟨q1250, (Or.inl rfl)⟩) xh101) rfl (xcP (xok_imul dX33_row_59) rfl (xcP (xok_iconst dX33_row_60 rfl) rfl (xcP (xok_iadd dX33_row_61) rfl (xcP (xok_iload_n dX33_row_62 rfl) rfl (xcP (xok_iastore dX33_row_63) rfl (xcP (xok_aload_n dX33_row_64 rfl) rfl (xcP (xok_getfield (ref := "WaysAtlas$Lower") (Or.inr ⟨rfl, by decide⟩) dX33_row_65 (Or.inl ⟨q1247, (Or.inl rfl)⟩) xh1144) rfl (xcP (xok_iconst dX33_row_68 rfl) rfl (xcP (xok_aload_n dX33_row_69 rfl) rfl (xcP (xok_getfield (ref := "WaysAtlas$Lower") (Or.inl ⟨rfl, by decide⟩) dX33_row_70 (Or.inl ⟨q1250, (Or.inl rfl)⟩) xh101) rfl (xcP (xok_imul dX33_row_73) rfl (xcP (xok_iconst dX33_row_74 rfl) rfl (xcP (xok_iadd dX33_row_75) rfl (xcP (xok_iload dX33_row_76) rfl (xcP (xok_iastore dX33_row_78) rfl (xcP (xok_aload_n dX33_row_79 rfl) rfl (xcP (xok_getfield (ref := "WaysAtlas$Lower") (Or.inr ⟨rfl, by decide⟩) dX33_row_80 (Or.inl ⟨q1247, (Or.inl rfl)⟩) xh1144) rfl (xcP (xok_iconst dX33_row_83 rfl) rfl (xcP (xok_aload_n dX33_row_84 rfl) rfl (xcP (xok_getfield (ref := "WaysAtlas$Lower") (Or.inl ⟨rfl, by decide⟩) dX33_row_85 (Or.inl ⟨q1250, (Or.inl rfl)⟩) xh101) rfl (xcP (xok_imul dX33_row_88) rfl (xcP (xok_iconst dX33_row_89 rfl) rfl (xcP (xok_iadd dX33_row_90) rfl (xcP (xok_iload dX33_row_91) rfl (xcP (xok_iastore dX33_row_93) rfl (xcP (xok_aload_n dX33_row_94 rfl) rfl (xcP (xok_dup dX33_row_95) rfl (xcP (xok_getfield (ref := "WaysAtlas$Lower") (Or.inl ⟨rfl, by decide⟩) dX33_row_96 (Or.inl ⟨q1250, (Or.inl rfl)⟩) xh101) rfl (xcP (xok_iconst dX33_row_99 rfl) rfl (xcP (xok_iadd dX33_row_100) rfl (xcP (xok_putfield (ref := "WaysAtlas$Lower") (Or.inl ⟨rfl, by decide, rfl⟩) dX33_row_101 (Or.inl ⟨q1250, (Or.inl rfl)⟩) (Or.inl rfl) xh101) rfl (xcP xok_fal rfl trivial))))))))))))))))))))))))))))))))))))))))))))))))))))))))))))))))))))
theorem okX33_row_104 : XOkL xms rX33_row bX33_row_104 := xcR ⟨dX33_row_104, rfl⟩
theorem okM_X33_row : XOkM xms rX33_row := xokM0 (List.forall_mem_cons.mpr ⟨⟨rfl, okX33_row_0⟩, List.forall_mem_cons.mpr ⟨⟨rfl, okX33_row_104⟩, fun _ h => nomatch h⟩⟩) (xokH0 rfl (fun _ _ => rfl)) (by decide +kernel) (by decide)
abbrev cX33_lands : ByteArray := prog_10_method_3_code
def dkwX33_lands_0 : List UInt8 := [42, 180, 0, 9, 6, 27, 104, 5, 96, 28, 79, 177]
abbrev dktX33_lands_0 : List UInt8 := dkwX33_lands_0 ++ []
theorem dksX33_lands_0 : cX33_lands.data.toList.drop 0 = dktX33_lands_0 := by decide +kernel
theorem dX33_lands_0 : decode cX33_lands 0 = .ok (.aload_n 0, 1) := dk_42 (dk_at dksX33_lands_0 0 rfl rfl)
theorem dX33_lands_1 : decode cX33_lands 1 = .ok (.getfield 9, 3) := dk_180 0 9 (dk_at dksX33_lands_0 1 rfl rfl)
theorem dX33_lands_4 : decode cX33_lands 4 = .ok (.iconst 3, 1) := dk_6 (dk_at dksX33_lands_0 4 rfl rfl)
theorem dX33_lands_5 : decode cX33_lands 5 = .ok (.iload_n 1, 1) := dk_27 (dk_at dksX33_lands_0 5 rfl rfl)
theorem dX33_lands_6 : decode cX33_lands 6 = .ok (.imul, 1) := dk_104 (dk_at dksX33_lands_0 6 rfl rfl)
theorem dX33_lands_7 : decode cX33_lands 7 = .ok (.iconst 2, 1) := dk_5 (dk_at dksX33_lands_0 7 rfl rfl)
theorem dX33_lands_8 : decode cX33_lands 8 = .ok (.iadd, 1) := dk_96 (dk_at dksX33_lands_0 8 rfl rfl)
theorem dX33_lands_9 : decode cX33_lands 9 = .ok (.iload_n 2, 1) := dk_28 (dk_at dksX33_lands_0 9 rfl rfl)
theorem dX33_lands_10 : decode cX33_lands 10 = .ok (.iastore, 1) := dk_79 (dk_at dksX33_lands_0 10 rfl rfl)
theorem dX33_lands_11 : decode cX33_lands 11 = .ok (.return_, 1) := dk_177 (dk_at dksX33_lands_0 11 rfl rfl)
theorem okX33_lands_0 : XOkL xms rX33_lands bX33_lands_0 := xcP (xok_aload_n dX33_lands_0 rfl) rfl (xcP (xok_getfield (ref := "WaysAtlas$Lower") (Or.inr ⟨rfl, by decide⟩) dX33_lands_1 (Or.inl ⟨q1242, (Or.inl rfl)⟩) xh1143) rfl (xcP (xok_iconst dX33_lands_4 rfl) rfl (xcP (xok_iload_n dX33_lands_5 rfl) rfl (xcP (xok_imul dX33_lands_6) rfl (xcP (xok_iconst dX33_lands_7 rfl) rfl (xcP (xok_iadd dX33_lands_8) rfl (xcP (xok_iload_n dX33_lands_9 rfl) rfl (xcP (xok_iastore dX33_lands_10) rfl (xcR ⟨dX33_lands_11, rfl⟩)))))))))
theorem okM_X33_lands : XOkM xms rX33_lands := xokM0 (List.forall_mem_cons.mpr ⟨⟨rfl, okX33_lands_0⟩, fun _ h => nomatch h⟩) (xokH0 rfl (fun _ _ => rfl)) (by decide +kernel) (by decide)
