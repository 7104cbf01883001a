set_option maxRecDepth 100000
abbrev cX0_init : ByteArray := prog_1_method_3_code
def dkwX0_init_2 : List UInt8 := [183, 0, 56, 181, 0, 57, 42, 187, 0, 54, 89, 183, 0, 56, 181, 0, 61, 42, 182, 0, 64, 177]
abbrev dktX0_init_2 : List UInt8 := dkwX0_init_2 ++ []
def dkwX0_init_1 : List UInt8 := [183, 0, 40, 181, 0, 43, 42, 187, 0, 47, 89, 183, 0, 49, 181, 0, 50, 42, 187, 0, 54, 89]
abbrev dktX0_init_1 : List UInt8 := dkwX0_init_1 ++ dktX0_init_2
def dkwX0_init_0 : List UInt8 := [42, 183, 0, 26, 42, 187, 0, 31, 89, 183, 0, 33, 181, 0, 34, 42, 187, 0, 38, 89, 42, 180, 0, 34]
abbrev dktX0_init_0 : List UInt8 := dkwX0_init_0 ++ dktX0_init_1
theorem dksX0_init_0 : cX0_init.data.toList.drop 0 = dktX0_init_0 := by decide +kernel
theorem dksX0_init_1 : cX0_init.data.toList.drop 24 = dktX0_init_1 := dk_seg dksX0_init_0 24 rfl rfl
theorem dksX0_init_2 : cX0_init.data.toList.drop 46 = dktX0_init_2 := dk_seg dksX0_init_1 22 rfl rfl
theorem dX0_init_0 : decode cX0_init 0 = .ok (.aload_n 0, 1) := dk_42 (dk_at dksX0_init_0 0 rfl rfl)
theorem dX0_init_1 : decode cX0_init 1 = .ok (.invokespecial 26, 3) := dk_183 0 26 (dk_at dksX0_init_0 1 rfl rfl)
theorem dX0_init_4 : decode cX0_init 4 = .ok (.aload_n 0, 1) := dk_42 (dk_at dksX0_init_0 4 rfl rfl)
theorem dX0_init_5 : decode cX0_init 5 = .ok (.new 31, 3) := dk_187 0 31 (dk_at dksX0_init_0 5 rfl rfl)
theorem dX0_init_8 : decode cX0_init 8 = .ok (.dup, 1) := dk_89 (dk_at dksX0_init_0 8 rfl rfl)
theorem dX0_init_9 : decode cX0_init 9 = .ok (.invokespecial 33, 3) := dk_183 0 33 (dk_at dksX0_init_0 9 rfl rfl)
theorem dX0_init_12 : decode cX0_init 12 = .ok (.putfield 34, 3) := dk_181 0 34 (dk_at dksX0_init_0 12 rfl rfl)
theorem dX0_init_15 : decode cX0_init 15 = .ok (.aload_n 0, 1) := dk_42 (dk_at dksX0_init_0 15 rfl rfl)
theorem dX0_init_16 : decode cX0_init 16 = .ok (.new 38, 3) := dk_187 0 38 (dk_at dksX0_init_0 16 rfl rfl)
theorem dX0_init_19 : decode cX0_init 19 = .ok (.dup, 1) := dk_89 (dk_at dksX0_init_0 19 rfl rfl)
theorem dX0_init_20 : decode cX0_init 20 = .ok (.aload_n 0, 1) := dk_42 (dk_at dksX0_init_0 20 rfl rfl)
theorem dX0_init_21 : decode cX0_init 21 = .ok (.getfield 34, 3) := dk_180 0 34 (dk_at dksX0_init_0 21 rfl rfl)
theorem dX0_init_24 : decode cX0_init 24 = .ok (.invokespecial 40, 3) := dk_183 0 40 (dk_at dksX0_init_1 0 rfl rfl)
theorem dX0_init_27 : decode cX0_init 27 = .ok (.putfield 43, 3) := dk_181 0 43 (dk_at dksX0_init_1 3 rfl rfl)
theorem dX0_init_30 : decode cX0_init 30 = .ok (.aload_n 0, 1) := dk_42 (dk_at dksX0_init_1 6 rfl rfl)
theorem dX0_init_31 : decode cX0_init 31 = .ok (.new 47, 3) := dk_187 0 47 (dk_at dksX0_init_1 7 rfl rfl)
theorem dX0_init_34 : decode cX0_init 34 = .ok (.dup, 1) := dk_89 (dk_at dksX0_init_1 10 rfl rfl)
theorem dX0_init_35 : decode cX0_init 35 = .ok (.invokespecial 49, 3) := dk_183 0 49 (dk_at dksX0_init_1 11 rfl rfl)
theorem dX0_init_38 : decode cX0_init 38 = .ok (.putfield 50, 3) := dk_181 0 50 (dk_at dksX0_init_1 14 rfl rfl)
theorem dX0_init_41 : decode cX0_init 41 = .ok (.aload_n 0, 1) := dk_42 (dk_at dksX0_init_1 17 rfl rfl)
theorem dX0_init_42 : decode cX0_init 42 = .ok (.new 54, 3) := dk_187 0 54 (dk_at dksX0_init_1 18 rfl rfl)
theorem dX0_init_45 : decode cX0_init 45 = .ok (.dup, 1) := dk_89 (dk_at dksX0_init_1 21 rfl rfl)
theorem dX0_init_46 : decode cX0_init 46 = .ok (.invokespecial 56, 3) := dk_183 0 56 (dk_at dksX0_init_2 0 rfl rfl)
theorem dX0_init_49 : decode cX0_init 49 = .ok (.putfield 57, 3) := dk_181 0 57 (dk_at dksX0_init_2 3 rfl rfl)
theorem dX0_init_52 : decode cX0_init 52 = .ok (.aload_n 0, 1) := dk_42 (dk_at dksX0_init_2 6 rfl rfl)
theorem dX0_init_53 : decode cX0_init 53 = .ok (.new 54, 3) := dk_187 0 54 (dk_at dksX0_init_2 7 rfl rfl)
theorem dX0_init_56 : decode cX0_init 56 = .ok (.dup, 1) := dk_89 (dk_at dksX0_init_2 10 rfl rfl)
theorem dX0_init_57 : decode cX0_init 57 = .ok (.invokespecial 56, 3) := dk_183 0 56 (dk_at dksX0_init_2 11 rfl rfl)
theorem dX0_init_60 : decode cX0_init 60 = .ok (.putfield 61, 3) := dk_181 0 61 (dk_at dksX0_init_2 14 rfl rfl)
theorem dX0_init_63 : decode cX0_init 63 = .ok (.aload_n 0, 1) := dk_42 (dk_at dksX0_init_2 17 rfl rfl)
theorem dX0_init_64 : decode cX0_init 64 = .ok (.invokevirtual 64, 3) := dk_182 0 64 (dk_at dksX0_init_2 18 rfl rfl)
theorem dX0_init_67 : decode cX0_init 67 = .ok (.return_, 1) := dk_177 (dk_at dksX0_init_2 21 rfl rfl)
theorem okX0_init_0 : XOkL xms rX0_init bX0_init_0 := xcP (xok_aload_n dX0_init_0 rfl) rfl (xcP (xok_objInit dX0_init_1 q185 q186 q187) rfl (xcP (xok_aload_n dX0_init_4 rfl) rfl (xcP (xok_new (r := (RX1, TX1, 7)) (List.mem_of_getElem? (i := 1) rfl) rfl (by decide) dX0_init_5 q188 q189 q139) rfl (xcP (xok_dup dX0_init_8) rfl (xcC0 (xokc_IN (host := "WaysAtlas") xm30 rfl rfl dX0_init_9 (List.mem_of_getElem? (i := 14) rfl) q191 q139 q192 rfl (by decide +kernel)) rfl (xcP (xok_putfield (ref := "WaysAtlas") (Or.inr (Or.inr ⟨rfl, by decide, rfl⟩)) dX0_init_12 (Or.inl ⟨q645, (Or.inl rfl)⟩) (Or.inr ⟨rfl, rfl, ⟨q645, (Or.inl rfl)⟩⟩) xh1001) rfl (xcP (xok_aload_n dX0_init_15 rfl) rfl (xcP (xok_new (r := (RX2, TX2, 13)) (List.mem_of_getElem? (i := 2) rfl) rfl (by decide) dX0_init_16 q223 q224 q140) rfl (xcP (xok_dup dX0_init_19) rfl (xcP (xok_aload_n dX0_init_20 rfl) rfl (xcP (xok_getfield (ref := "WaysAtlas") (Or.inr ⟨rfl, by decide⟩) dX0_init_21 (Or.inl ⟨q645, (Or.inl rfl)⟩) xh1001) rfl (xcC0 (xokc_I xm39 rfl rfl dX0_init_24 q225 q226 q140 q227 rfl (by decide +kernel)) rfl (xcP (xok_putfield (ref := "WaysAtlas") (Or.inr (Or.inr ⟨rfl, by decide, rfl⟩)) dX0_init_27 (Or.inl ⟨q646, (Or.inl rfl)⟩) (Or.inr ⟨rfl, rfl, ⟨q646, (Or.inl rfl)⟩⟩) xh1002) rfl (xcP (xok_aload_n dX0_init_30 rfl) rfl (xcP (xok_new (r := (RX3, TX3, 10)) (List.mem_of_getElem? (i := 3) rfl) rfl (by decide) dX0_init_31 q271 q272 q141) rfl (xcP (xok_dup dX0_init_34) rfl (xcC0 (xokc_I xm67 rfl rfl dX0_init_35 q273 q274 q141 q275 rfl (by decide +kernel)) rfl (xcP (xok_putfield (ref := "WaysAtlas") (Or.inr (Or.inr ⟨rfl, by decide, rfl⟩)) dX0_init_38 (Or.inl ⟨q647, (Or.inl rfl)⟩) (Or.inl rfl) xh1003) rfl (xcP (xok_aload_n dX0_init_41 rfl) rfl (xcP (xok_new (r := (RX4, TX4, 4)) (List.mem_of_getElem? (i := 4) rfl) rfl (by decide) dX0_init_42 q329 q330 q142) rfl (xcP (xok_dup dX0_init_45) rfl (xcC0 (xokc_IN (host := "WaysAtlas") xm77 rfl rfl dX0_init_46 (List.mem_of_getElem? (i := 15) rfl) q332 q142 q333 rfl (by decide +kernel)) rfl (xcP (xok_putfield (ref := "WaysAtlas") (Or.inr (Or.inr ⟨rfl, by decide, rfl⟩)) dX0_init_49 (Or.inl ⟨q649, (Or.inl rfl)⟩) (Or.inl rfl) xh1004) rfl (xcP (xok_aload_n dX0_init_52 rfl) rfl (xcP (xok_new (r := (RX4, TX4, 4)) (List.mem_of_getElem? (i := 4) rfl) rfl (by decide) dX0_init_53 q329 q330 q142) rfl (xcP (xok_dup dX0_init_56) rfl (xcC0 (xokc_IN (host := "WaysAtlas") xm77 rfl rfl dX0_init_57 (List.mem_of_getElem? (i := 15) rfl) q332 q142 q333 rfl (by decide +kernel)) rfl (xcP (xok_putfield (ref := "WaysAtlas") (Or.inr (Or.inr ⟨rfl, by decide, rfl⟩)) dX0_init_60 (Or.inl ⟨q650, (Or.inl rfl)⟩) (Or.inr ⟨rfl, rfl, ⟨q650, (Or.inl rfl)⟩⟩) xh1005) rfl (xcP (xok_aload_n dX0_init_63 rfl) rfl (xcC0 (xokc_list (List.forall_mem_cons.mpr ⟨xokc_V (r := (RX0, TX0, 10)) xm1 (List.mem_of_getElem? (i := 0) rfl) (by decide) rfl dX0_init_64 q352 q354 qs0 q138 q355 (by decide +kernel), fun _ h => nomatch h⟩)) rfl (xcR ⟨dX0_init_67, rfl⟩)))))))))))))))))))))))))))))))
theorem okM_X0_init : XOkM xms rX0_init := xokM0 (List.forall_mem_cons.mpr ⟨⟨rfl, okX0_init_0⟩, fun _ h => nomatch h⟩) (xokH0 rfl (fun _ _ => rfl)) (by decide +kernel) (by decide)
abbrev cX0_renews : ByteArray := prog_1_method_4_code
def dkwX0_renews_5 : List UInt8 := [42, 180, 0, 67, 16, 247, 181, 0, 83, 42, 180, 0, 74, 16, 247, 181, 0, 83, 177]
abbrev dktX0_renews_5 : List UInt8 := dkwX0_renews_5 ++ []
def dkwX0_renews_4 : List UInt8 := [199, 0, 17, 187, 0, 4, 89, 42, 180, 0, 57, 183, 0, 71, 167, 0, 7, 42, 180, 0, 80, 181, 0, 80]
abbrev dktX0_renews_4 : List UInt8 := dkwX0_renews_4 ++ dktX0_renews_5
def dkwX0_renews_3 : List UInt8 := [89, 42, 180, 0, 57, 183, 0, 71, 167, 0, 7, 42, 180, 0, 77, 181, 0, 77, 42, 42, 180, 0, 80]
abbrev dktX0_renews_3 : List UInt8 := dkwX0_renews_3 ++ dktX0_renews_4
def dkwX0_renews_2 : List UInt8 := [183, 0, 71, 167, 0, 7, 42, 180, 0, 74, 181, 0, 74, 42, 42, 180, 0, 77, 199, 0, 17, 187, 0, 4]
abbrev dktX0_renews_2 : List UInt8 := dkwX0_renews_2 ++ dktX0_renews_3
def dkwX0_renews_1 : List UInt8 := [180, 0, 67, 181, 0, 67, 42, 42, 180, 0, 74, 199, 0, 17, 187, 0, 4, 89, 42, 180, 0, 57]
abbrev dktX0_renews_1 : List UInt8 := dkwX0_renews_1 ++ dktX0_renews_2
def dkwX0_renews_0 : List UInt8 := [42, 42, 180, 0, 67, 199, 0, 17, 187, 0, 4, 89, 42, 180, 0, 57, 183, 0, 71, 167, 0, 7, 42]
abbrev dktX0_renews_0 : List UInt8 := dkwX0_renews_0 ++ dktX0_renews_1
theorem dksX0_renews_0 : cX0_renews.data.toList.drop 0 = dktX0_renews_0 := by decide +kernel
theorem dksX0_renews_1 : cX0_renews.data.toList.drop 23 = dktX0_renews_1 := dk_seg dksX0_renews_0 23 rfl rfl
theorem dksX0_renews_2 : cX0_renews.data.toList.drop 45 = dktX0_renews_2 := dk_seg dksX0_renews_1 22 rfl rfl
theorem dksX0_renews_3 : cX0_renews.data.toList.drop 69 = dktX0_renews_3 := dk_seg dksX0_renews_2 24 rfl rfl
theorem dksX0_renews_4 : cX0_renews.data.toList.drop 92 = dktX0_renews_4 := dk_seg dksX0_renews_3 23 rfl rfl
theorem dksX0_renews_5 : cX0_renews.data.toList.drop 116 = dktX0_renews_5 := dk_seg dksX0_renews_4 24 rfl rfl
theorem dX0_renews_0 : decode cX0_renews 0 = .ok (.aload_n 0, 1) := dk_42 (dk_at dksX0_renews_0 0 rfl rfl)
theorem dX0_renews_1 : decode cX0_renews 1 = .ok (.aload_n 0, 1) := dk_42 (dk_at dksX0_renews_0 1 rfl rfl)
theorem dX0_renews_2 : decode cX0_renews 2 = .ok (.getfield 67, 3) := dk_180 0 67 (dk_at dksX0_renews_0 2 rfl rfl)
theorem dX0_renews_5 : decode cX0_renews 5 = .ok (.ifnonnull 17, 3) := dk_199 0 17 (dk_at dksX0_renews_0 5 rfl rfl)
theorem dX0_renews_8 : decode cX0_renews 8 = .ok (.new 4, 3) := dk_187 0 4 (dk_at dksX0_renews_0 8 rfl rfl)
theorem dX0_renews_11 : decode cX0_renews 11 = .ok (.dup, 1) := dk_89 (dk_at dksX0_renews_0 11 rfl rfl)
theorem dX0_renews_12 : decode cX0_renews 12 = .ok (.aload_n 0, 1) := dk_42 (dk_at dksX0_renews_0 12 rfl rfl)
theorem dX0_renews_13 : decode cX0_renews 13 = .ok (.getfield 57, 3) := dk_180 0 57 (dk_at dksX0_renews_0 13 rfl rfl)
theorem dX0_renews_16 : decode cX0_renews 16 = .ok (.invokespecial 71, 3) := dk_183 0 71 (dk_at dksX0_renews_0 16 rfl rfl)
theorem dX0_renews_19 : decode cX0_renews 19 = .ok (.goto 7, 3) := dk_167 0 7 (dk_at dksX0_renews_0 19 rfl rfl)
theorem dX0_renews_22 : decode cX0_renews 22 = .ok (.aload_n 0, 1) := dk_42 (dk_at dksX0_renews_0 22 rfl rfl)
theorem dX0_renews_23 : decode cX0_renews 23 = .ok (.getfield 67, 3) := dk_180 0 67 (dk_at dksX0_renews_1 0 rfl rfl)
theorem dX0_renews_26 : decode cX0_renews 26 = .ok (.putfield 67, 3) := dk_181 0 67 (dk_at dksX0_renews_1 3 rfl rfl)
theorem dX0_renews_29 : decode cX0_renews 29 = .ok (.aload_n 0, 1) := dk_42 (dk_at dksX0_renews_1 6 rfl rfl)
theorem dX0_renews_30 : decode cX0_renews 30 = .ok (.aload_n 0, 1) := dk_42 (dk_at dksX0_renews_1 7 rfl rfl)
theorem dX0_renews_31 : decode cX0_renews 31 = .ok (.getfield 74, 3) := dk_180 0 74 (dk_at dksX0_renews_1 8 rfl rfl)
theorem dX0_renews_34 : decode cX0_renews 34 = .ok (.ifnonnull 17, 3) := dk_199 0 17 (dk_at dksX0_renews_1 11 rfl rfl)
theorem dX0_renews_37 : decode cX0_renews 37 = .ok (.new 4, 3) := dk_187 0 4 (dk_at dksX0_renews_1 14 rfl rfl)
theorem dX0_renews_40 : decode cX0_renews 40 = .ok (.dup, 1) := dk_89 (dk_at dksX0_renews_1 17 rfl rfl)
theorem dX0_renews_41 : decode cX0_renews 41 = .ok (.aload_n 0, 1) := dk_42 (dk_at dksX0_renews_1 18 rfl rfl)
theorem dX0_renews_42 : decode cX0_renews 42 = .ok (.getfield 57, 3) := dk_180 0 57 (dk_at dksX0_renews_1 19 rfl rfl)
theorem dX0_renews_45 : decode cX0_renews 45 = .ok (.invokespecial 71, 3) := dk_183 0 71 (dk_at dksX0_renews_2 0 rfl rfl)
theorem dX0_renews_48 : decode cX0_renews 48 = .ok (.goto 7, 3) := dk_167 0 7 (dk_at dksX0_renews_2 3 rfl rfl)
theorem dX0_renews_51 : decode cX0_renews 51 = .ok (.aload_n 0, 1) := dk_42 (dk_at dksX0_renews_2 6 rfl rfl)
theorem dX0_renews_52 : decode cX0_renews 52 = .ok (.getfield 74, 3) := dk_180 0 74 (dk_at dksX0_renews_2 7 rfl rfl)
theorem dX0_renews_55 : decode cX0_renews 55 = .ok (.putfield 74, 3) := dk_181 0 74 (dk_at dksX0_renews_2 10 rfl rfl)
theorem dX0_renews_58 : decode cX0_renews 58 = .ok (.aload_n 0, 1) := dk_42 (dk_at dksX0_renews_2 13 rfl rfl)
theorem dX0_renews_59 : decode cX0_renews 59 = .ok (.aload_n 0, 1) := dk_42 (dk_at dksX0_renews_2 14 rfl rfl)
theorem dX0_renews_60 : decode cX0_renews 60 = .ok (.getfield 77, 3) := dk_180 0 77 (dk_at dksX0_renews_2 15 rfl rfl)
theorem dX0_renews_63 : decode cX0_renews 63 = .ok (.ifnonnull 17, 3) := dk_199 0 17 (dk_at dksX0_renews_2 18 rfl rfl)
theorem dX0_renews_66 : decode cX0_renews 66 = .ok (.new 4, 3) := dk_187 0 4 (dk_at dksX0_renews_2 21 rfl rfl)
theorem dX0_renews_69 : decode cX0_renews 69 = .ok (.dup, 1) := dk_89 (dk_at dksX0_renews_3 0 rfl rfl)
theorem dX0_renews_70 : decode cX0_renews 70 = .ok (.aload_n 0, 1) := dk_42 (dk_at dksX0_renews_3 1 rfl rfl)
theorem dX0_renews_71 : decode cX0_renews 71 = .ok (.getfield 57, 3) := dk_180 0 57 (dk_at dksX0_renews_3 2 rfl rfl)
theorem dX0_renews_74 : decode cX0_renews 74 = .ok (.invokespecial 71, 3) := dk_183 0 71 (dk_at dksX0_renews_3 5 rfl rfl)
theorem dX0_renews_77 : decode cX0_renews 77 = .ok (.goto 7, 3) := dk_167 0 7 (dk_at dksX0_renews_3 8 rfl rfl)
theorem dX0_renews_80 : decode cX0_renews 80 = .ok (.aload_n 0, 1) := dk_42 (dk_at dksX0_renews_3 11 rfl rfl)
theorem dX0_renews_81 : decode cX0_renews 81 = .ok (.getfield 77, 3) := dk_180 0 77 (dk_at dksX0_renews_3 12 rfl rfl)
theorem dX0_renews_84 : decode cX0_renews 84 = .ok (.putfield 77, 3) := dk_181 0 77 (dk_at dksX0_renews_3 15 rfl rfl)
theorem dX0_renews_87 : decode cX0_renews 87 = .ok (.aload_n 0, 1) := dk_42 (dk_at dksX0_renews_3 18 rfl rfl)
theorem dX0_renews_88 : decode cX0_renews 88 = .ok (.aload_n 0, 1) := dk_42 (dk_at dksX0_renews_3 19 rfl rfl)
theorem dX0_renews_89 : decode cX0_renews 89 = .ok (.getfield 80, 3) := dk_180 0 80 (dk_at dksX0_renews_3 20 rfl rfl)
theorem dX0_renews_92 : decode cX0_renews 92 = .ok (.ifnonnull 17, 3) := dk_199 0 17 (dk_at dksX0_renews_4 0 rfl rfl)
theorem dX0_renews_95 : decode cX0_renews 95 = .ok (.new 4, 3) := dk_187 0 4 (dk_at dksX0_renews_4 3 rfl rfl)
theorem dX0_renews_98 : decode cX0_renews 98 = .ok (.dup, 1) := dk_89 (dk_at dksX0_renews_4 6 rfl rfl)
theorem dX0_renews_99 : decode cX0_renews 99 = .ok (.aload_n 0, 1) := dk_42 (dk_at dksX0_renews_4 7 rfl rfl)
theorem dX0_renews_100 : decode cX0_renews 100 = .ok (.getfield 57, 3) := dk_180 0 57 (dk_at dksX0_renews_4 8 rfl rfl)
theorem dX0_renews_103 : decode cX0_renews 103 = .ok (.invokespecial 71, 3) := dk_183 0 71 (dk_at dksX0_renews_4 11 rfl rfl)
theorem dX0_renews_106 : decode cX0_renews 106 = .ok (.goto 7, 3) := dk_167 0 7 (dk_at dksX0_renews_4 14 rfl rfl)
theorem dX0_renews_109 : decode cX0_renews 109 = .ok (.aload_n 0, 1) := dk_42 (dk_at dksX0_renews_4 17 rfl rfl)
theorem dX0_renews_110 : decode cX0_renews 110 = .ok (.getfield 80, 3) := dk_180 0 80 (dk_at dksX0_renews_4 18 rfl rfl)
theorem dX0_renews_113 : decode cX0_renews 113 = .ok (.putfield 80, 3) := dk_181 0 80 (dk_at dksX0_renews_4 21 rfl rfl)
theorem dX0_renews_116 : decode cX0_renews 116 = .ok (.aload_n 0, 1) := dk_42 (dk_at dksX0_renews_5 0 rfl rfl)
theorem dX0_renews_117 : decode cX0_renews 117 = .ok (.getfield 67, 3) := dk_180 0 67 (dk_at dksX0_renews_5 1 rfl rfl)
theorem dX0_renews_120 : decode cX0_renews 120 = .ok (.bipush (-9), 2) := dk_16 247 (dk_at dksX0_renews_5 4 rfl rfl)
theorem dX0_renews_122 : decode cX0_renews 122 = .ok (.putfield 83, 3) := dk_181 0 83 (dk_at dksX0_renews_5 6 rfl rfl)
theorem dX0_renews_125 : decode cX0_renews 125 = .ok (.aload_n 0, 1) := dk_42 (dk_at dksX0_renews_5 9 rfl rfl)
theorem dX0_renews_126 : decode cX0_renews 126 = .ok (.getfield 74, 3) := dk_180 0 74 (dk_at dksX0_renews_5 10 rfl rfl)
theorem dX0_renews_129 : decode cX0_renews 129 = .ok (.bipush (-9), 2) := dk_16 247 (dk_at dksX0_renews_5 13 rfl rfl)
theorem dX0_renews_131 : decode cX0_renews 131 = .ok (.putfield 83, 3) := dk_181 0 83 (dk_at dksX0_renews_5 15 rfl rfl)
theorem dX0_renews_134 : decode cX0_renews 134 = .ok (.return_, 1) := dk_177 (dk_at dksX0_renews_5 18 rfl rfl)
theorem okX0_renews_0 : XOkL xms rX0_renews bX0_renews_0 := xcP (xok_aload_n dX0_renews_0 rfl) rfl (xcP (xok_aload_n dX0_renews_1 rfl) rfl (xcP (xok_getfield (ref := "WaysAtlas") (Or.inr ⟨rfl, by decide⟩) dX0_renews_2 (Or.inl ⟨q651, (Or.inl rfl)⟩) xh1006) rfl (xcP (xok_ifnonnull dX0_renews_5 (by decide)) rfl (xcP (xok_new (r := (RX5, TX5, 34)) (List.mem_of_getElem? (i := 5) rfl) rfl (by decide) dX0_renews_8 q356 q357 q143) rfl (xcP (xok_dup dX0_renews_11) rfl (xcP (xok_aload_n dX0_renews_12 rfl) rfl (xcP (xok_getfield (ref := "WaysAtlas") (Or.inr ⟨rfl, by decide⟩) dX0_renews_13 (Or.inl ⟨q649, (Or.inl rfl)⟩) xh1004) rfl (xcC0 (xokc_I xm79 rfl rfl dX0_renews_16 q358 q359 q143 q360 rfl (by decide +kernel)) rfl (xcP (xok_goto dX0_renews_19 (by decide)) rfl trivial)))))))))
theorem okX0_renews_22 : XOkL xms rX0_renews bX0_renews_22 := xcP (xok_aload_n dX0_renews_22 rfl) rfl (xcP (xok_getfield (ref := "WaysAtlas") (Or.inr ⟨rfl, by decide⟩) dX0_renews_23 (Or.inl ⟨q651, (Or.inl rfl)⟩) xh1006) rfl (xcP xok_fal rfl trivial))
theorem okX0_renews_26 : XOkL xms rX0_renews bX0_renews_26 := xcP (xok_putfield (ref := "WaysAtlas") (Or.inr (Or.inr ⟨rfl, by decide, rfl⟩)) dX0_renews_26 (Or.inl ⟨q651, (Or.inl rfl)⟩) (Or.inl rfl) xh1006) rfl (xcP (xok_aload_n dX0_renews_29 rfl) rfl (xcP (xok_aload_n dX0_renews_30 rfl) rfl (xcP (xok_getfield (ref := "WaysAtlas") (Or.inr ⟨rfl, by decide⟩) dX0_renews_31 (Or.inl ⟨q652, (Or.inl rfl)⟩) xh1007) rfl (xcP (xok_ifnonnull dX0_renews_34 (by decide)) rfl (xcP (xok_new (r := (RX5, TX5, 34)) (List.mem_of_getElem? (i := 5) rfl) rfl (by decide) dX0_renews_37 q356 q357 q143) rfl (xcP (xok_dup dX0_renews_40) rfl (xcP (xok_aload_n dX0_renews_41 rfl) rfl (xcP (xok_getfield (ref := "WaysAtlas") (Or.inr ⟨rfl, by decide⟩) dX0_renews_42 (Or.inl ⟨q649, (Or.inl rfl)⟩) xh1004) rfl (xcC0 (xokc_I xm79 rfl rfl dX0_renews_45 q358 q359 q143 q360 rfl (by decide +kernel)) rfl (xcP (xok_goto dX0_renews_48 (by decide)) rfl trivial))))))))))
theorem okX0_renews_51 : XOkL xms rX0_renews bX0_renews_51 := xcP (xok_aload_n dX0_renews_51 rfl) rfl (xcP (xok_getfield (ref := "WaysAtlas") (Or.inr ⟨rfl, by decide⟩) dX0_renews_52 (Or.inl ⟨q652, (Or.inl rfl)⟩) xh1007) rfl (xcP xok_fal rfl trivial))
theorem okX0_renews_55 : XOkL xms rX0_renews bX0_renews_55 := xcP (xok_putfield (ref := "WaysAtlas") (Or.inr (Or.inr ⟨rfl, by decide, rfl⟩)) dX0_renews_55 (Or.inl ⟨q652, (Or.inl rfl)⟩) (Or.inl rfl) xh1007) rfl (xcP (xok_aload_n dX0_renews_58 rfl) rfl (xcP (xok_aload_n dX0_renews_59 rfl) rfl (xcP (xok_getfield (ref := "WaysAtlas") (Or.inr ⟨rfl, by decide⟩) dX0_renews_60 (Or.inl ⟨q653, (Or.inl rfl)⟩) xh1008) rfl (xcP (xok_ifnonnull dX0_renews_63 (by decide)) rfl (xcP (xok_new (r := (RX5, TX5, 34)) (List.mem_of_getElem? (i := 5) rfl) rfl (by decide) dX0_renews_66 q356 q357 q143) rfl (xcP (xok_dup dX0_renews_69) rfl (xcP (xok_aload_n dX0_renews_70 rfl) rfl (xcP (xok_getfield (ref := "WaysAtlas") (Or.inr ⟨rfl, by decide⟩) dX0_renews_71 (Or.inl ⟨q649, (Or.inl rfl)⟩) xh1004) rfl (xcC0 (xokc_I xm79 rfl rfl dX0_renews_74 q358 q359 q143 q360 rfl (by decide +kernel)) rfl (xcP (xok_goto dX0_renews_77 (by decide)) rfl trivial))))))))))
theorem okX0_renews_80 : XOkL xms rX0_renews bX0_renews_80 := xcP (xok_aload_n dX0_renews_80 rfl) rfl (xcP (xok_getfield (ref := "WaysAtlas") (Or.inr ⟨rfl, by decide⟩) dX0_renews_81 (Or.inl ⟨q653, (Or.inl rfl)⟩) xh1008) rfl (xcP xok_fal rfl trivial))
theorem okX0_renews_84 : XOkL xms rX0_renews bX0_renews_84 := xcP (xok_putfield (ref := "WaysAtlas") (Or.inr (Or.inr ⟨rfl, by decide, rfl⟩)) dX0_renews_84 (Or.inl ⟨q653, (Or.inl rfl)⟩) (Or.inl rfl) xh1008) rfl (xcP (xok_aload_n dX0_renews_87 rfl) rfl (xcP (xok_aload_n dX0_renews_88 rfl) rfl (xcP (xok_getfield (ref := "WaysAtlas") (Or.inr ⟨rfl, by decide⟩) dX0_renews_89 (Or.inl ⟨q654, (Or.inl rfl)⟩) xh1009) rfl (xcP (xok_ifnonnull dX0_renews_92 (by decide)) rfl (xcP (xok_new (r := (RX5, TX5, 34)) (List.mem_of_getElem? (i := 5) rfl) rfl (by decide) dX0_renews_95 q356 q357 q143) rfl (xcP (xok_dup dX0_renews_98) rfl (xcP (xok_aload_n dX0_renews_99 rfl) rfl (xcP (xok_getfield (ref := "WaysAtlas") (Or.inr ⟨rfl, by decide⟩) dX0_renews_100 (Or.inl ⟨q649, (Or.inl rfl)⟩) xh1004) rfl (xcC0 (xokc_I xm79 rfl rfl dX0_renews_103 q358 q359 q143 q360 rfl (by decide +kernel)) rfl (xcP (xok_goto dX0_renews_106 (by decide)) rfl trivial))))))))))
theorem okX0_renews_109 : XOkL xms rX0_renews bX0_renews_109 := xcP (xok_aload_n dX0_renews_109 rfl) rfl (xcP (xok_getfield (ref := "WaysAtlas") (Or.inr ⟨rfl, by decide⟩) dX0_renews_110 (Or.inl ⟨q654, (Or.inl rfl)⟩) xh1009) rfl (xcP xok_fal rfl trivial))
theorem okX0_renews_113 : XOkL xms rX0_renews bX0_renews_113 := xcP (xok_putfield (ref := "WaysAtlas") (Or.inr (Or.inr ⟨rfl, by decide, rfl⟩)) dX0_renews_113 (Or.inl ⟨q654, (Or.inl rfl)⟩) (Or.inl rfl) xh1009) rfl (xcP (xok_aload_n dX0_renews_116 rfl) rfl (xcP (xok_getfield (ref := "WaysAtlas") (Or.inr ⟨rfl, by decide⟩) dX0_renews_117 (Or.inl ⟨q651, (Or.inl rfl)⟩) xh1006) rfl (xcP (xok_bipush dX0_renews_120 rfl) rfl (xcP (xok_putfield (ref := "WaysAtlas$Run") (Or.inl ⟨rfl, by decide, rfl⟩) dX0_renews_122 (Or.inr ⟨⟨"WaysAtlas", (List.mem_of_getElem? (i := 131) rfl)⟩, (Or.inl rfl)⟩) (Or.inl rfl) xh28) rfl (xcP (xok_aload_n dX0_renews_125 rfl) rfl (xcP (xok_getfield (ref := "WaysAtlas") (Or.inr ⟨rfl, by decide⟩) dX0_renews_126 (Or.inl ⟨q652, (Or.inl rfl)⟩) xh1007) rfl (xcP (xok_bipush dX0_renews_129 rfl) rfl (xcP (xok_putfield (ref := "WaysAtlas$Run") (Or.inl ⟨rfl, by decide, rfl⟩) dX0_renews_131 (Or.inr ⟨⟨"WaysAtlas", (List.mem_of_getElem? (i := 131) rfl)⟩, (Or.inl rfl)⟩) (Or.inl rfl) xh28) rfl (xcR ⟨dX0_renews_134, rfl⟩)))))))))
theorem okM_X0_renews : XOkM xms rX0_renews := xokM0 (List.forall_mem_cons.mpr ⟨⟨rfl, okX0_renews_0⟩, List.forall_mem_cons.mpr ⟨⟨rfl, okX0_renews_22⟩, List.forall_mem_cons.mpr ⟨⟨rfl, okX0_renews_26⟩, List.forall_mem_cons.mpr ⟨⟨rfl, okX0_renews_51⟩, List.forall_mem_cons.mpr ⟨⟨rfl, okX0_renews_55⟩, List.forall_mem_cons.mpr ⟨⟨rfl, okX0_renews_80⟩, List.forall_mem_cons.mpr ⟨⟨rfl, okX0_renews_84⟩, List.forall_mem_cons.mpr ⟨⟨rfl, okX0_renews_109⟩, List.forall_mem_cons.mpr ⟨⟨rfl, okX0_renews_113⟩, fun _ h => nomatch h⟩⟩⟩⟩⟩⟩⟩⟩⟩) (xokH0 rfl (fun _ _ => rfl)) (by decide +kernel) (by decide)
abbrev cX0_say : ByteArray := prog_1_method_5_code
def dkwX0_say_3 : List UInt8 := [4, 96, 181, 0, 90, 132, 4, 255, 167, 255, 211, 42, 180, 0, 34, 180, 0, 90, 172]
abbrev dktX0_say_3 : List UInt8 := dkwX0_say_3 ++ []
def dkwX0_say_2 : List UInt8 := [180, 0, 34, 180, 0, 90, 31, 16, 8, 21, 4, 104, 123, 136, 145, 84, 42, 180, 0, 34, 89, 180, 0, 90]
abbrev dktX0_say_2 : List UInt8 := dkwX0_say_2 ++ dktX0_say_3
def dkwX0_say_1 : List UInt8 := [164, 0, 6, 16, 254, 172, 29, 4, 100, 54, 4, 21, 4, 155, 0, 46, 42, 180, 0, 34, 180, 0, 93, 42]
abbrev dktX0_say_1 : List UInt8 := dkwX0_say_1 ++ dktX0_say_2
def dkwX0_say_0 : List UInt8 := [29, 4, 16, 8, 184, 0, 86, 154, 0, 5, 2, 172, 42, 180, 0, 34, 180, 0, 90, 29, 96, 17, 3, 232]
abbrev dktX0_say_0 : List UInt8 := dkwX0_say_0 ++ dktX0_say_1
theorem dksX0_say_0 : cX0_say.data.toList.drop 0 = dktX0_say_0 := by decide +kernel
theorem dksX0_say_1 : cX0_say.data.toList.drop 24 = dktX0_say_1 := dk_seg dksX0_say_0 24 rfl rfl
theorem dksX0_say_2 : cX0_say.data.toList.drop 48 = dktX0_say_2 := dk_seg dksX0_say_1 24 rfl rfl
theorem dksX0_say_3 : cX0_say.data.toList.drop 72 = dktX0_say_3 := dk_seg dksX0_say_2 24 rfl rfl
theorem dX0_say_0 : decode cX0_say 0 = .ok (.iload_n 3, 1) := dk_29 (dk_at dksX0_say_0 0 rfl rfl)
theorem dX0_say_1 : decode cX0_say 1 = .ok (.iconst 1, 1) := dk_4 (dk_at dksX0_say_0 1 rfl rfl)
theorem dX0_say_2 : decode cX0_say 2 = .ok (.bipush 8, 2) := dk_16 8 (dk_at dksX0_say_0 2 rfl rfl)
theorem dX0_say_4 : decode cX0_say 4 = .ok (.invokestatic 86, 3) := dk_184 0 86 (dk_at dksX0_say_0 4 rfl rfl)
theorem dX0_say_7 : decode cX0_say 7 = .ok (.ifCond .ne 5, 3) := dk_154 0 5 (dk_at dksX0_say_0 7 rfl rfl)
theorem dX0_say_10 : decode cX0_say 10 = .ok (.iconst (-1), 1) := dk_2 (dk_at dksX0_say_0 10 rfl rfl)
theorem dX0_say_11 : decode cX0_say 11 = .ok (.ireturn, 1) := dk_172 (dk_at dksX0_say_0 11 rfl rfl)
theorem dX0_say_12 : decode cX0_say 12 = .ok (.aload_n 0, 1) := dk_42 (dk_at dksX0_say_0 12 rfl rfl)
theorem dX0_say_13 : decode cX0_say 13 = .ok (.getfield 34, 3) := dk_180 0 34 (dk_at dksX0_say_0 13 rfl rfl)
theorem dX0_say_16 : decode cX0_say 16 = .ok (.getfield 90, 3) := dk_180 0 90 (dk_at dksX0_say_0 16 rfl rfl)
theorem dX0_say_19 : decode cX0_say 19 = .ok (.iload_n 3, 1) := dk_29 (dk_at dksX0_say_0 19 rfl rfl)
theorem dX0_say_20 : decode cX0_say 20 = .ok (.iadd, 1) := dk_96 (dk_at dksX0_say_0 20 rfl rfl)
theorem dX0_say_21 : decode cX0_say 21 = .ok (.sipush 1000, 3) := dk_17 3 232 (dk_at dksX0_say_0 21 rfl rfl)
theorem dX0_say_24 : decode cX0_say 24 = .ok (.if_icmp .le 6, 3) := dk_164 0 6 (dk_at dksX0_say_1 0 rfl rfl)
theorem dX0_say_27 : decode cX0_say 27 = .ok (.bipush (-2), 2) := dk_16 254 (dk_at dksX0_say_1 3 rfl rfl)
theorem dX0_say_29 : decode cX0_say 29 = .ok (.ireturn, 1) := dk_172 (dk_at dksX0_say_1 5 rfl rfl)
theorem dX0_say_30 : decode cX0_say 30 = .ok (.iload_n 3, 1) := dk_29 (dk_at dksX0_say_1 6 rfl rfl)
theorem dX0_say_31 : decode cX0_say 31 = .ok (.iconst 1, 1) := dk_4 (dk_at dksX0_say_1 7 rfl rfl)
theorem dX0_say_32 : decode cX0_say 32 = .ok (.isub, 1) := dk_100 (dk_at dksX0_say_1 8 rfl rfl)
theorem dX0_say_33 : decode cX0_say 33 = .ok (.istore 4, 2) := dk_54 4 (dk_at dksX0_say_1 9 rfl rfl)
theorem dX0_say_35 : decode cX0_say 35 = .ok (.iload 4, 2) := dk_21 4 (dk_at dksX0_say_1 11 rfl rfl)
theorem dX0_say_37 : decode cX0_say 37 = .ok (.ifCond .lt 46, 3) := dk_155 0 46 (dk_at dksX0_say_1 13 rfl rfl)
theorem dX0_say_40 : decode cX0_say 40 = .ok (.aload_n 0, 1) := dk_42 (dk_at dksX0_say_1 16 rfl rfl)
theorem dX0_say_41 : decode cX0_say 41 = .ok (.getfield 34, 3) := dk_180 0 34 (dk_at dksX0_say_1 17 rfl rfl)
theorem dX0_say_44 : decode cX0_say 44 = .ok (.getfield 93, 3) := dk_180 0 93 (dk_at dksX0_say_1 20 rfl rfl)
theorem dX0_say_47 : decode cX0_say 47 = .ok (.aload_n 0, 1) := dk_42 (dk_at dksX0_say_1 23 rfl rfl)
theorem dX0_say_48 : decode cX0_say 48 = .ok (.getfield 34, 3) := dk_180 0 34 (dk_at dksX0_say_2 0 rfl rfl)
theorem dX0_say_51 : decode cX0_say 51 = .ok (.getfield 90, 3) := dk_180 0 90 (dk_at dksX0_say_2 3 rfl rfl)
theorem dX0_say_54 : decode cX0_say 54 = .ok (.lload_n 1, 1) := dk_31 (dk_at dksX0_say_2 6 rfl rfl)
theorem dX0_say_55 : decode cX0_say 55 = .ok (.bipush 8, 2) := dk_16 8 (dk_at dksX0_say_2 7 rfl rfl)
theorem dX0_say_57 : decode cX0_say 57 = .ok (.iload 4, 2) := dk_21 4 (dk_at dksX0_say_2 9 rfl rfl)
theorem dX0_say_59 : decode cX0_say 59 = .ok (.imul, 1) := dk_104 (dk_at dksX0_say_2 11 rfl rfl)
theorem dX0_say_60 : decode cX0_say 60 = .ok (.lshr, 1) := dk_123 (dk_at dksX0_say_2 12 rfl rfl)
theorem dX0_say_61 : decode cX0_say 61 = .ok (.l2i, 1) := dk_136 (dk_at dksX0_say_2 13 rfl rfl)
theorem dX0_say_62 : decode cX0_say 62 = .ok (.i2b, 1) := dk_145 (dk_at dksX0_say_2 14 rfl rfl)
theorem dX0_say_63 : decode cX0_say 63 = .ok (.bastore, 1) := dk_84 (dk_at dksX0_say_2 15 rfl rfl)
theorem dX0_say_64 : decode cX0_say 64 = .ok (.aload_n 0, 1) := dk_42 (dk_at dksX0_say_2 16 rfl rfl)
theorem dX0_say_65 : decode cX0_say 65 = .ok (.getfield 34, 3) := dk_180 0 34 (dk_at dksX0_say_2 17 rfl rfl)
theorem dX0_say_68 : decode cX0_say 68 = .ok (.dup, 1) := dk_89 (dk_at dksX0_say_2 20 rfl rfl)
theorem dX0_say_69 : decode cX0_say 69 = .ok (.getfield 90, 3) := dk_180 0 90 (dk_at dksX0_say_2 21 rfl rfl)
theorem dX0_say_72 : decode cX0_say 72 = .ok (.iconst 1, 1) := dk_4 (dk_at dksX0_say_3 0 rfl rfl)
theorem dX0_say_73 : decode cX0_say 73 = .ok (.iadd, 1) := dk_96 (dk_at dksX0_say_3 1 rfl rfl)
theorem dX0_say_74 : decode cX0_say 74 = .ok (.putfield 90, 3) := dk_181 0 90 (dk_at dksX0_say_3 2 rfl rfl)
theorem dX0_say_77 : decode cX0_say 77 = .ok (.iinc 4 (-1), 3) := dk_132 4 255 (dk_at dksX0_say_3 5 rfl rfl)
theorem dX0_say_80 : decode cX0_say 80 = .ok (.goto (-45), 3) := dk_167 255 211 (dk_at dksX0_say_3 8 rfl rfl)
theorem dX0_say_83 : decode cX0_say 83 = .ok (.aload_n 0, 1) := dk_42 (dk_at dksX0_say_3 11 rfl rfl)
theorem dX0_say_84 : decode cX0_say 84 = .ok (.getfield 34, 3) := dk_180 0 34 (dk_at dksX0_say_3 12 rfl rfl)
theorem dX0_say_87 : decode cX0_say 87 = .ok (.getfield 90, 3) := dk_180 0 90 (dk_at dksX0_say_3 15 rfl rfl)
theorem dX0_say_90 : decode cX0_say 90 = .ok (.ireturn, 1) := dk_172 (dk_at dksX0_say_3 18 rfl rfl)
theorem okX0_say_0 : XOkL xms rX0_say bX0_say_0 := xcP (xok_iload_n dX0_say_0 rfl) rfl (xcP (xok_iconst dX0_say_1 rfl) rfl (xcP (xok_bipush dX0_say_2 rfl) rfl (xcC0 (xokc_S xm3 rfl dX0_say_4 q680 q681 q138 q682 (by decide +kernel)) rfl (xcP (xok_ifne dX0_say_7 (by decide)) rfl (xcP (xok_iconst dX0_say_10 rfl) rfl (xcR ⟨dX0_say_11, rfl⟩))))))
theorem okX0_say_12 : XOkL xms rX0_say bX0_say_12 := xcP (xok_aload_n dX0_say_12 rfl) rfl (xcP (xok_getfield (ref := "WaysAtlas") (Or.inr ⟨rfl, by decide⟩) dX0_say_13 (Or.inl ⟨q645, (Or.inl rfl)⟩) xh1001) rfl (xcP (xok_getfield (ref := "WaysAtlas$Scanner") (Or.inl ⟨rfl, by decide⟩) dX0_say_16 (Or.inr ⟨⟨"WaysAtlas", (List.mem_of_getElem? (i := 132) rfl)⟩, (Or.inl rfl)⟩) xh2) rfl (xcP (xok_iload_n dX0_say_19 rfl) rfl (xcP (xok_iadd dX0_say_20) rfl (xcP (xok_sipush dX0_say_21 rfl) rfl (xcP (xok_icmple dX0_say_24 (by decide)) rfl (xcP (xok_bipush dX0_say_27 rfl) rfl (xcR ⟨dX0_say_29, rfl⟩))))))))
theorem okX0_say_30 : XOkL xms rX0_say bX0_say_30 := xcP (xok_iload_n dX0_say_30 rfl) rfl (xcP (xok_iconst dX0_say_31 rfl) rfl (xcP (xok_isub dX0_say_32) rfl (xcP (xok_istore dX0_say_33) rfl (xcP xok_fal rfl trivial))))
theorem okX0_say_35 : XOkL xms rX0_say bX0_say_35 := xcP (xok_iload dX0_say_35) rfl (xcP (xok_iflt dX0_say_37 (by decide)) rfl (xcP (xok_aload_n dX0_say_40 rfl) rfl (xcP (xok_getfield (ref := "WaysAtlas") (Or.inr ⟨rfl, by decide⟩) dX0_say_41 (Or.inl ⟨q645, (Or.inl rfl)⟩) xh1001) rfl (xcP (xok_getfield (ref := "WaysAtlas$Scanner") (Or.inr ⟨rfl, by decide⟩) dX0_say_44 (Or.inr ⟨⟨"WaysAtlas", (List.mem_of_getElem? (i := 133) rfl)⟩, (Or.inl rfl)⟩) xh1010) rfl (xcP (xok_aload_n dX0_say_47 rfl) rfl (xcP (xok_getfield (ref := "WaysAtlas") (Or.inr ⟨rfl, by decide⟩) dX0_say_48 (Or.inl ⟨q645, (Or.inl rfl)⟩) xh1001) rfl (xcP (xok_getfield (ref := "WaysAtlas$Scanner") (Or.inl ⟨rfl, by decide⟩) dX0_say_51 (Or.inr ⟨⟨"WaysAtlas", (List.mem_of_getElem? (i := 132) rfl)⟩, (Or.inl rfl)⟩) xh2) rfl (xcP (xok_lload_n dX0_say_54 rfl) rfl (xcP (xok_bipush dX0_say_55 rfl) rfl (xcP (xok_iload dX0_say_57) rfl (xcP (xok_imul dX0_say_59) rfl (xcP (xok_lshr dX0_say_60) rfl (xcP (xok_l2i dX0_say_61) rfl (xcP (xok_i2b dX0_say_62) rfl (xcP (xok_bastore dX0_say_63) rfl (xcP (xok_aload_n dX0_say_64 rfl) rfl (xcP (xok_getfield (ref := "WaysAtlas") (Or.inr ⟨rfl, by decide⟩) dX0_say_65 (Or.inl ⟨q645, (Or.inl rfl)⟩) xh1001) rfl (xcP (xok_dup dX0_say_68) rfl (xcP (xok_getfield (ref := "WaysAtlas$Scanner") (Or.inl ⟨rfl, by decide⟩) dX0_say_69 (Or.inr ⟨⟨"WaysAtlas", (List.mem_of_getElem? (i := 132) rfl)⟩, (Or.inl rfl)⟩) xh2) rfl (xcP (xok_iconst dX0_say_72 rfl) rfl (xcP (xok_iadd dX0_say_73) rfl (xcP (xok_putfield (ref := "WaysAtlas$Scanner") (Or.inl ⟨rfl, by decide, rfl⟩) dX0_say_74 (Or.inr ⟨⟨"WaysAtlas", (List.mem_of_getElem? (i := 132) rfl)⟩, (Or.inl rfl)⟩) (Or.inl rfl) xh2) rfl (xcP (xok_iinc dX0_say_77 rfl) rfl (xcP (xok_goto dX0_say_80 (by decide)) rfl trivial))))))))))))))))))))))))
theorem okX0_say_83 : XOkL xms rX0_say bX0_say_83 := xcP (xok_aload_n dX0_say_83 rfl) rfl (xcP (xok_getfield (ref := "WaysAtlas") (Or.inr ⟨rfl, by decide⟩) dX0_say_84 (Or.inl ⟨q645, (Or.inl rfl)⟩) xh1001) rfl (xcP (xok_getfield (ref := "WaysAtlas$Scanner") (Or.inl ⟨rfl, by decide⟩) dX0_say_87 (Or.inr ⟨⟨"WaysAtlas", (List.mem_of_getElem? (i := 132) rfl)⟩, (Or.inl rfl)⟩) xh2) rfl (xcR ⟨dX0_say_90, rfl⟩)))
theorem okM_X0_say : XOkM xms rX0_say := xokM0 (List.forall_mem_cons.mpr ⟨⟨rfl, okX0_say_0⟩, List.forall_mem_cons.mpr ⟨⟨rfl, okX0_say_12⟩, List.forall_mem_cons.mpr ⟨⟨rfl, okX0_say_30⟩, List.forall_mem_cons.mpr ⟨⟨rfl, okX0_say_35⟩, List.forall_mem_cons.mpr ⟨⟨rfl, okX0_say_83⟩, fun _ h => nomatch h⟩⟩⟩⟩⟩) (xokH0 rfl (fun _ _ => rfl)) (by decide +kernel) (by decide)
abbrev cX0_isIn : ByteArray := prog_1_method_1_code
def dkwX0_isIn_0 : List UInt8 := [26, 27, 161, 0, 12, 26, 28, 163, 0, 7, 4, 167, 0, 4, 3, 172]
abbrev dktX0_isIn_0 : List UInt8 := dkwX0_isIn_0 ++ []
theorem dksX0_isIn_0 : cX0_isIn.data.toList.drop 0 = dktX0_isIn_0 := by decide +kernel
theorem dX0_isIn_0 : decode cX0_isIn 0 = .ok (.iload_n 0, 1) := dk_26 (dk_at dksX0_isIn_0 0 rfl rfl)
theorem dX0_isIn_1 : decode cX0_isIn 1 = .ok (.iload_n 1, 1) := dk_27 (dk_at dksX0_isIn_0 1 rfl rfl)
theorem dX0_isIn_2 : decode cX0_isIn 2 = .ok (.if_icmp .lt 12, 3) := dk_161 0 12 (dk_at dksX0_isIn_0 2 rfl rfl)
theorem dX0_isIn_5 : decode cX0_isIn 5 = .ok (.iload_n 0, 1) := dk_26 (dk_at dksX0_isIn_0 5 rfl rfl)
theorem dX0_isIn_6 : decode cX0_isIn 6 = .ok (.iload_n 2, 1) := dk_28 (dk_at dksX0_isIn_0 6 rfl rfl)
theorem dX0_isIn_7 : decode cX0_isIn 7 = .ok (.if_icmp .gt 7, 3) := dk_163 0 7 (dk_at dksX0_isIn_0 7 rfl rfl)
theorem dX0_isIn_10 : decode cX0_isIn 10 = .ok (.iconst 1, 1) := dk_4 (dk_at dksX0_isIn_0 10 rfl rfl)
theorem dX0_isIn_11 : decode cX0_isIn 11 = .ok (.goto 4, 3) := dk_167 0 4 (dk_at dksX0_isIn_0 11 rfl rfl)
theorem dX0_isIn_14 : decode cX0_isIn 14 = .ok (.iconst 0, 1) := dk_3 (dk_at dksX0_isIn_0 14 rfl rfl)
theorem dX0_isIn_15 : decode cX0_isIn 15 = .ok (.ireturn, 1) := dk_172 (dk_at dksX0_isIn_0 15 rfl rfl)
theorem okX0_isIn_0 : XOkL xms rX0_isIn bX0_isIn_0 := xcP (xok_iload_n dX0_isIn_0 rfl) rfl (xcP (xok_iload_n dX0_isIn_1 rfl) rfl (xcP (xok_icmplt dX0_isIn_2 (by decide)) rfl (xcP (xok_iload_n dX0_isIn_5 rfl) rfl (xcP (xok_iload_n dX0_isIn_6 rfl) rfl (xcP (xok_icmpgt dX0_isIn_7 (by decide)) rfl (xcP (xok_iconst dX0_isIn_10 rfl) rfl (xcP (xok_goto dX0_isIn_11 (by decide)) rfl trivial)))))))
theorem okX0_isIn_14 : XOkL xms rX0_isIn bX0_isIn_14 := xcP (xok_iconst dX0_isIn_14 rfl) rfl (xcP xok_fal rfl trivial)
theorem okX0_isIn_15 : XOkL xms rX0_isIn bX0_isIn_15 := xcR ⟨dX0_isIn_15, rfl⟩
theorem okM_X0_isIn : XOkM xms rX0_isIn := xokM0 (List.forall_mem_cons.mpr ⟨⟨rfl, okX0_isIn_0⟩, List.forall_mem_cons.mpr ⟨⟨rfl, okX0_isIn_14⟩, List.forall_mem_cons.mpr ⟨⟨rfl, okX0_isIn_15⟩, fun _ h => nomatch h⟩⟩⟩) (xokH0 rfl (fun _ _ => rfl)) (by decide +kernel) (by decide)
abbrev cX0_compile : ByteArray := prog_1_method_7_code
def dkwX0_compile_3 : List UInt8 := [180, 0, 57, 3, 181, 0, 143, 42, 182, 0, 64, 44, 180, 0, 144, 172]
abbrev dktX0_compile_3 : List UInt8 := dkwX0_compile_3 ++ []
def dkwX0_compile_2 : List UInt8 := [182, 0, 105, 153, 0, 9, 44, 4, 184, 0, 135, 78, 44, 45, 181, 0, 139, 42, 44, 181, 0, 50, 42]
abbrev dktX0_compile_2 : List UInt8 := dkwX0_compile_2 ++ dktX0_compile_3
def dkwX0_compile_1 : List UInt8 := [42, 45, 180, 0, 129, 181, 0, 117, 16, 156, 45, 180, 0, 132, 100, 172, 44, 27, 184, 0, 135, 78, 45]
abbrev dktX0_compile_1 : List UInt8 := dkwX0_compile_1 ++ dktX0_compile_2
def dkwX0_compile_0 : List UInt8 := [42, 3, 181, 0, 117, 42, 180, 0, 34, 182, 0, 120, 42, 180, 0, 43, 182, 0, 123, 77, 167, 0, 20, 78]
abbrev dktX0_compile_0 : List UInt8 := dkwX0_compile_0 ++ dktX0_compile_1
theorem dksX0_compile_0 : cX0_compile.data.toList.drop 0 = dktX0_compile_0 := by decide +kernel
theorem dksX0_compile_1 : cX0_compile.data.toList.drop 24 = dktX0_compile_1 := dk_seg dksX0_compile_0 24 rfl rfl
theorem dksX0_compile_2 : cX0_compile.data.toList.drop 47 = dktX0_compile_2 := dk_seg dksX0_compile_1 23 rfl rfl
theorem dksX0_compile_3 : cX0_compile.data.toList.drop 70 = dktX0_compile_3 := dk_seg dksX0_compile_2 23 rfl rfl
theorem dX0_compile_0 : decode cX0_compile 0 = .ok (.aload_n 0, 1) := dk_42 (dk_at dksX0_compile_0 0 rfl rfl)
theorem dX0_compile_1 : decode cX0_compile 1 = .ok (.iconst 0, 1) := dk_3 (dk_at dksX0_compile_0 1 rfl rfl)
theorem dX0_compile_2 : decode cX0_compile 2 = .ok (.putfield 117, 3) := dk_181 0 117 (dk_at dksX0_compile_0 2 rfl rfl)
theorem dX0_compile_5 : decode cX0_compile 5 = .ok (.aload_n 0, 1) := dk_42 (dk_at dksX0_compile_0 5 rfl rfl)
theorem dX0_compile_6 : decode cX0_compile 6 = .ok (.getfield 34, 3) := dk_180 0 34 (dk_at dksX0_compile_0 6 rfl rfl)
theorem dX0_compile_9 : decode cX0_compile 9 = .ok (.invokevirtual 120, 3) := dk_182 0 120 (dk_at dksX0_compile_0 9 rfl rfl)
theorem dX0_compile_12 : decode cX0_compile 12 = .ok (.aload_n 0, 1) := dk_42 (dk_at dksX0_compile_0 12 rfl rfl)
theorem dX0_compile_13 : decode cX0_compile 13 = .ok (.getfield 43, 3) := dk_180 0 43 (dk_at dksX0_compile_0 13 rfl rfl)
theorem dX0_compile_16 : decode cX0_compile 16 = .ok (.invokevirtual 123, 3) := dk_182 0 123 (dk_at dksX0_compile_0 16 rfl rfl)
theorem dX0_compile_19 : decode cX0_compile 19 = .ok (.astore_n 2, 1) := dk_77 (dk_at dksX0_compile_0 19 rfl rfl)
theorem dX0_compile_20 : decode cX0_compile 20 = .ok (.goto 20, 3) := dk_167 0 20 (dk_at dksX0_compile_0 20 rfl rfl)
theorem dX0_compile_23 : decode cX0_compile 23 = .ok (.astore_n 3, 1) := dk_78 (dk_at dksX0_compile_0 23 rfl rfl)
theorem dX0_compile_24 : decode cX0_compile 24 = .ok (.aload_n 0, 1) := dk_42 (dk_at dksX0_compile_1 0 rfl rfl)
theorem dX0_compile_25 : decode cX0_compile 25 = .ok (.aload_n 3, 1) := dk_45 (dk_at dksX0_compile_1 1 rfl rfl)
theorem dX0_compile_26 : decode cX0_compile 26 = .ok (.getfield 129, 3) := dk_180 0 129 (dk_at dksX0_compile_1 2 rfl rfl)
theorem dX0_compile_29 : decode cX0_compile 29 = .ok (.putfield 117, 3) := dk_181 0 117 (dk_at dksX0_compile_1 5 rfl rfl)
theorem dX0_compile_32 : decode cX0_compile 32 = .ok (.bipush (-100), 2) := dk_16 156 (dk_at dksX0_compile_1 8 rfl rfl)
theorem dX0_compile_34 : decode cX0_compile 34 = .ok (.aload_n 3, 1) := dk_45 (dk_at dksX0_compile_1 10 rfl rfl)
theorem dX0_compile_35 : decode cX0_compile 35 = .ok (.getfield 132, 3) := dk_180 0 132 (dk_at dksX0_compile_1 11 rfl rfl)
theorem dX0_compile_38 : decode cX0_compile 38 = .ok (.isub, 1) := dk_100 (dk_at dksX0_compile_1 14 rfl rfl)
theorem dX0_compile_39 : decode cX0_compile 39 = .ok (.ireturn, 1) := dk_172 (dk_at dksX0_compile_1 15 rfl rfl)
theorem dX0_compile_40 : decode cX0_compile 40 = .ok (.aload_n 2, 1) := dk_44 (dk_at dksX0_compile_1 16 rfl rfl)
theorem dX0_compile_41 : decode cX0_compile 41 = .ok (.iload_n 1, 1) := dk_27 (dk_at dksX0_compile_1 17 rfl rfl)
theorem dX0_compile_42 : decode cX0_compile 42 = .ok (.invokestatic 135, 3) := dk_184 0 135 (dk_at dksX0_compile_1 18 rfl rfl)
theorem dX0_compile_45 : decode cX0_compile 45 = .ok (.astore_n 3, 1) := dk_78 (dk_at dksX0_compile_1 21 rfl rfl)
theorem dX0_compile_46 : decode cX0_compile 46 = .ok (.aload_n 3, 1) := dk_45 (dk_at dksX0_compile_1 22 rfl rfl)
theorem dX0_compile_47 : decode cX0_compile 47 = .ok (.invokevirtual 105, 3) := dk_182 0 105 (dk_at dksX0_compile_2 0 rfl rfl)
theorem dX0_compile_50 : decode cX0_compile 50 = .ok (.ifCond .eq 9, 3) := dk_153 0 9 (dk_at dksX0_compile_2 3 rfl rfl)
theorem dX0_compile_53 : decode cX0_compile 53 = .ok (.aload_n 2, 1) := dk_44 (dk_at dksX0_compile_2 6 rfl rfl)
theorem dX0_compile_54 : decode cX0_compile 54 = .ok (.iconst 1, 1) := dk_4 (dk_at dksX0_compile_2 7 rfl rfl)
theorem dX0_compile_55 : decode cX0_compile 55 = .ok (.invokestatic 135, 3) := dk_184 0 135 (dk_at dksX0_compile_2 8 rfl rfl)
theorem dX0_compile_58 : decode cX0_compile 58 = .ok (.astore_n 3, 1) := dk_78 (dk_at dksX0_compile_2 11 rfl rfl)
theorem dX0_compile_59 : decode cX0_compile 59 = .ok (.aload_n 2, 1) := dk_44 (dk_at dksX0_compile_2 12 rfl rfl)
theorem dX0_compile_60 : decode cX0_compile 60 = .ok (.aload_n 3, 1) := dk_45 (dk_at dksX0_compile_2 13 rfl rfl)
theorem dX0_compile_61 : decode cX0_compile 61 = .ok (.putfield 139, 3) := dk_181 0 139 (dk_at dksX0_compile_2 14 rfl rfl)
theorem dX0_compile_64 : decode cX0_compile 64 = .ok (.aload_n 0, 1) := dk_42 (dk_at dksX0_compile_2 17 rfl rfl)
theorem dX0_compile_65 : decode cX0_compile 65 = .ok (.aload_n 2, 1) := dk_44 (dk_at dksX0_compile_2 18 rfl rfl)
theorem dX0_compile_66 : decode cX0_compile 66 = .ok (.putfield 50, 3) := dk_181 0 50 (dk_at dksX0_compile_2 19 rfl rfl)
theorem dX0_compile_69 : decode cX0_compile 69 = .ok (.aload_n 0, 1) := dk_42 (dk_at dksX0_compile_2 22 rfl rfl)
theorem dX0_compile_70 : decode cX0_compile 70 = .ok (.getfield 57, 3) := dk_180 0 57 (dk_at dksX0_compile_3 0 rfl rfl)
theorem dX0_compile_73 : decode cX0_compile 73 = .ok (.iconst 0, 1) := dk_3 (dk_at dksX0_compile_3 3 rfl rfl)
theorem dX0_compile_74 : decode cX0_compile 74 = .ok (.putfield 143, 3) := dk_181 0 143 (dk_at dksX0_compile_3 4 rfl rfl)
theorem dX0_compile_77 : decode cX0_compile 77 = .ok (.aload_n 0, 1) := dk_42 (dk_at dksX0_compile_3 7 rfl rfl)
theorem dX0_compile_78 : decode cX0_compile 78 = .ok (.invokevirtual 64, 3) := dk_182 0 64 (dk_at dksX0_compile_3 8 rfl rfl)
theorem dX0_compile_81 : decode cX0_compile 81 = .ok (.aload_n 2, 1) := dk_44 (dk_at dksX0_compile_3 11 rfl rfl)
theorem dX0_compile_82 : decode cX0_compile 82 = .ok (.getfield 144, 3) := dk_180 0 144 (dk_at dksX0_compile_3 12 rfl rfl)
theorem dX0_compile_85 : decode cX0_compile 85 = .ok (.ireturn, 1) := dk_172 (dk_at dksX0_compile_3 15 rfl rfl)
theorem okX0_compile_0 : XOkL xms rX0_compile bX0_compile_0 := xcP (xok_aload_n dX0_compile_0 rfl) rfl (xcP (xok_iconst dX0_compile_1 rfl) rfl (xcP (xok_putfield (ref := "WaysAtlas") (Or.inl ⟨rfl, by decide, rfl⟩) dX0_compile_2 (Or.inl ⟨q648, (Or.inl rfl)⟩) (Or.inl rfl) xh1) rfl (xcP (xok_aload_n dX0_compile_5 rfl) rfl (xcP (xok_getfield (ref := "WaysAtlas") (Or.inr ⟨rfl, by decide⟩) dX0_compile_6 (Or.inl ⟨q645, (Or.inl rfl)⟩) xh1001) rfl (xcC0 (xokc_list (List.forall_mem_cons.mpr ⟨xokc_V (r := (RX1, TX1, 7)) xm31 (List.mem_of_getElem? (i := 1) rfl) (by decide) rfl dX0_compile_9 q688 q689 q690 q139 q691 (by decide +kernel), fun _ h => nomatch h⟩)) rfl (xcP (xok_aload_n dX0_compile_12 rfl) rfl (xcP (xok_getfield (ref := "WaysAtlas") (Or.inr ⟨rfl, by decide⟩) dX0_compile_13 (Or.inl ⟨q646, (Or.inl rfl)⟩) xh1002) rfl (xcC0 (xokc_list (List.forall_mem_cons.mpr ⟨xokc_V (r := (RX2, TX2, 13)) xm40 (List.mem_of_getElem? (i := 2) rfl) (by decide) rfl dX0_compile_16 q768 q769 q770 q140 q771 (by decide +kernel), fun _ h => nomatch h⟩)) rfl (xcP (xok_astore_n dX0_compile_19 rfl) rfl (xcP (xok_goto dX0_compile_20 (by decide)) rfl trivial))))))))))
theorem okX0_compile_23 : XOkL xms rX0_compile bX0_compile_23 := xcP (xok_astore_n dX0_compile_23 rfl) rfl (xcP (xok_aload_n dX0_compile_24 rfl) rfl (xcP (xok_aload_n dX0_compile_25 rfl) rfl (xcP (xok_getfield (ref := "WaysAtlas$Fault") (Or.inl ⟨rfl, by decide⟩) dX0_compile_26 (Or.inr ⟨⟨"WaysAtlas", (List.mem_of_getElem? (i := 93) rfl)⟩, (Or.inl rfl)⟩) xh74) rfl (xcP (xok_putfield (ref := "WaysAtlas") (Or.inl ⟨rfl, by decide, rfl⟩) dX0_compile_29 (Or.inl ⟨q648, (Or.inl rfl)⟩) (Or.inl rfl) xh1) rfl (xcP (xok_bipush dX0_compile_32 rfl) rfl (xcP (xok_aload_n dX0_compile_34 rfl) rfl (xcP (xok_getfield (ref := "WaysAtlas$Fault") (Or.inl ⟨rfl, by decide⟩) dX0_compile_35 (Or.inr ⟨⟨"WaysAtlas", (List.mem_of_getElem? (i := 94) rfl)⟩, (Or.inl rfl)⟩) xh75) rfl (xcP (xok_isub dX0_compile_38) rfl (xcR ⟨dX0_compile_39, rfl⟩)))))))))
theorem okX0_compile_40 : XOkL xms rX0_compile bX0_compile_40 := xcP (xok_aload_n dX0_compile_40 rfl) rfl (xcP (xok_iload_n dX0_compile_41 rfl) rfl (xcC0 (xokc_S xm5 rfl dX0_compile_42 q1233 q1234 q138 q1235 (by decide +kernel)) rfl (xcP (xok_astore_n dX0_compile_45 rfl) rfl (xcP (xok_aload_n dX0_compile_46 rfl) rfl (xcC0 (xokc_list (List.forall_mem_cons.mpr ⟨xokc_V (r := (RX33, TX33, 6)) xm273 (List.mem_of_getElem? (i := 30) rfl) (by decide) rfl dX0_compile_47 q1266 q1267 q1268 q179 q1269 (by decide +kernel), fun _ h => nomatch h⟩)) rfl (xcP (xok_ifeq dX0_compile_50 (by decide)) rfl (xcP (xok_aload_n dX0_compile_53 rfl) rfl (xcP (xok_iconst dX0_compile_54 rfl) rfl (xcC0 (xokc_S xm5 rfl dX0_compile_55 q1233 q1234 q138 q1235 (by decide +kernel)) rfl (xcP (xok_astore_n dX0_compile_58 rfl) rfl (xcP xok_fal rfl trivial)))))))))))
theorem okX0_compile_59 : XOkL xms rX0_compile bX0_compile_59 := xcP (xok_aload_n dX0_compile_59 rfl) rfl (xcP (xok_aload_n dX0_compile_60 rfl) rfl (xcP (xok_putfield (ref := "WaysAtlas$Program") (Or.inr (Or.inr ⟨rfl, by decide, rfl⟩)) dX0_compile_61 (Or.inr ⟨⟨"WaysAtlas", (List.mem_of_getElem? (i := 95) rfl)⟩, (Or.inl rfl)⟩) (Or.inl rfl) xh1025) rfl (xcP (xok_aload_n dX0_compile_64 rfl) rfl (xcP (xok_aload_n dX0_compile_65 rfl) rfl (xcP (xok_putfield (ref := "WaysAtlas") (Or.inr (Or.inr ⟨rfl, by decide, rfl⟩)) dX0_compile_66 (Or.inl ⟨q647, (Or.inl rfl)⟩) (Or.inl rfl) xh1003) rfl (xcP (xok_aload_n dX0_compile_69 rfl) rfl (xcP (xok_getfield (ref := "WaysAtlas") (Or.inr ⟨rfl, by decide⟩) dX0_compile_70 (Or.inl ⟨q649, (Or.inl rfl)⟩) xh1004) rfl (xcP (xok_iconst dX0_compile_73 rfl) rfl (xcP (xok_putfield (ref := "WaysAtlas$Plan") (Or.inl ⟨rfl, by decide, rfl⟩) dX0_compile_74 (Or.inr ⟨⟨"WaysAtlas", (List.mem_of_getElem? (i := 96) rfl)⟩, (Or.inl rfl)⟩) (Or.inl rfl) xh16) rfl (xcP (xok_aload_n dX0_compile_77 rfl) rfl (xcC0 (xokc_list (List.forall_mem_cons.mpr ⟨xokc_V (r := (RX0, TX0, 10)) xm1 (List.mem_of_getElem? (i := 0) rfl) (by decide) rfl dX0_compile_78 q352 q354 qs0 q138 q355 (by decide +kernel), fun _ h => nomatch h⟩)) rfl (xcP (xok_aload_n dX0_compile_81 rfl) rfl (xcP (xok_getfield (ref := "WaysAtlas$Program") (Or.inl ⟨rfl, by decide⟩) dX0_compile_82 (Or.inr ⟨⟨"WaysAtlas", (List.mem_of_getElem? (i := 97) rfl)⟩, (Or.inl rfl)⟩) xh14) rfl (xcR ⟨dX0_compile_85, rfl⟩))))))))))))))
theorem okH_X0_compile : XOkH rX0_compile := xhand (hs := [((12, 20, 23, 127), 11, "WaysAtlas$Fault")]) rfl (List.forall_mem_cons.mpr ⟨Or.inr ⟨by decide, q687, Or.inr (Or.inr ⟨rfl, rfl⟩)⟩, fun _ h => nomatch h⟩) (fun pc kd => by show hX0_compile pc kd = _; simp only [hX0_compile, xhf]; grind)
theorem okM_X0_compile : XOkM xms rX0_compile := xokM0 (List.forall_mem_cons.mpr ⟨⟨rfl, okX0_compile_0⟩, List.forall_mem_cons.mpr ⟨⟨rfl, okX0_compile_23⟩, List.forall_mem_cons.mpr ⟨⟨rfl, okX0_compile_40⟩, List.forall_mem_cons.mpr ⟨⟨rfl, okX0_compile_59⟩, fun _ h => nomatch h⟩⟩⟩⟩) okH_X0_compile (by decide +kernel) (by decide)
abbrev cX0_lowered : ByteArray := prog_1_method_6_code
def dkwX0_lowered_1 : List UInt8 := [154, 0, 19, 44, 42, 180, 0, 109, 29, 50, 182, 0, 113, 132, 3, 1, 167, 255, 228, 44, 176]
abbrev dktX0_lowered_1 : List UInt8 := dkwX0_lowered_1 ++ []
def dkwX0_lowered_0 : List UInt8 := [187, 0, 97, 89, 27, 183, 0, 99, 77, 3, 62, 29, 42, 180, 0, 102, 162, 0, 26, 44, 182, 0, 105]
abbrev dktX0_lowered_0 : List UInt8 := dkwX0_lowered_0 ++ dktX0_lowered_1
theorem dksX0_lowered_0 : cX0_lowered.data.toList.drop 0 = dktX0_lowered_0 := by decide +kernel
theorem dksX0_lowered_1 : cX0_lowered.data.toList.drop 23 = dktX0_lowered_1 := dk_seg dksX0_lowered_0 23 rfl rfl
theorem dX0_lowered_0 : decode cX0_lowered 0 = .ok (.new 97, 3) := dk_187 0 97 (dk_at dksX0_lowered_0 0 rfl rfl)
theorem dX0_lowered_3 : decode cX0_lowered 3 = .ok (.dup, 1) := dk_89 (dk_at dksX0_lowered_0 3 rfl rfl)
theorem dX0_lowered_4 : decode cX0_lowered 4 = .ok (.iload_n 1, 1) := dk_27 (dk_at dksX0_lowered_0 4 rfl rfl)
theorem dX0_lowered_5 : decode cX0_lowered 5 = .ok (.invokespecial 99, 3) := dk_183 0 99 (dk_at dksX0_lowered_0 5 rfl rfl)
theorem dX0_lowered_8 : decode cX0_lowered 8 = .ok (.astore_n 2, 1) := dk_77 (dk_at dksX0_lowered_0 8 rfl rfl)
theorem dX0_lowered_9 : decode cX0_lowered 9 = .ok (.iconst 0, 1) := dk_3 (dk_at dksX0_lowered_0 9 rfl rfl)
theorem dX0_lowered_10 : decode cX0_lowered 10 = .ok (.istore_n 3, 1) := dk_62 (dk_at dksX0_lowered_0 10 rfl rfl)
theorem dX0_lowered_11 : decode cX0_lowered 11 = .ok (.iload_n 3, 1) := dk_29 (dk_at dksX0_lowered_0 11 rfl rfl)
theorem dX0_lowered_12 : decode cX0_lowered 12 = .ok (.aload_n 0, 1) := dk_42 (dk_at dksX0_lowered_0 12 rfl rfl)
theorem dX0_lowered_13 : decode cX0_lowered 13 = .ok (.getfield 102, 3) := dk_180 0 102 (dk_at dksX0_lowered_0 13 rfl rfl)
theorem dX0_lowered_16 : decode cX0_lowered 16 = .ok (.if_icmp .ge 26, 3) := dk_162 0 26 (dk_at dksX0_lowered_0 16 rfl rfl)
theorem dX0_lowered_19 : decode cX0_lowered 19 = .ok (.aload_n 2, 1) := dk_44 (dk_at dksX0_lowered_0 19 rfl rfl)
theorem dX0_lowered_20 : decode cX0_lowered 20 = .ok (.invokevirtual 105, 3) := dk_182 0 105 (dk_at dksX0_lowered_0 20 rfl rfl)
theorem dX0_lowered_23 : decode cX0_lowered 23 = .ok (.ifCond .ne 19, 3) := dk_154 0 19 (dk_at dksX0_lowered_1 0 rfl rfl)
theorem dX0_lowered_26 : decode cX0_lowered 26 = .ok (.aload_n 2, 1) := dk_44 (dk_at dksX0_lowered_1 3 rfl rfl)
theorem dX0_lowered_27 : decode cX0_lowered 27 = .ok (.aload_n 0, 1) := dk_42 (dk_at dksX0_lowered_1 4 rfl rfl)
theorem dX0_lowered_28 : decode cX0_lowered 28 = .ok (.getfield 109, 3) := dk_180 0 109 (dk_at dksX0_lowered_1 5 rfl rfl)
theorem dX0_lowered_31 : decode cX0_lowered 31 = .ok (.iload_n 3, 1) := dk_29 (dk_at dksX0_lowered_1 8 rfl rfl)
theorem dX0_lowered_32 : decode cX0_lowered 32 = .ok (.aaload, 1) := dk_50 (dk_at dksX0_lowered_1 9 rfl rfl)
theorem dX0_lowered_33 : decode cX0_lowered 33 = .ok (.invokevirtual 113, 3) := dk_182 0 113 (dk_at dksX0_lowered_1 10 rfl rfl)
theorem dX0_lowered_36 : decode cX0_lowered 36 = .ok (.iinc 3 1, 3) := dk_132 3 1 (dk_at dksX0_lowered_1 13 rfl rfl)
theorem dX0_lowered_39 : decode cX0_lowered 39 = .ok (.goto (-28), 3) := dk_167 255 228 (dk_at dksX0_lowered_1 16 rfl rfl)
theorem dX0_lowered_42 : decode cX0_lowered 42 = .ok (.aload_n 2, 1) := dk_44 (dk_at dksX0_lowered_1 19 rfl rfl)
theorem dX0_lowered_43 : decode cX0_lowered 43 = .ok (.areturn, 1) := dk_176 (dk_at dksX0_lowered_1 20 rfl rfl)
theorem okX0_lowered_0 : XOkL xms rX0_lowered bX0_lowered_0 := xcP (xok_new (r := (RX33, TX33, 6)) (List.mem_of_getElem? (i := 30) rfl) rfl (by decide) dX0_lowered_0 q1236 q1237 q179) rfl (xcP (xok_dup dX0_lowered_3) rfl (xcP (xok_iload_n dX0_lowered_4 rfl) rfl (xcC0 (xokc_I xm272 rfl rfl dX0_lowered_5 q1238 q1239 q179 q1240 rfl (by decide +kernel)) rfl (xcP (xok_astore_n dX0_lowered_8 rfl) rfl (xcP (xok_iconst dX0_lowered_9 rfl) rfl (xcP (xok_istore_n dX0_lowered_10 rfl) rfl (xcP xok_fal rfl trivial)))))))
theorem okX0_lowered_11 : XOkL xms rX0_lowered bX0_lowered_11 := xcP (xok_iload_n dX0_lowered_11 rfl) rfl (xcP (xok_aload_n dX0_lowered_12 rfl) rfl (xcP (xok_getfield (ref := "WaysAtlas$Program") (Or.inl ⟨rfl, by decide⟩) dX0_lowered_13 (Or.inr ⟨⟨"WaysAtlas", (List.mem_of_getElem? (i := 91) rfl)⟩, (Or.inl rfl)⟩) xh12) rfl (xcP (xok_icmpge dX0_lowered_16 (by decide)) rfl (xcP (xok_aload_n dX0_lowered_19 rfl) rfl (xcC0 (xokc_list (List.forall_mem_cons.mpr ⟨xokc_V (r := (RX33, TX33, 6)) xm273 (List.mem_of_getElem? (i := 30) rfl) (by decide) rfl dX0_lowered_20 q1266 q1267 q1268 q179 q1269 (by decide +kernel), fun _ h => nomatch h⟩)) rfl (xcP (xok_ifne dX0_lowered_23 (by decide)) rfl (xcP (xok_aload_n dX0_lowered_26 rfl) rfl (xcP (xok_aload_n dX0_lowered_27 rfl) rfl (xcP (xok_getfield (ref := "WaysAtlas$Program") (Or.inr ⟨rfl, by decide⟩) dX0_lowered_28 (Or.inr ⟨⟨"WaysAtlas", (List.mem_of_getElem? (i := 92) rfl)⟩, (Or.inl rfl)⟩) xh1020) rfl (xcP (xok_iload_n dX0_lowered_31 rfl) rfl (xcP (xok_aaload (by decide) rfl dX0_lowered_32) rfl (xcC0 (xokc_list (List.forall_mem_cons.mpr ⟨xokc_V (r := (RX33, TX33, 6)) xm274 (List.mem_of_getElem? (i := 30) rfl) (by decide) rfl dX0_lowered_33 q1270 q1271 q1272 q179 q1273 (by decide +kernel), fun _ h => nomatch h⟩)) rfl (xcP (xok_iinc dX0_lowered_36 rfl) rfl (xcP (xok_goto dX0_lowered_39 (by decide)) rfl trivial))))))))))))))
theorem okX0_lowered_42 : XOkL xms rX0_lowered bX0_lowered_42 := xcP (xok_aload_n dX0_lowered_42 rfl) rfl (xcR ⟨dX0_lowered_43, _, rfl, Or.inl ⟨_, rfl⟩⟩)
theorem okM_X0_lowered : XOkM xms rX0_lowered := xokM0 (List.forall_mem_cons.mpr ⟨⟨rfl, okX0_lowered_0⟩, List.forall_mem_cons.mpr ⟨⟨rfl, okX0_lowered_11⟩, List.forall_mem_cons.mpr ⟨⟨rfl, okX0_lowered_42⟩, fun _ h => nomatch h⟩⟩⟩) (xokH0 rfl (fun _ _ => rfl)) (by decide +kernel) (by decide)
abbrev cX0_fault : ByteArray := prog_1_method_8_code
theorem dX0_fault_0 : decode cX0_fault 0 = .ok (.aload_n 0, 1) := by decide +kernel
theorem dX0_fault_1 : decode cX0_fault 1 = .ok (.getfield 117, 3) := by decide +kernel
theorem dX0_fault_4 : decode cX0_fault 4 = .ok (.ireturn, 1) := by decide +kernel
theorem okX0_fault_0 : XOkL xms rX0_fault bX0_fault_0 := xcP (xok_aload_n dX0_fault_0 rfl) rfl (xcP (xok_getfield (ref := "WaysAtlas") (Or.inl ⟨rfl, by decide⟩) dX0_fault_1 (Or.inl ⟨q648, (Or.inl rfl)⟩) xh1) rfl (xcR ⟨dX0_fault_4, rfl⟩))
theorem okM_X0_fault : XOkM xms rX0_fault := xokM0 (List.forall_mem_cons.mpr ⟨⟨rfl, okX0_fault_0⟩, fun _ h => nomatch h⟩) (xokH0 rfl (fun _ _ => rfl)) (by decide +kernel) (by decide)
abbrev cX0_count : ByteArray := prog_1_method_9_code
def dkwX0_count_3 : List UInt8 := [42, 180, 0, 50, 180, 0, 148, 172, 42, 180, 0, 57, 180, 0, 143, 172, 2, 172]
abbrev dktX0_count_3 : List UInt8 := dkwX0_count_3 ++ []
def dkwX0_count_2 : List UInt8 := [42, 180, 0, 50, 180, 0, 144, 172, 42, 180, 0, 50, 180, 0, 102, 172, 42, 180, 0, 50, 180, 0, 145, 172]
abbrev dktX0_count_2 : List UInt8 := dkwX0_count_2 ++ dktX0_count_3
def dkwX0_count_1 : List UInt8 := [170, 0, 0, 0, 0, 74, 0, 0, 0, 0, 0, 0, 0, 4, 0, 0, 0, 34, 0, 0, 0, 42, 0, 0, 0, 50, 0, 0, 0, 58, 0, 0, 0, 66]
abbrev dktX0_count_1 : List UInt8 := dkwX0_count_1 ++ dktX0_count_2
def dkwX0_count_0 : List UInt8 := [27, 7, 159, 0, 15, 42, 180, 0, 50, 180, 0, 102, 154, 0, 5, 2, 172, 27]
abbrev dktX0_count_0 : List UInt8 := dkwX0_count_0 ++ dktX0_count_1
theorem dksX0_count_0 : cX0_count.data.toList.drop 0 = dktX0_count_0 := by decide +kernel
theorem dksX0_count_1 : cX0_count.data.toList.drop 18 = dktX0_count_1 := dk_seg dksX0_count_0 18 rfl rfl
theorem dksX0_count_2 : cX0_count.data.toList.drop 52 = dktX0_count_2 := dk_seg dksX0_count_1 34 rfl rfl
theorem dksX0_count_3 : cX0_count.data.toList.drop 76 = dktX0_count_3 := dk_seg dksX0_count_2 24 rfl rfl
theorem dX0_count_0 : decode cX0_count 0 = .ok (.iload_n 1, 1) := dk_27 (dk_at dksX0_count_0 0 rfl rfl)
theorem dX0_count_1 : decode cX0_count 1 = .ok (.iconst 4, 1) := dk_7 (dk_at dksX0_count_0 1 rfl rfl)
theorem dX0_count_2 : decode cX0_count 2 = .ok (.if_icmp .eq 15, 3) := dk_159 0 15 (dk_at dksX0_count_0 2 rfl rfl)
theorem dX0_count_5 : decode cX0_count 5 = .ok (.aload_n 0, 1) := dk_42 (dk_at dksX0_count_0 5 rfl rfl)
theorem dX0_count_6 : decode cX0_count 6 = .ok (.getfield 50, 3) := dk_180 0 50 (dk_at dksX0_count_0 6 rfl rfl)
theorem dX0_count_9 : decode cX0_count 9 = .ok (.getfield 102, 3) := dk_180 0 102 (dk_at dksX0_count_0 9 rfl rfl)
theorem dX0_count_12 : decode cX0_count 12 = .ok (.ifCond .ne 5, 3) := dk_154 0 5 (dk_at dksX0_count_0 12 rfl rfl)
theorem dX0_count_15 : decode cX0_count 15 = .ok (.iconst (-1), 1) := dk_2 (dk_at dksX0_count_0 15 rfl rfl)
theorem dX0_count_16 : decode cX0_count 16 = .ok (.ireturn, 1) := dk_172 (dk_at dksX0_count_0 16 rfl rfl)
theorem dX0_count_17 : decode cX0_count 17 = .ok (.iload_n 1, 1) := dk_27 (dk_at dksX0_count_0 17 rfl rfl)
theorem dX0_count_18 : decode cX0_count 18 = .ok (.tableswitch 74 0 4 #[34, 42, 50, 58, 66], 34) := by decide +kernel
theorem dX0_count_52 : decode cX0_count 52 = .ok (.aload_n 0, 1) := dk_42 (dk_at dksX0_count_2 0 rfl rfl)
theorem dX0_count_53 : decode cX0_count 53 = .ok (.getfield 50, 3) := dk_180 0 50 (dk_at dksX0_count_2 1 rfl rfl)
theorem dX0_count_56 : decode cX0_count 56 = .ok (.getfield 144, 3) := dk_180 0 144 (dk_at dksX0_count_2 4 rfl rfl)
theorem dX0_count_59 : decode cX0_count 59 = .ok (.ireturn, 1) := dk_172 (dk_at dksX0_count_2 7 rfl rfl)
theorem dX0_count_60 : decode cX0_count 60 = .ok (.aload_n 0, 1) := dk_42 (dk_at dksX0_count_2 8 rfl rfl)
theorem dX0_count_61 : decode cX0_count 61 = .ok (.getfield 50, 3) := dk_180 0 50 (dk_at dksX0_count_2 9 rfl rfl)
theorem dX0_count_64 : decode cX0_count 64 = .ok (.getfield 102, 3) := dk_180 0 102 (dk_at dksX0_count_2 12 rfl rfl)
theorem dX0_count_67 : decode cX0_count 67 = .ok (.ireturn, 1) := dk_172 (dk_at dksX0_count_2 15 rfl rfl)
theorem dX0_count_68 : decode cX0_count 68 = .ok (.aload_n 0, 1) := dk_42 (dk_at dksX0_count_2 16 rfl rfl)
theorem dX0_count_69 : decode cX0_count 69 = .ok (.getfield 50, 3) := dk_180 0 50 (dk_at dksX0_count_2 17 rfl rfl)
theorem dX0_count_72 : decode cX0_count 72 = .ok (.getfield 145, 3) := dk_180 0 145 (dk_at dksX0_count_2 20 rfl rfl)
theorem dX0_count_75 : decode cX0_count 75 = .ok (.ireturn, 1) := dk_172 (dk_at dksX0_count_2 23 rfl rfl)
theorem dX0_count_76 : decode cX0_count 76 = .ok (.aload_n 0, 1) := dk_42 (dk_at dksX0_count_3 0 rfl rfl)
theorem dX0_count_77 : decode cX0_count 77 = .ok (.getfield 50, 3) := dk_180 0 50 (dk_at dksX0_count_3 1 rfl rfl)
theorem dX0_count_80 : decode cX0_count 80 = .ok (.getfield 148, 3) := dk_180 0 148 (dk_at dksX0_count_3 4 rfl rfl)
theorem dX0_count_83 : decode cX0_count 83 = .ok (.ireturn, 1) := dk_172 (dk_at dksX0_count_3 7 rfl rfl)
theorem dX0_count_84 : decode cX0_count 84 = .ok (.aload_n 0, 1) := dk_42 (dk_at dksX0_count_3 8 rfl rfl)
theorem dX0_count_85 : decode cX0_count 85 = .ok (.getfield 57, 3) := dk_180 0 57 (dk_at dksX0_count_3 9 rfl rfl)
theorem dX0_count_88 : decode cX0_count 88 = .ok (.getfield 143, 3) := dk_180 0 143 (dk_at dksX0_count_3 12 rfl rfl)
theorem dX0_count_91 : decode cX0_count 91 = .ok (.ireturn, 1) := dk_172 (dk_at dksX0_count_3 15 rfl rfl)
theorem dX0_count_92 : decode cX0_count 92 = .ok (.iconst (-1), 1) := dk_2 (dk_at dksX0_count_3 16 rfl rfl)
theorem dX0_count_93 : decode cX0_count 93 = .ok (.ireturn, 1) := dk_172 (dk_at dksX0_count_3 17 rfl rfl)
theorem okX0_count_0 : XOkL xms rX0_count bX0_count_0 := xcP (xok_iload_n dX0_count_0 rfl) rfl (xcP (xok_iconst dX0_count_1 rfl) rfl (xcP (xok_icmpeq dX0_count_2 (by decide)) rfl (xcP (xok_aload_n dX0_count_5 rfl) rfl (xcP (xok_getfield (ref := "WaysAtlas") (Or.inr ⟨rfl, by decide⟩) dX0_count_6 (Or.inl ⟨q647, (Or.inl rfl)⟩) xh1003) rfl (xcP (xok_getfield (ref := "WaysAtlas$Program") (Or.inl ⟨rfl, by decide⟩) dX0_count_9 (Or.inr ⟨⟨"WaysAtlas", (List.mem_of_getElem? (i := 91) rfl)⟩, (Or.inl rfl)⟩) xh12) rfl (xcP (xok_ifne dX0_count_12 (by decide)) rfl (xcP (xok_iconst dX0_count_15 rfl) rfl (xcR ⟨dX0_count_16, rfl⟩))))))))
theorem okX0_count_17 : XOkL xms rX0_count bX0_count_17 := xcP (xok_iload_n dX0_count_17 rfl) rfl (xcP (xok_tsw dX0_count_18 (by decide) (by decide) (by decide)) rfl trivial)
theorem okX0_count_52 : XOkL xms rX0_count bX0_count_52 := xcP (xok_aload_n dX0_count_52 rfl) rfl (xcP (xok_getfield (ref := "WaysAtlas") (Or.inr ⟨rfl, by decide⟩) dX0_count_53 (Or.inl ⟨q647, (Or.inl rfl)⟩) xh1003) rfl (xcP (xok_getfield (ref := "WaysAtlas$Program") (Or.inl ⟨rfl, by decide⟩) dX0_count_56 (Or.inr ⟨⟨"WaysAtlas", (List.mem_of_getElem? (i := 97) rfl)⟩, (Or.inl rfl)⟩) xh14) rfl (xcR ⟨dX0_count_59, rfl⟩)))
theorem okX0_count_60 : XOkL xms rX0_count bX0_count_60 := xcP (xok_aload_n dX0_count_60 rfl) rfl (xcP (xok_getfield (ref := "WaysAtlas") (Or.inr ⟨rfl, by decide⟩) dX0_count_61 (Or.inl ⟨q647, (Or.inl rfl)⟩) xh1003) rfl (xcP (xok_getfield (ref := "WaysAtlas$Program") (Or.inl ⟨rfl, by decide⟩) dX0_count_64 (Or.inr ⟨⟨"WaysAtlas", (List.mem_of_getElem? (i := 91) rfl)⟩, (Or.inl rfl)⟩) xh12) rfl (xcR ⟨dX0_count_67, rfl⟩)))
theorem okX0_count_68 : XOkL xms rX0_count bX0_count_68 := xcP (xok_aload_n dX0_count_68 rfl) rfl (xcP (xok_getfield (ref := "WaysAtlas") (Or.inr ⟨rfl, by decide⟩) dX0_count_69 (Or.inl ⟨q647, (Or.inl rfl)⟩) xh1003) rfl (xcP (xok_getfield (ref := "WaysAtlas$Program") (Or.inl ⟨rfl, by decide⟩) dX0_count_72 (Or.inr ⟨⟨"WaysAtlas", (List.mem_of_getElem? (i := 98) rfl)⟩, (Or.inl rfl)⟩) xh13) rfl (xcR ⟨dX0_count_75, rfl⟩)))
theorem okX0_count_76 : XOkL xms rX0_count bX0_count_76 := xcP (xok_aload_n dX0_count_76 rfl) rfl (xcP (xok_getfield (ref := "WaysAtlas") (Or.inr ⟨rfl, by decide⟩) dX0_count_77 (Or.inl ⟨q647, (Or.inl rfl)⟩) xh1003) rfl (xcP (xok_getfield (ref := "WaysAtlas$Program") (Or.inl ⟨rfl, by decide⟩) dX0_count_80 (Or.inr ⟨⟨"WaysAtlas", (List.mem_of_getElem? (i := 99) rfl)⟩, (Or.inl rfl)⟩) xh15) rfl (xcR ⟨dX0_count_83, rfl⟩)))
theorem okX0_count_84 : XOkL xms rX0_count bX0_count_84 := xcP (xok_aload_n dX0_count_84 rfl) rfl (xcP (xok_getfield (ref := "WaysAtlas") (Or.inr ⟨rfl, by decide⟩) dX0_count_85 (Or.inl ⟨q649, (Or.inl rfl)⟩) xh1004) rfl (xcP (xok_getfield (ref := "WaysAtlas$Plan") (Or.inl ⟨rfl, by decide⟩) dX0_count_88 (Or.inr ⟨⟨"WaysAtlas", (List.mem_of_getElem? (i := 96) rfl)⟩, (Or.inl rfl)⟩) xh16) rfl (xcR ⟨dX0_count_91, rfl⟩)))
theorem okX0_count_92 : XOkL xms rX0_count bX0_count_92 := xcP (xok_iconst dX0_count_92 rfl) rfl (xcR ⟨dX0_count_93, rfl⟩)
theorem okM_X0_count : XOkM xms rX0_count := xokM0 (List.forall_mem_cons.mpr ⟨⟨rfl, okX0_count_0⟩, List.forall_mem_cons.mpr ⟨⟨rfl, okX0_count_17⟩, List.forall_mem_cons.mpr ⟨⟨rfl, okX0_count_52⟩, List.forall_mem_cons.mpr ⟨⟨rfl, okX0_count_60⟩, List.forall_mem_cons.mpr ⟨⟨rfl, okX0_count_68⟩, List.forall_mem_cons.mpr ⟨⟨rfl, okX0_count_76⟩, List.forall_mem_cons.mpr ⟨⟨rfl, okX0_count_84⟩, List.forall_mem_cons.mpr ⟨⟨rfl, okX0_count_92⟩, fun _ h => nomatch h⟩⟩⟩⟩⟩⟩⟩⟩) (xokH0 rfl (fun _ _ => rfl)) (by decide +kernel) (by decide)
abbrev cX0_plan : ByteArray := prog_1_method_11_code
def dkwX0_plan_7 : List UInt8 := [180, 0, 57, 89, 180, 0, 143, 4, 96, 181, 0, 143, 42, 180, 0, 57, 180, 0, 143, 172]
abbrev dktX0_plan_7 : List UInt8 := dkwX0_plan_7 ++ []
def dkwX0_plan_6 : List UInt8 := [180, 0, 143, 29, 79, 42, 180, 0, 57, 180, 0, 173, 42, 180, 0, 57, 180, 0, 143, 21, 4, 79, 42]
abbrev dktX0_plan_6 : List UInt8 := dkwX0_plan_6 ++ dktX0_plan_7
def dkwX0_plan_5 : List UInt8 := [180, 0, 57, 180, 0, 143, 16, 7, 27, 104, 28, 96, 79, 42, 180, 0, 57, 180, 0, 170, 42, 180, 0, 57]
abbrev dktX0_plan_5 : List UInt8 := dkwX0_plan_5 ++ dktX0_plan_6
def dkwX0_plan_4 : List UInt8 := [180, 0, 57, 180, 0, 143, 16, 30, 160, 0, 6, 16, 254, 172, 42, 180, 0, 57, 180, 0, 166, 42]
abbrev dktX0_plan_4 : List UInt8 := dkwX0_plan_4 ++ dktX0_plan_5
def dkwX0_plan_3 : List UInt8 := [154, 0, 21, 167, 0, 16, 28, 4, 100, 6, 112, 25, 5, 182, 0, 162, 161, 0, 5, 2, 172, 42]
abbrev dktX0_plan_3 : List UInt8 := dkwX0_plan_3 ++ dktX0_plan_4
def dkwX0_plan_2 : List UInt8 := [2, 172, 42, 180, 0, 50, 180, 0, 155, 27, 50, 58, 5, 28, 154, 0, 14, 25, 5, 182, 0, 159]
abbrev dktX0_plan_2 : List UInt8 := dkwX0_plan_2 ++ dktX0_plan_3
def dkwX0_plan_1 : List UInt8 := [184, 0, 86, 153, 0, 21, 21, 4, 3, 42, 180, 0, 50, 180, 0, 145, 4, 100, 184, 0, 86, 154, 0, 5]
abbrev dktX0_plan_1 : List UInt8 := dkwX0_plan_1 ++ dktX0_plan_2
def dkwX0_plan_0 : List UInt8 := [42, 27, 182, 0, 151, 153, 0, 42, 28, 3, 16, 6, 184, 0, 86, 153, 0, 32, 29, 4, 17, 1, 144]
abbrev dktX0_plan_0 : List UInt8 := dkwX0_plan_0 ++ dktX0_plan_1
theorem dksX0_plan_0 : cX0_plan.data.toList.drop 0 = dktX0_plan_0 := by decide +kernel
theorem dksX0_plan_1 : cX0_plan.data.toList.drop 23 = dktX0_plan_1 := dk_seg dksX0_plan_0 23 rfl rfl
theorem dksX0_plan_2 : cX0_plan.data.toList.drop 47 = dktX0_plan_2 := dk_seg dksX0_plan_1 24 rfl rfl
theorem dksX0_plan_3 : cX0_plan.data.toList.drop 69 = dktX0_plan_3 := dk_seg dksX0_plan_2 22 rfl rfl
theorem dksX0_plan_4 : cX0_plan.data.toList.drop 91 = dktX0_plan_4 := dk_seg dksX0_plan_3 22 rfl rfl
theorem dksX0_plan_5 : cX0_plan.data.toList.drop 113 = dktX0_plan_5 := dk_seg dksX0_plan_4 22 rfl rfl
theorem dksX0_plan_6 : cX0_plan.data.toList.drop 137 = dktX0_plan_6 := dk_seg dksX0_plan_5 24 rfl rfl
theorem dksX0_plan_7 : cX0_plan.data.toList.drop 160 = dktX0_plan_7 := dk_seg dksX0_plan_6 23 rfl rfl
theorem dX0_plan_0 : decode cX0_plan 0 = .ok (.aload_n 0, 1) := dk_42 (dk_at dksX0_plan_0 0 rfl rfl)
theorem dX0_plan_1 : decode cX0_plan 1 = .ok (.iload_n 1, 1) := dk_27 (dk_at dksX0_plan_0 1 rfl rfl)
theorem dX0_plan_2 : decode cX0_plan 2 = .ok (.invokevirtual 151, 3) := dk_182 0 151 (dk_at dksX0_plan_0 2 rfl rfl)
theorem dX0_plan_5 : decode cX0_plan 5 = .ok (.ifCond .eq 42, 3) := dk_153 0 42 (dk_at dksX0_plan_0 5 rfl rfl)
theorem dX0_plan_8 : decode cX0_plan 8 = .ok (.iload_n 2, 1) := dk_28 (dk_at dksX0_plan_0 8 rfl rfl)
theorem dX0_plan_9 : decode cX0_plan 9 = .ok (.iconst 0, 1) := dk_3 (dk_at dksX0_plan_0 9 rfl rfl)
theorem dX0_plan_10 : decode cX0_plan 10 = .ok (.bipush 6, 2) := dk_16 6 (dk_at dksX0_plan_0 10 rfl rfl)
theorem dX0_plan_12 : decode cX0_plan 12 = .ok (.invokestatic 86, 3) := dk_184 0 86 (dk_at dksX0_plan_0 12 rfl rfl)
theorem dX0_plan_15 : decode cX0_plan 15 = .ok (.ifCond .eq 32, 3) := dk_153 0 32 (dk_at dksX0_plan_0 15 rfl rfl)
theorem dX0_plan_18 : decode cX0_plan 18 = .ok (.iload_n 3, 1) := dk_29 (dk_at dksX0_plan_0 18 rfl rfl)
theorem dX0_plan_19 : decode cX0_plan 19 = .ok (.iconst 1, 1) := dk_4 (dk_at dksX0_plan_0 19 rfl rfl)
theorem dX0_plan_20 : decode cX0_plan 20 = .ok (.sipush 400, 3) := dk_17 1 144 (dk_at dksX0_plan_0 20 rfl rfl)
theorem dX0_plan_23 : decode cX0_plan 23 = .ok (.invokestatic 86, 3) := dk_184 0 86 (dk_at dksX0_plan_1 0 rfl rfl)
theorem dX0_plan_26 : decode cX0_plan 26 = .ok (.ifCond .eq 21, 3) := dk_153 0 21 (dk_at dksX0_plan_1 3 rfl rfl)
theorem dX0_plan_29 : decode cX0_plan 29 = .ok (.iload 4, 2) := dk_21 4 (dk_at dksX0_plan_1 6 rfl rfl)
theorem dX0_plan_31 : decode cX0_plan 31 = .ok (.iconst 0, 1) := dk_3 (dk_at dksX0_plan_1 8 rfl rfl)
theorem dX0_plan_32 : decode cX0_plan 32 = .ok (.aload_n 0, 1) := dk_42 (dk_at dksX0_plan_1 9 rfl rfl)
theorem dX0_plan_33 : decode cX0_plan 33 = .ok (.getfield 50, 3) := dk_180 0 50 (dk_at dksX0_plan_1 10 rfl rfl)
theorem dX0_plan_36 : decode cX0_plan 36 = .ok (.getfield 145, 3) := dk_180 0 145 (dk_at dksX0_plan_1 13 rfl rfl)
theorem dX0_plan_39 : decode cX0_plan 39 = .ok (.iconst 1, 1) := dk_4 (dk_at dksX0_plan_1 16 rfl rfl)
theorem dX0_plan_40 : decode cX0_plan 40 = .ok (.isub, 1) := dk_100 (dk_at dksX0_plan_1 17 rfl rfl)
theorem dX0_plan_41 : decode cX0_plan 41 = .ok (.invokestatic 86, 3) := dk_184 0 86 (dk_at dksX0_plan_1 18 rfl rfl)
theorem dX0_plan_44 : decode cX0_plan 44 = .ok (.ifCond .ne 5, 3) := dk_154 0 5 (dk_at dksX0_plan_1 21 rfl rfl)
theorem dX0_plan_47 : decode cX0_plan 47 = .ok (.iconst (-1), 1) := dk_2 (dk_at dksX0_plan_2 0 rfl rfl)
theorem dX0_plan_48 : decode cX0_plan 48 = .ok (.ireturn, 1) := dk_172 (dk_at dksX0_plan_2 1 rfl rfl)
theorem dX0_plan_49 : decode cX0_plan 49 = .ok (.aload_n 0, 1) := dk_42 (dk_at dksX0_plan_2 2 rfl rfl)
theorem dX0_plan_50 : decode cX0_plan 50 = .ok (.getfield 50, 3) := dk_180 0 50 (dk_at dksX0_plan_2 3 rfl rfl)
theorem dX0_plan_53 : decode cX0_plan 53 = .ok (.getfield 155, 3) := dk_180 0 155 (dk_at dksX0_plan_2 6 rfl rfl)
theorem dX0_plan_56 : decode cX0_plan 56 = .ok (.iload_n 1, 1) := dk_27 (dk_at dksX0_plan_2 9 rfl rfl)
theorem dX0_plan_57 : decode cX0_plan 57 = .ok (.aaload, 1) := dk_50 (dk_at dksX0_plan_2 10 rfl rfl)
theorem dX0_plan_58 : decode cX0_plan 58 = .ok (.astore 5, 2) := dk_58 5 (dk_at dksX0_plan_2 11 rfl rfl)
theorem dX0_plan_60 : decode cX0_plan 60 = .ok (.iload_n 2, 1) := dk_28 (dk_at dksX0_plan_2 13 rfl rfl)
theorem dX0_plan_61 : decode cX0_plan 61 = .ok (.ifCond .ne 14, 3) := dk_154 0 14 (dk_at dksX0_plan_2 14 rfl rfl)
theorem dX0_plan_64 : decode cX0_plan 64 = .ok (.aload 5, 2) := dk_25 5 (dk_at dksX0_plan_2 17 rfl rfl)
theorem dX0_plan_66 : decode cX0_plan 66 = .ok (.invokevirtual 159, 3) := dk_182 0 159 (dk_at dksX0_plan_2 19 rfl rfl)
theorem dX0_plan_69 : decode cX0_plan 69 = .ok (.ifCond .ne 21, 3) := dk_154 0 21 (dk_at dksX0_plan_3 0 rfl rfl)
theorem dX0_plan_72 : decode cX0_plan 72 = .ok (.goto 16, 3) := dk_167 0 16 (dk_at dksX0_plan_3 3 rfl rfl)
theorem dX0_plan_75 : decode cX0_plan 75 = .ok (.iload_n 2, 1) := dk_28 (dk_at dksX0_plan_3 6 rfl rfl)
theorem dX0_plan_76 : decode cX0_plan 76 = .ok (.iconst 1, 1) := dk_4 (dk_at dksX0_plan_3 7 rfl rfl)
theorem dX0_plan_77 : decode cX0_plan 77 = .ok (.isub, 1) := dk_100 (dk_at dksX0_plan_3 8 rfl rfl)
theorem dX0_plan_78 : decode cX0_plan 78 = .ok (.iconst 3, 1) := dk_6 (dk_at dksX0_plan_3 9 rfl rfl)
theorem dX0_plan_79 : decode cX0_plan 79 = .ok (.irem, 1) := dk_112 (dk_at dksX0_plan_3 10 rfl rfl)
theorem dX0_plan_80 : decode cX0_plan 80 = .ok (.aload 5, 2) := dk_25 5 (dk_at dksX0_plan_3 11 rfl rfl)
theorem dX0_plan_82 : decode cX0_plan 82 = .ok (.invokevirtual 162, 3) := dk_182 0 162 (dk_at dksX0_plan_3 13 rfl rfl)
theorem dX0_plan_85 : decode cX0_plan 85 = .ok (.if_icmp .lt 5, 3) := dk_161 0 5 (dk_at dksX0_plan_3 16 rfl rfl)
theorem dX0_plan_88 : decode cX0_plan 88 = .ok (.iconst (-1), 1) := dk_2 (dk_at dksX0_plan_3 19 rfl rfl)
theorem dX0_plan_89 : decode cX0_plan 89 = .ok (.ireturn, 1) := dk_172 (dk_at dksX0_plan_3 20 rfl rfl)
theorem dX0_plan_90 : decode cX0_plan 90 = .ok (.aload_n 0, 1) := dk_42 (dk_at dksX0_plan_3 21 rfl rfl)
theorem dX0_plan_91 : decode cX0_plan 91 = .ok (.getfield 57, 3) := dk_180 0 57 (dk_at dksX0_plan_4 0 rfl rfl)
theorem dX0_plan_94 : decode cX0_plan 94 = .ok (.getfield 143, 3) := dk_180 0 143 (dk_at dksX0_plan_4 3 rfl rfl)
theorem dX0_plan_97 : decode cX0_plan 97 = .ok (.bipush 30, 2) := dk_16 30 (dk_at dksX0_plan_4 6 rfl rfl)
theorem dX0_plan_99 : decode cX0_plan 99 = .ok (.if_icmp .ne 6, 3) := dk_160 0 6 (dk_at dksX0_plan_4 8 rfl rfl)
theorem dX0_plan_102 : decode cX0_plan 102 = .ok (.bipush (-2), 2) := dk_16 254 (dk_at dksX0_plan_4 11 rfl rfl)
theorem dX0_plan_104 : decode cX0_plan 104 = .ok (.ireturn, 1) := dk_172 (dk_at dksX0_plan_4 13 rfl rfl)
theorem dX0_plan_105 : decode cX0_plan 105 = .ok (.aload_n 0, 1) := dk_42 (dk_at dksX0_plan_4 14 rfl rfl)
theorem dX0_plan_106 : decode cX0_plan 106 = .ok (.getfield 57, 3) := dk_180 0 57 (dk_at dksX0_plan_4 15 rfl rfl)
theorem dX0_plan_109 : decode cX0_plan 109 = .ok (.getfield 166, 3) := dk_180 0 166 (dk_at dksX0_plan_4 18 rfl rfl)
theorem dX0_plan_112 : decode cX0_plan 112 = .ok (.aload_n 0, 1) := dk_42 (dk_at dksX0_plan_4 21 rfl rfl)
theorem dX0_plan_113 : decode cX0_plan 113 = .ok (.getfield 57, 3) := dk_180 0 57 (dk_at dksX0_plan_5 0 rfl rfl)
theorem dX0_plan_116 : decode cX0_plan 116 = .ok (.getfield 143, 3) := dk_180 0 143 (dk_at dksX0_plan_5 3 rfl rfl)
theorem dX0_plan_119 : decode cX0_plan 119 = .ok (.bipush 7, 2) := dk_16 7 (dk_at dksX0_plan_5 6 rfl rfl)
theorem dX0_plan_121 : decode cX0_plan 121 = .ok (.iload_n 1, 1) := dk_27 (dk_at dksX0_plan_5 8 rfl rfl)
theorem dX0_plan_122 : decode cX0_plan 122 = .ok (.imul, 1) := dk_104 (dk_at dksX0_plan_5 9 rfl rfl)
theorem dX0_plan_123 : decode cX0_plan 123 = .ok (.iload_n 2, 1) := dk_28 (dk_at dksX0_plan_5 10 rfl rfl)
theorem dX0_plan_124 : decode cX0_plan 124 = .ok (.iadd, 1) := dk_96 (dk_at dksX0_plan_5 11 rfl rfl)
theorem dX0_plan_125 : decode cX0_plan 125 = .ok (.iastore, 1) := dk_79 (dk_at dksX0_plan_5 12 rfl rfl)
theorem dX0_plan_126 : decode cX0_plan 126 = .ok (.aload_n 0, 1) := dk_42 (dk_at dksX0_plan_5 13 rfl rfl)
theorem dX0_plan_127 : decode cX0_plan 127 = .ok (.getfield 57, 3) := dk_180 0 57 (dk_at dksX0_plan_5 14 rfl rfl)
theorem dX0_plan_130 : decode cX0_plan 130 = .ok (.getfield 170, 3) := dk_180 0 170 (dk_at dksX0_plan_5 17 rfl rfl)
theorem dX0_plan_133 : decode cX0_plan 133 = .ok (.aload_n 0, 1) := dk_42 (dk_at dksX0_plan_5 20 rfl rfl)
theorem dX0_plan_134 : decode cX0_plan 134 = .ok (.getfield 57, 3) := dk_180 0 57 (dk_at dksX0_plan_5 21 rfl rfl)
theorem dX0_plan_137 : decode cX0_plan 137 = .ok (.getfield 143, 3) := dk_180 0 143 (dk_at dksX0_plan_6 0 rfl rfl)
theorem dX0_plan_140 : decode cX0_plan 140 = .ok (.iload_n 3, 1) := dk_29 (dk_at dksX0_plan_6 3 rfl rfl)
theorem dX0_plan_141 : decode cX0_plan 141 = .ok (.iastore, 1) := dk_79 (dk_at dksX0_plan_6 4 rfl rfl)
theorem dX0_plan_142 : decode cX0_plan 142 = .ok (.aload_n 0, 1) := dk_42 (dk_at dksX0_plan_6 5 rfl rfl)
theorem dX0_plan_143 : decode cX0_plan 143 = .ok (.getfield 57, 3) := dk_180 0 57 (dk_at dksX0_plan_6 6 rfl rfl)
theorem dX0_plan_146 : decode cX0_plan 146 = .ok (.getfield 173, 3) := dk_180 0 173 (dk_at dksX0_plan_6 9 rfl rfl)
theorem dX0_plan_149 : decode cX0_plan 149 = .ok (.aload_n 0, 1) := dk_42 (dk_at dksX0_plan_6 12 rfl rfl)
theorem dX0_plan_150 : decode cX0_plan 150 = .ok (.getfield 57, 3) := dk_180 0 57 (dk_at dksX0_plan_6 13 rfl rfl)
theorem dX0_plan_153 : decode cX0_plan 153 = .ok (.getfield 143, 3) := dk_180 0 143 (dk_at dksX0_plan_6 16 rfl rfl)
theorem dX0_plan_156 : decode cX0_plan 156 = .ok (.iload 4, 2) := dk_21 4 (dk_at dksX0_plan_6 19 rfl rfl)
theorem dX0_plan_158 : decode cX0_plan 158 = .ok (.iastore, 1) := dk_79 (dk_at dksX0_plan_6 21 rfl rfl)
theorem dX0_plan_159 : decode cX0_plan 159 = .ok (.aload_n 0, 1) := dk_42 (dk_at dksX0_plan_6 22 rfl rfl)
theorem dX0_plan_160 : decode cX0_plan 160 = .ok (.getfield 57, 3) := dk_180 0 57 (dk_at dksX0_plan_7 0 rfl rfl)
theorem dX0_plan_163 : decode cX0_plan 163 = .ok (.dup, 1) := dk_89 (dk_at dksX0_plan_7 3 rfl rfl)
theorem dX0_plan_164 : decode cX0_plan 164 = .ok (.getfield 143, 3) := dk_180 0 143 (dk_at dksX0_plan_7 4 rfl rfl)
theorem dX0_plan_167 : decode cX0_plan 167 = .ok (.iconst 1, 1) := dk_4 (dk_at dksX0_plan_7 7 rfl rfl)
theorem dX0_plan_168 : decode cX0_plan 168 = .ok (.iadd, 1) := dk_96 (dk_at dksX0_plan_7 8 rfl rfl)
theorem dX0_plan_169 : decode cX0_plan 169 = .ok (.putfield 143, 3) := dk_181 0 143 (dk_at dksX0_plan_7 9 rfl rfl)
theorem dX0_plan_172 : decode cX0_plan 172 = .ok (.aload_n 0, 1) := dk_42 (dk_at dksX0_plan_7 12 rfl rfl)
theorem dX0_plan_173 : decode cX0_plan 173 = .ok (.getfield 57, 3) := dk_180 0 57 (dk_at dksX0_plan_7 13 rfl rfl)
theorem dX0_plan_176 : decode cX0_plan 176 = .ok (.getfield 143, 3) := dk_180 0 143 (dk_at dksX0_plan_7 16 rfl rfl)
theorem dX0_plan_179 : decode cX0_plan 179 = .ok (.ireturn, 1) := dk_172 (dk_at dksX0_plan_7 19 rfl rfl)
theorem okX0_plan_0 : XOkL xms rX0_plan bX0_plan_0 := xcP (xok_aload_n dX0_plan_0 rfl) rfl (xcP (xok_iload_n dX0_plan_1 rfl) rfl (xcC0 (xokc_list (List.forall_mem_cons.mpr ⟨xokc_V (r := (RX0, TX0, 10)) xm9 (List.mem_of_getElem? (i := 0) rfl) (by decide) rfl dX0_plan_2 q1493 q1495 qs41 q138 q1496 (by decide +kernel), fun _ h => nomatch h⟩)) rfl (xcP (xok_ifeq dX0_plan_5 (by decide)) rfl (xcP (xok_iload_n dX0_plan_8 rfl) rfl (xcP (xok_iconst dX0_plan_9 rfl) rfl (xcP (xok_bipush dX0_plan_10 rfl) rfl (xcC0 (xokc_S xm3 rfl dX0_plan_12 q680 q681 q138 q682 (by decide +kernel)) rfl (xcP (xok_ifeq dX0_plan_15 (by decide)) rfl (xcP (xok_iload_n dX0_plan_18 rfl) rfl (xcP (xok_iconst dX0_plan_19 rfl) rfl (xcP (xok_sipush dX0_plan_20 rfl) rfl (xcC0 (xokc_S xm3 rfl dX0_plan_23 q680 q681 q138 q682 (by decide +kernel)) rfl (xcP (xok_ifeq dX0_plan_26 (by decide)) rfl (xcP (xok_iload dX0_plan_29) rfl (xcP (xok_iconst dX0_plan_31 rfl) rfl (xcP (xok_aload_n dX0_plan_32 rfl) rfl (xcP (xok_getfield (ref := "WaysAtlas") (Or.inr ⟨rfl, by decide⟩) dX0_plan_33 (Or.inl ⟨q647, (Or.inl rfl)⟩) xh1003) rfl (xcP (xok_getfield (ref := "WaysAtlas$Program") (Or.inl ⟨rfl, by decide⟩) dX0_plan_36 (Or.inr ⟨⟨"WaysAtlas", (List.mem_of_getElem? (i := 98) rfl)⟩, (Or.inl rfl)⟩) xh13) rfl (xcP (xok_iconst dX0_plan_39 rfl) rfl (xcP (xok_isub dX0_plan_40) rfl (xcC0 (xokc_S xm3 rfl dX0_plan_41 q680 q681 q138 q682 (by decide +kernel)) rfl (xcP (xok_ifne dX0_plan_44 (by decide)) rfl (xcP xok_fal rfl trivial)))))))))))))))))))))))
theorem okX0_plan_47 : XOkL xms rX0_plan bX0_plan_47 := xcP (xok_iconst dX0_plan_47 rfl) rfl (xcR ⟨dX0_plan_48, rfl⟩)
theorem okX0_plan_49 : XOkL xms rX0_plan bX0_plan_49 := xcP (xok_aload_n dX0_plan_49 rfl) rfl (xcP (xok_getfield (ref := "WaysAtlas") (Or.inr ⟨rfl, by decide⟩) dX0_plan_50 (Or.inl ⟨q647, (Or.inl rfl)⟩) xh1003) rfl (xcP (xok_getfield (ref := "WaysAtlas$Program") (Or.inr ⟨rfl, by decide⟩) dX0_plan_53 (Or.inr ⟨⟨"WaysAtlas", (List.mem_of_getElem? (i := 101) rfl)⟩, (Or.inl rfl)⟩) xh1022) rfl (xcP (xok_iload_n dX0_plan_56 rfl) rfl (xcP (xok_aaload (by decide) rfl dX0_plan_57) rfl (xcP (xok_astore dX0_plan_58) rfl (xcP (xok_iload_n dX0_plan_60 rfl) rfl (xcP (xok_ifne dX0_plan_61 (by decide)) rfl (xcP (xok_aload dX0_plan_64) rfl (xcC0 (xokc_list (List.forall_mem_cons.mpr ⟨xokc_U (r := (RX18, TX18, 5)) xm214 (List.mem_of_getElem? (i := 16) rfl) (by decide) rfl dX0_plan_66 q1497 q1499 q1501 q1498 q162 q1515 rfl (by decide +kernel), List.forall_mem_cons.mpr ⟨xokc_U (r := (RX20, TX20, 3)) xm214 (List.mem_of_getElem? (i := 17) rfl) (by decide) rfl dX0_plan_66 q1497 q1499 q1513 q1498 q162 q1515 rfl (by decide +kernel), List.forall_mem_cons.mpr ⟨xokc_U (r := (RX21, TX21, 3)) xm214 (List.mem_of_getElem? (i := 18) rfl) (by decide) rfl dX0_plan_66 q1497 q1499 q1510 q1498 q162 q1515 rfl (by decide +kernel), List.forall_mem_cons.mpr ⟨xokc_U (r := (RX22, TX22, 3)) xm214 (List.mem_of_getElem? (i := 19) rfl) (by decide) rfl dX0_plan_66 q1497 q1499 q1509 q1498 q162 q1515 rfl (by decide +kernel), List.forall_mem_cons.mpr ⟨xokc_U (r := (RX23, TX23, 3)) xm214 (List.mem_of_getElem? (i := 20) rfl) (by decide) rfl dX0_plan_66 q1497 q1499 q1512 q1498 q162 q1515 rfl (by decide +kernel), List.forall_mem_cons.mpr ⟨xokc_O (owner := "WaysAtlas$Statement") (r := (RX24, TX24, 2)) xm233 (List.mem_of_getElem? (i := 21) rfl) (by decide) rfl dX0_plan_66 q1497 q1499 q1498 q1506 q1507 q169 q1508 q1515 (by decide +kernel), List.forall_mem_cons.mpr ⟨xokc_U (r := (RX25, TX25, 2)) xm214 (List.mem_of_getElem? (i := 22) rfl) (by decide) rfl dX0_plan_66 q1497 q1499 q1511 q1498 q162 q1515 rfl (by decide +kernel), List.forall_mem_cons.mpr ⟨xokc_U (r := (RX26, TX26, 6)) xm214 (List.mem_of_getElem? (i := 23) rfl) (by decide) rfl dX0_plan_66 q1497 q1499 q1503 q1498 q162 q1515 rfl (by decide +kernel), List.forall_mem_cons.mpr ⟨xokc_U (r := (RX27, TX27, 3)) xm214 (List.mem_of_getElem? (i := 24) rfl) (by decide) rfl dX0_plan_66 q1497 q1499 q1505 q1498 q162 q1515 rfl (by decide +kernel), List.forall_mem_cons.mpr ⟨xokc_U (r := (RX28, TX28, 2)) xm214 (List.mem_of_getElem? (i := 25) rfl) (by decide) rfl dX0_plan_66 q1497 q1499 q1504 q1498 q162 q1515 rfl (by decide +kernel), List.forall_mem_cons.mpr ⟨xokc_U (r := (RX29, TX29, 2)) xm214 (List.mem_of_getElem? (i := 26) rfl) (by decide) rfl dX0_plan_66 q1497 q1499 q1514 q1498 q162 q1515 rfl (by decide +kernel), List.forall_mem_cons.mpr ⟨xokc_U (r := (RX30, TX30, 3)) xm214 (List.mem_of_getElem? (i := 27) rfl) (by decide) rfl dX0_plan_66 q1497 q1499 q1500 q1498 q162 q1515 rfl (by decide +kernel), List.forall_mem_cons.mpr ⟨xokc_U (r := (RX31, TX31, 7)) xm214 (List.mem_of_getElem? (i := 28) rfl) (by decide) rfl dX0_plan_66 q1497 q1499 q1502 q1498 q162 q1515 rfl (by decide +kernel), fun _ h => nomatch h⟩⟩⟩⟩⟩⟩⟩⟩⟩⟩⟩⟩⟩)) rfl (xcP (xok_ifne dX0_plan_69 (by decide)) rfl (xcP (xok_goto dX0_plan_72 (by decide)) rfl trivial)))))))))))
theorem okX0_plan_75 : XOkL xms rX0_plan bX0_plan_75 := xcP (xok_iload_n dX0_plan_75 rfl) rfl (xcP (xok_iconst dX0_plan_76 rfl) rfl (xcP (xok_isub dX0_plan_77) rfl (xcP (xok_iconst dX0_plan_78 rfl) rfl (xcP (xok_irem dX0_plan_79) rfl (xcP (xok_aload dX0_plan_80) rfl (xcC0 (xokc_list (List.forall_mem_cons.mpr ⟨xokc_U (r := (RX18, TX18, 5)) xm215 (List.mem_of_getElem? (i := 16) rfl) (by decide) rfl dX0_plan_82 q1516 q1518 q1520 q1517 q162 q1532 rfl (by decide +kernel), List.forall_mem_cons.mpr ⟨xokc_U (r := (RX20, TX20, 3)) xm215 (List.mem_of_getElem? (i := 17) rfl) (by decide) rfl dX0_plan_82 q1516 q1518 q1530 q1517 q162 q1532 rfl (by decide +kernel), List.forall_mem_cons.mpr ⟨xokc_U (r := (RX21, TX21, 3)) xm215 (List.mem_of_getElem? (i := 18) rfl) (by decide) rfl dX0_plan_82 q1516 q1518 q1527 q1517 q162 q1532 rfl (by decide +kernel), List.forall_mem_cons.mpr ⟨xokc_U (r := (RX22, TX22, 3)) xm215 (List.mem_of_getElem? (i := 19) rfl) (by decide) rfl dX0_plan_82 q1516 q1518 q1526 q1517 q162 q1532 rfl (by decide +kernel), List.forall_mem_cons.mpr ⟨xokc_U (r := (RX23, TX23, 3)) xm215 (List.mem_of_getElem? (i := 20) rfl) (by decide) rfl dX0_plan_82 q1516 q1518 q1529 q1517 q162 q1532 rfl (by decide +kernel), List.forall_mem_cons.mpr ⟨xokc_U (r := (RX24, TX24, 2)) xm215 (List.mem_of_getElem? (i := 21) rfl) (by decide) rfl dX0_plan_82 q1516 q1518 q1525 q1517 q162 q1532 rfl (by decide +kernel), List.forall_mem_cons.mpr ⟨xokc_U (r := (RX25, TX25, 2)) xm215 (List.mem_of_getElem? (i := 22) rfl) (by decide) rfl dX0_plan_82 q1516 q1518 q1528 q1517 q162 q1532 rfl (by decide +kernel), List.forall_mem_cons.mpr ⟨xokc_U (r := (RX26, TX26, 6)) xm215 (List.mem_of_getElem? (i := 23) rfl) (by decide) rfl dX0_plan_82 q1516 q1518 q1522 q1517 q162 q1532 rfl (by decide +kernel), List.forall_mem_cons.mpr ⟨xokc_U (r := (RX27, TX27, 3)) xm215 (List.mem_of_getElem? (i := 24) rfl) (by decide) rfl dX0_plan_82 q1516 q1518 q1524 q1517 q162 q1532 rfl (by decide +kernel), List.forall_mem_cons.mpr ⟨xokc_U (r := (RX28, TX28, 2)) xm215 (List.mem_of_getElem? (i := 25) rfl) (by decide) rfl dX0_plan_82 q1516 q1518 q1523 q1517 q162 q1532 rfl (by decide +kernel), List.forall_mem_cons.mpr ⟨xokc_U (r := (RX29, TX29, 2)) xm215 (List.mem_of_getElem? (i := 26) rfl) (by decide) rfl dX0_plan_82 q1516 q1518 q1531 q1517 q162 q1532 rfl (by decide +kernel), List.forall_mem_cons.mpr ⟨xokc_U (r := (RX30, TX30, 3)) xm215 (List.mem_of_getElem? (i := 27) rfl) (by decide) rfl dX0_plan_82 q1516 q1518 q1519 q1517 q162 q1532 rfl (by decide +kernel), List.forall_mem_cons.mpr ⟨xokc_O (owner := "WaysAtlas$Statement") (r := (RX31, TX31, 7)) xm260 (List.mem_of_getElem? (i := 28) rfl) (by decide) rfl dX0_plan_82 q1516 q1518 q1517 q1521 q1321 q176 q1323 q1532 (by decide +kernel), fun _ h => nomatch h⟩⟩⟩⟩⟩⟩⟩⟩⟩⟩⟩⟩⟩)) rfl (xcP (xok_icmplt dX0_plan_85 (by decide)) rfl (xcP xok_fal rfl trivial))))))))
theorem okX0_plan_88 : XOkL xms rX0_plan bX0_plan_88 := xcP (xok_iconst dX0_plan_88 rfl) rfl (xcR ⟨dX0_plan_89, rfl⟩)
theorem okX0_plan_90 : XOkL xms rX0_plan bX0_plan_90 := xcP (xok_aload_n dX0_plan_90 rfl) rfl (xcP (xok_getfield (ref := "WaysAtlas") (Or.inr ⟨rfl, by decide⟩) dX0_plan_91 (Or.inl ⟨q649, (Or.inl rfl)⟩) xh1004) rfl (xcP (xok_getfield (ref := "WaysAtlas$Plan") (Or.inl ⟨rfl, by decide⟩) dX0_plan_94 (Or.inr ⟨⟨"WaysAtlas", (List.mem_of_getElem? (i := 96) rfl)⟩, (Or.inl rfl)⟩) xh16) rfl (xcP (xok_bipush dX0_plan_97 rfl) rfl (xcP (xok_icmpne dX0_plan_99 (by decide)) rfl (xcP (xok_bipush dX0_plan_102 rfl) rfl (xcR ⟨dX0_plan_104, rfl⟩))))))
theorem okX0_plan_105 : XOkL xms rX0_plan bX0_plan_105 := xcP (xok_aload_n dX0_plan_105 rfl) rfl (xcP (xok_getfield (ref := "WaysAtlas") (Or.inr ⟨rfl, by decide⟩) dX0_plan_106 (Or.inl ⟨q649, (Or.inl rfl)⟩) xh1004) rfl (xcP (xok_getfield (ref := "WaysAtlas$Plan") (Or.inr ⟨rfl, by decide⟩) dX0_plan_109 (Or.inr ⟨⟨"WaysAtlas", (List.mem_of_getElem? (i := 102) rfl)⟩, (Or.inl rfl)⟩) xh1026) rfl (xcP (xok_aload_n dX0_plan_112 rfl) rfl (xcP (xok_getfield (ref := "WaysAtlas") (Or.inr ⟨rfl, by decide⟩) dX0_plan_113 (Or.inl ⟨q649, (Or.inl rfl)⟩) xh1004) rfl (xcP (xok_getfield (ref := "WaysAtlas$Plan") (Or.inl ⟨rfl, by decide⟩) dX0_plan_116 (Or.inr ⟨⟨"WaysAtlas", (List.mem_of_getElem? (i := 96) rfl)⟩, (Or.inl rfl)⟩) xh16) rfl (xcP (xok_bipush dX0_plan_119 rfl) rfl (xcP (xok_iload_n dX0_plan_121 rfl) rfl (xcP (xok_imul dX0_plan_122) rfl (xcP (xok_iload_n dX0_plan_123 rfl) rfl (xcP (xok_iadd dX0_plan_124) rfl (xcP (xok_iastore dX0_plan_125) rfl (xcP (xok_aload_n dX0_plan_126 rfl) rfl (xcP (xok_getfield (ref := "WaysAtlas") (Or.inr ⟨rfl, by decide⟩) dX0_plan_127 (Or.inl ⟨q649, (Or.inl rfl)⟩) xh1004) rfl (xcP (xok_getfield (ref := "WaysAtlas$Plan") (Or.inr ⟨rfl, by decide⟩) dX0_plan_130 (Or.inr ⟨⟨"WaysAtlas", (List.mem_of_getElem? (i := 103) rfl)⟩, (Or.inl rfl)⟩) xh1027) rfl (xcP (xok_aload_n dX0_plan_133 rfl) rfl (xcP (xok_getfield (ref := "WaysAtlas") (Or.inr ⟨rfl, by decide⟩) dX0_plan_134 (Or.inl ⟨q649, (Or.inl rfl)⟩) xh1004) rfl (xcP (xok_getfield (ref := "WaysAtlas$Plan") (Or.inl ⟨rfl, by decide⟩) dX0_plan_137 (Or.inr ⟨⟨"WaysAtlas", (List.mem_of_getElem? (i := 96) rfl)⟩, (Or.inl rfl)⟩) xh16) rfl (xcP (xok_iload_n dX0_plan_140 rfl) rfl (xcP (xok_iastore dX0_plan_141) rfl (xcP (xok_aload_n dX0_plan_142 rfl) rfl (xcP (xok_getfield (ref := "WaysAtlas") (Or.inr ⟨rfl, by decide⟩) dX0_plan_143 (Or.inl ⟨q649, (Or.inl rfl)⟩) xh1004) rfl (xcP (xok_getfield (ref := "WaysAtlas$Plan") (Or.inr ⟨rfl, by decide⟩) dX0_plan_146 (Or.inr ⟨⟨"WaysAtlas", (List.mem_of_getElem? (i := 104) rfl)⟩, (Or.inl rfl)⟩) xh1028) rfl (xcP (xok_aload_n dX0_plan_149 rfl) rfl (xcP (xok_getfield (ref := "WaysAtlas") (Or.inr ⟨rfl, by decide⟩) dX0_plan_150 (Or.inl ⟨q649, (Or.inl rfl)⟩) xh1004) rfl (xcP (xok_getfield (ref := "WaysAtlas$Plan") (Or.inl ⟨rfl, by decide⟩) dX0_plan_153 (Or.inr ⟨⟨"WaysAtlas", (List.mem_of_getElem? (i := 96) rfl)⟩, (Or.inl rfl)⟩) xh16) rfl (xcP (xok_iload dX0_plan_156) rfl (xcP (xok_iastore dX0_plan_158) rfl (xcP (xok_aload_n dX0_plan_159 rfl) rfl (xcP (xok_getfield (ref := "WaysAtlas") (Or.inr ⟨rfl, by decide⟩) dX0_plan_160 (Or.inl ⟨q649, (Or.inl rfl)⟩) xh1004) rfl (xcP (xok_dup dX0_plan_163) rfl (xcP (xok_getfield (ref := "WaysAtlas$Plan") (Or.inl ⟨rfl, by decide⟩) dX0_plan_164 (Or.inr ⟨⟨"WaysAtlas", (List.mem_of_getElem? (i := 96) rfl)⟩, (Or.inl rfl)⟩) xh16) rfl (xcP (xok_iconst dX0_plan_167 rfl) rfl (xcP (xok_iadd dX0_plan_168) rfl (xcP (xok_putfield (ref := "WaysAtlas$Plan") (Or.inl ⟨rfl, by decide, rfl⟩) dX0_plan_169 (Or.inr ⟨⟨"WaysAtlas", (List.mem_of_getElem? (i := 96) rfl)⟩, (Or.inl rfl)⟩) (Or.inl rfl) xh16) rfl (xcP (xok_aload_n dX0_plan_172 rfl) rfl (xcP (xok_getfield (ref := "WaysAtlas") (Or.inr ⟨rfl, by decide⟩) dX0_plan_173 (Or.inl ⟨q649, (Or.inl rfl)⟩) xh1004) rfl (xcP (xok_getfield (ref := "WaysAtlas$Plan") (Or.inl ⟨rfl, by decide⟩) dX0_plan_176 (Or.inr ⟨⟨"WaysAtlas", (List.mem_of_getElem? (i := 96) rfl)⟩, (Or.inl rfl)⟩) xh16) rfl (xcR ⟨dX0_plan_179, rfl⟩))))))))))))))))))))))))))))))))))))))
theorem okM_X0_plan : XOkM xms rX0_plan := xokM0 (List.forall_mem_cons.mpr ⟨⟨rfl, okX0_plan_0⟩, List.forall_mem_cons.mpr ⟨⟨rfl, okX0_plan_47⟩, List.forall_mem_cons.mpr ⟨⟨rfl, okX0_plan_49⟩, List.forall_mem_cons.mpr ⟨⟨rfl, okX0_plan_75⟩, List.forall_mem_cons.mpr ⟨⟨rfl, okX0_plan_88⟩, List.forall_mem_cons.mpr ⟨⟨rfl, okX0_plan_90⟩, List.forall_mem_cons.mpr ⟨⟨rfl, okX0_plan_105⟩, fun _ h => nomatch h⟩⟩⟩⟩⟩⟩⟩) (xokH0 rfl (fun _ _ => rfl)) (by decide +kernel) (by decide)
abbrev cX0_isStatement : ByteArray := prog_1_method_10_code
def dkwX0_isStatement_0 : List UInt8 := [27, 3, 42, 180, 0, 50, 180, 0, 144, 4, 100, 184, 0, 86, 172]
abbrev dktX0_isStatement_0 : List UInt8 := dkwX0_isStatement_0 ++ []
theorem dksX0_isStatement_0 : cX0_isStatement.data.toList.drop 0 = dktX0_isStatement_0 := by decide +kernel
theorem dX0_isStatement_0 : decode cX0_isStatement 0 = .ok (.iload_n 1, 1) := dk_27 (dk_at dksX0_isStatement_0 0 rfl rfl)
theorem dX0_isStatement_1 : decode cX0_isStatement 1 = .ok (.iconst 0, 1) := dk_3 (dk_at dksX0_isStatement_0 1 rfl rfl)
theorem dX0_isStatement_2 : decode cX0_isStatement 2 = .ok (.aload_n 0, 1) := dk_42 (dk_at dksX0_isStatement_0 2 rfl rfl)
theorem dX0_isStatement_3 : decode cX0_isStatement 3 = .ok (.getfield 50, 3) := dk_180 0 50 (dk_at dksX0_isStatement_0 3 rfl rfl)
theorem dX0_isStatement_6 : decode cX0_isStatement 6 = .ok (.getfield 144, 3) := dk_180 0 144 (dk_at dksX0_isStatement_0 6 rfl rfl)
theorem dX0_isStatement_9 : decode cX0_isStatement 9 = .ok (.iconst 1, 1) := dk_4 (dk_at dksX0_isStatement_0 9 rfl rfl)
theorem dX0_isStatement_10 : decode cX0_isStatement 10 = .ok (.isub, 1) := dk_100 (dk_at dksX0_isStatement_0 10 rfl rfl)
theorem dX0_isStatement_11 : decode cX0_isStatement 11 = .ok (.invokestatic 86, 3) := dk_184 0 86 (dk_at dksX0_isStatement_0 11 rfl rfl)
theorem dX0_isStatement_14 : decode cX0_isStatement 14 = .ok (.ireturn, 1) := dk_172 (dk_at dksX0_isStatement_0 14 rfl rfl)
theorem okX0_isStatement_0 : XOkL xms rX0_isStatement bX0_isStatement_0 := xcP (xok_iload_n dX0_isStatement_0 rfl) rfl (xcP (xok_iconst dX0_isStatement_1 rfl) rfl (xcP (xok_aload_n dX0_isStatement_2 rfl) rfl (xcP (xok_getfield (ref := "WaysAtlas") (Or.inr ⟨rfl, by decide⟩) dX0_isStatement_3 (Or.inl ⟨q647, (Or.inl rfl)⟩) xh1003) rfl (xcP (xok_getfield (ref := "WaysAtlas$Program") (Or.inl ⟨rfl, by decide⟩) dX0_isStatement_6 (Or.inr ⟨⟨"WaysAtlas", (List.mem_of_getElem? (i := 97) rfl)⟩, (Or.inl rfl)⟩) xh14) rfl (xcP (xok_iconst dX0_isStatement_9 rfl) rfl (xcP (xok_isub dX0_isStatement_10) rfl (xcC0 (xokc_S xm3 rfl dX0_isStatement_11 q680 q681 q138 q682 (by decide +kernel)) rfl (xcR ⟨dX0_isStatement_14, rfl⟩))))))))
theorem okM_X0_isStatement : XOkM xms rX0_isStatement := xokM0 (List.forall_mem_cons.mpr ⟨⟨rfl, okX0_isStatement_0⟩, fun _ h => nomatch h⟩) (xokH0 rfl (fun _ _ => rfl)) (by decide +kernel) (by decide)
abbrev cX0_clear : ByteArray := prog_1_method_12_code
def dkwX0_clear_0 : List UInt8 := [42, 180, 0, 57, 180, 0, 143, 60, 42, 180, 0, 57, 3, 181, 0, 143, 27, 172]
abbrev dktX0_clear_0 : List UInt8 := dkwX0_clear_0 ++ []
theorem dksX0_clear_0 : cX0_clear.data.toList.drop 0 = dktX0_clear_0 := by decide +kernel
theorem dX0_clear_0 : decode cX0_clear 0 = .ok (.aload_n 0, 1) := dk_42 (dk_at dksX0_clear_0 0 rfl rfl)
theorem dX0_clear_1 : decode cX0_clear 1 = .ok (.getfield 57, 3) := dk_180 0 57 (dk_at dksX0_clear_0 1 rfl rfl)
theorem dX0_clear_4 : decode cX0_clear 4 = .ok (.getfield 143, 3) := dk_180 0 143 (dk_at dksX0_clear_0 4 rfl rfl)
theorem dX0_clear_7 : decode cX0_clear 7 = .ok (.istore_n 1, 1) := dk_60 (dk_at dksX0_clear_0 7 rfl rfl)
theorem dX0_clear_8 : decode cX0_clear 8 = .ok (.aload_n 0, 1) := dk_42 (dk_at dksX0_clear_0 8 rfl rfl)
theorem dX0_clear_9 : decode cX0_clear 9 = .ok (.getfield 57, 3) := dk_180 0 57 (dk_at dksX0_clear_0 9 rfl rfl)
theorem dX0_clear_12 : decode cX0_clear 12 = .ok (.iconst 0, 1) := dk_3 (dk_at dksX0_clear_0 12 rfl rfl)
theorem dX0_clear_13 : decode cX0_clear 13 = .ok (.putfield 143, 3) := dk_181 0 143 (dk_at dksX0_clear_0 13 rfl rfl)
theorem dX0_clear_16 : decode cX0_clear 16 = .ok (.iload_n 1, 1) := dk_27 (dk_at dksX0_clear_0 16 rfl rfl)
theorem dX0_clear_17 : decode cX0_clear 17 = .ok (.ireturn, 1) := dk_172 (dk_at dksX0_clear_0 17 rfl rfl)
theorem okX0_clear_0 : XOkL xms rX0_clear bX0_clear_0 := xcP (xok_aload_n dX0_clear_0 rfl) rfl (xcP (xok_getfield (ref := "WaysAtlas") (Or.inr ⟨rfl, by decide⟩) dX0_clear_1 (Or.inl ⟨q649, (Or.inl rfl)⟩) xh1004) rfl (xcP (xok_getfield (ref := "WaysAtlas$Plan") (Or.inl ⟨rfl, by decide⟩) dX0_clear_4 (Or.inr ⟨⟨"WaysAtlas", (List.mem_of_getElem? (i := 96) rfl)⟩, (Or.inl rfl)⟩) xh16) rfl (xcP (xok_istore_n dX0_clear_7 rfl) rfl (xcP (xok_aload_n dX0_clear_8 rfl) rfl (xcP (xok_getfield (ref := "WaysAtlas") (Or.inr ⟨rfl, by decide⟩) dX0_clear_9 (Or.inl ⟨q649, (Or.inl rfl)⟩) xh1004) rfl (xcP (xok_iconst dX0_clear_12 rfl) rfl (xcP (xok_putfield (ref := "WaysAtlas$Plan") (Or.inl ⟨rfl, by decide, rfl⟩) dX0_clear_13 (Or.inr ⟨⟨"WaysAtlas", (List.mem_of_getElem? (i := 96) rfl)⟩, (Or.inl rfl)⟩) (Or.inl rfl) xh16) rfl (xcP (xok_iload_n dX0_clear_16 rfl) rfl (xcR ⟨dX0_clear_17, rfl⟩)))))))))
theorem okM_X0_clear : XOkM xms rX0_clear := xokM0 (List.forall_mem_cons.mpr ⟨⟨rfl, okX0_clear_0⟩, fun _ h => nomatch h⟩) (xokH0 rfl (fun _ _ => rfl)) (by decide +kernel) (by decide)
abbrev cX0_run : ByteArray := prog_1_method_15_code
def dkwX0_run_2 : List UInt8 := [28, 29, 21, 4, 21, 5, 182, 0, 186, 25, 6, 180, 0, 83, 172]
abbrev dktX0_run_2 : List UInt8 := dkwX0_run_2 ++ []
def dkwX0_run_1 : List UInt8 := [153, 0, 10, 42, 180, 0, 74, 167, 0, 7, 42, 180, 0, 67, 58, 6, 42, 25, 6, 27, 42, 180, 0, 57]
abbrev dktX0_run_1 : List UInt8 := dkwX0_run_1 ++ dktX0_run_2
def dkwX0_run_0 : List UInt8 := [42, 28, 182, 0, 183, 153, 0, 15, 21, 5, 3, 17, 1, 144, 184, 0, 86, 154, 0, 5, 2, 172, 27]
abbrev dktX0_run_0 : List UInt8 := dkwX0_run_0 ++ dktX0_run_1
theorem dksX0_run_0 : cX0_run.data.toList.drop 0 = dktX0_run_0 := by decide +kernel
theorem dksX0_run_1 : cX0_run.data.toList.drop 23 = dktX0_run_1 := dk_seg dksX0_run_0 23 rfl rfl
theorem dksX0_run_2 : cX0_run.data.toList.drop 47 = dktX0_run_2 := dk_seg dksX0_run_1 24 rfl rfl
theorem dX0_run_0 : decode cX0_run 0 = .ok (.aload_n 0, 1) := dk_42 (dk_at dksX0_run_0 0 rfl rfl)
theorem dX0_run_1 : decode cX0_run 1 = .ok (.iload_n 2, 1) := dk_28 (dk_at dksX0_run_0 1 rfl rfl)
theorem dX0_run_2 : decode cX0_run 2 = .ok (.invokevirtual 183, 3) := dk_182 0 183 (dk_at dksX0_run_0 2 rfl rfl)
theorem dX0_run_5 : decode cX0_run 5 = .ok (.ifCond .eq 15, 3) := dk_153 0 15 (dk_at dksX0_run_0 5 rfl rfl)
theorem dX0_run_8 : decode cX0_run 8 = .ok (.iload 5, 2) := dk_21 5 (dk_at dksX0_run_0 8 rfl rfl)
theorem dX0_run_10 : decode cX0_run 10 = .ok (.iconst 0, 1) := dk_3 (dk_at dksX0_run_0 10 rfl rfl)
theorem dX0_run_11 : decode cX0_run 11 = .ok (.sipush 400, 3) := dk_17 1 144 (dk_at dksX0_run_0 11 rfl rfl)
theorem dX0_run_14 : decode cX0_run 14 = .ok (.invokestatic 86, 3) := dk_184 0 86 (dk_at dksX0_run_0 14 rfl rfl)
theorem dX0_run_17 : decode cX0_run 17 = .ok (.ifCond .ne 5, 3) := dk_154 0 5 (dk_at dksX0_run_0 17 rfl rfl)
theorem dX0_run_20 : decode cX0_run 20 = .ok (.iconst (-1), 1) := dk_2 (dk_at dksX0_run_0 20 rfl rfl)
theorem dX0_run_21 : decode cX0_run 21 = .ok (.ireturn, 1) := dk_172 (dk_at dksX0_run_0 21 rfl rfl)
theorem dX0_run_22 : decode cX0_run 22 = .ok (.iload_n 1, 1) := dk_27 (dk_at dksX0_run_0 22 rfl rfl)
theorem dX0_run_23 : decode cX0_run 23 = .ok (.ifCond .eq 10, 3) := dk_153 0 10 (dk_at dksX0_run_1 0 rfl rfl)
theorem dX0_run_26 : decode cX0_run 26 = .ok (.aload_n 0, 1) := dk_42 (dk_at dksX0_run_1 3 rfl rfl)
theorem dX0_run_27 : decode cX0_run 27 = .ok (.getfield 74, 3) := dk_180 0 74 (dk_at dksX0_run_1 4 rfl rfl)
theorem dX0_run_30 : decode cX0_run 30 = .ok (.goto 7, 3) := dk_167 0 7 (dk_at dksX0_run_1 7 rfl rfl)
theorem dX0_run_33 : decode cX0_run 33 = .ok (.aload_n 0, 1) := dk_42 (dk_at dksX0_run_1 10 rfl rfl)
theorem dX0_run_34 : decode cX0_run 34 = .ok (.getfield 67, 3) := dk_180 0 67 (dk_at dksX0_run_1 11 rfl rfl)
theorem dX0_run_37 : decode cX0_run 37 = .ok (.astore 6, 2) := dk_58 6 (dk_at dksX0_run_1 14 rfl rfl)
theorem dX0_run_39 : decode cX0_run 39 = .ok (.aload_n 0, 1) := dk_42 (dk_at dksX0_run_1 16 rfl rfl)
theorem dX0_run_40 : decode cX0_run 40 = .ok (.aload 6, 2) := dk_25 6 (dk_at dksX0_run_1 17 rfl rfl)
theorem dX0_run_42 : decode cX0_run 42 = .ok (.iload_n 1, 1) := dk_27 (dk_at dksX0_run_1 19 rfl rfl)
theorem dX0_run_43 : decode cX0_run 43 = .ok (.aload_n 0, 1) := dk_42 (dk_at dksX0_run_1 20 rfl rfl)
theorem dX0_run_44 : decode cX0_run 44 = .ok (.getfield 57, 3) := dk_180 0 57 (dk_at dksX0_run_1 21 rfl rfl)
theorem dX0_run_47 : decode cX0_run 47 = .ok (.iload_n 2, 1) := dk_28 (dk_at dksX0_run_2 0 rfl rfl)
theorem dX0_run_48 : decode cX0_run 48 = .ok (.iload_n 3, 1) := dk_29 (dk_at dksX0_run_2 1 rfl rfl)
theorem dX0_run_49 : decode cX0_run 49 = .ok (.iload 4, 2) := dk_21 4 (dk_at dksX0_run_2 2 rfl rfl)
theorem dX0_run_51 : decode cX0_run 51 = .ok (.iload 5, 2) := dk_21 5 (dk_at dksX0_run_2 4 rfl rfl)
theorem dX0_run_53 : decode cX0_run 53 = .ok (.invokevirtual 186, 3) := dk_182 0 186 (dk_at dksX0_run_2 6 rfl rfl)
theorem dX0_run_56 : decode cX0_run 56 = .ok (.aload 6, 2) := dk_25 6 (dk_at dksX0_run_2 9 rfl rfl)
theorem dX0_run_58 : decode cX0_run 58 = .ok (.getfield 83, 3) := dk_180 0 83 (dk_at dksX0_run_2 11 rfl rfl)
theorem dX0_run_61 : decode cX0_run 61 = .ok (.ireturn, 1) := dk_172 (dk_at dksX0_run_2 14 rfl rfl)
theorem okX0_run_0 : XOkL xms rX0_run bX0_run_0 := xcP (xok_aload_n dX0_run_0 rfl) rfl (xcP (xok_iload_n dX0_run_1 rfl) rfl (xcC0 (xokc_list (List.forall_mem_cons.mpr ⟨xokc_V (r := (RX0, TX0, 10)) xm12 (List.mem_of_getElem? (i := 0) rfl) (by decide) rfl dX0_run_2 q1541 q1543 qs42 q138 q1544 (by decide +kernel), fun _ h => nomatch h⟩)) rfl (xcP (xok_ifeq dX0_run_5 (by decide)) rfl (xcP (xok_iload dX0_run_8) rfl (xcP (xok_iconst dX0_run_10 rfl) rfl (xcP (xok_sipush dX0_run_11 rfl) rfl (xcC0 (xokc_S xm3 rfl dX0_run_14 q680 q681 q138 q682 (by decide +kernel)) rfl (xcP (xok_ifne dX0_run_17 (by decide)) rfl (xcP xok_fal rfl trivial)))))))))
theorem okX0_run_20 : XOkL xms rX0_run bX0_run_20 := xcP (xok_iconst dX0_run_20 rfl) rfl (xcR ⟨dX0_run_21, rfl⟩)
theorem okX0_run_22 : XOkL xms rX0_run bX0_run_22 := xcP (xok_iload_n dX0_run_22 rfl) rfl (xcP (xok_ifeq dX0_run_23 (by decide)) rfl (xcP (xok_aload_n dX0_run_26 rfl) rfl (xcP (xok_getfield (ref := "WaysAtlas") (Or.inr ⟨rfl, by decide⟩) dX0_run_27 (Or.inl ⟨q652, (Or.inl rfl)⟩) xh1007) rfl (xcP (xok_goto dX0_run_30 (by decide)) rfl trivial))))
theorem okX0_run_33 : XOkL xms rX0_run bX0_run_33 := xcP (xok_aload_n dX0_run_33 rfl) rfl (xcP (xok_getfield (ref := "WaysAtlas") (Or.inr ⟨rfl, by decide⟩) dX0_run_34 (Or.inl ⟨q651, (Or.inl rfl)⟩) xh1006) rfl (xcP xok_fal rfl trivial))
theorem okX0_run_37 : XOkL xms rX0_run bX0_run_37 := xcP (xok_astore dX0_run_37) rfl (xcP (xok_aload_n dX0_run_39 rfl) rfl (xcP (xok_aload dX0_run_40) rfl (xcP (xok_iload_n dX0_run_42 rfl) rfl (xcP (xok_aload_n dX0_run_43 rfl) rfl (xcP (xok_getfield (ref := "WaysAtlas") (Or.inr ⟨rfl, by decide⟩) dX0_run_44 (Or.inl ⟨q649, (Or.inl rfl)⟩) xh1004) rfl (xcP (xok_iload_n dX0_run_47 rfl) rfl (xcP (xok_iload_n dX0_run_48 rfl) rfl (xcP (xok_iload dX0_run_49) rfl (xcP (xok_iload dX0_run_51) rfl (xcC0 (xokc_list (List.forall_mem_cons.mpr ⟨xokc_V (r := (RX0, TX0, 10)) xm13 (List.mem_of_getElem? (i := 0) rfl) (by decide) rfl dX0_run_53 q1545 q1547 qs43 q138 q1548 (by decide +kernel), fun _ h => nomatch h⟩)) rfl (xcP (xok_aload dX0_run_56) rfl (xcP (xok_getfield (ref := "WaysAtlas$Run") (Or.inl ⟨rfl, by decide⟩) dX0_run_58 (Or.inr ⟨⟨"WaysAtlas", (List.mem_of_getElem? (i := 131) rfl)⟩, (Or.inl rfl)⟩) xh28) rfl (xcR ⟨dX0_run_61, rfl⟩)))))))))))))
theorem okM_X0_run : XOkM xms rX0_run := xokM0 (List.forall_mem_cons.mpr ⟨⟨rfl, okX0_run_0⟩, List.forall_mem_cons.mpr ⟨⟨rfl, okX0_run_20⟩, List.forall_mem_cons.mpr ⟨⟨rfl, okX0_run_22⟩, List.forall_mem_cons.mpr ⟨⟨rfl, okX0_run_33⟩, List.forall_mem_cons.mpr ⟨⟨rfl, okX0_run_37⟩, fun _ h => nomatch h⟩⟩⟩⟩⟩) (xokH0 rfl (fun _ _ => rfl)) (by decide +kernel) (by decide)
abbrev cX0_isMethod : ByteArray := prog_1_method_13_code
def dkwX0_isMethod_0 : List UInt8 := [27, 3, 42, 180, 0, 50, 180, 0, 102, 4, 100, 184, 0, 86, 172]
abbrev dktX0_isMethod_0 : List UInt8 := dkwX0_isMethod_0 ++ []
theorem dksX0_isMethod_0 : cX0_isMethod.data.toList.drop 0 = dktX0_isMethod_0 := by decide +kernel
theorem dX0_isMethod_0 : decode cX0_isMethod 0 = .ok (.iload_n 1, 1) := dk_27 (dk_at dksX0_isMethod_0 0 rfl rfl)
theorem dX0_isMethod_1 : decode cX0_isMethod 1 = .ok (.iconst 0, 1) := dk_3 (dk_at dksX0_isMethod_0 1 rfl rfl)
theorem dX0_isMethod_2 : decode cX0_isMethod 2 = .ok (.aload_n 0, 1) := dk_42 (dk_at dksX0_isMethod_0 2 rfl rfl)
theorem dX0_isMethod_3 : decode cX0_isMethod 3 = .ok (.getfield 50, 3) := dk_180 0 50 (dk_at dksX0_isMethod_0 3 rfl rfl)
theorem dX0_isMethod_6 : decode cX0_isMethod 6 = .ok (.getfield 102, 3) := dk_180 0 102 (dk_at dksX0_isMethod_0 6 rfl rfl)
theorem dX0_isMethod_9 : decode cX0_isMethod 9 = .ok (.iconst 1, 1) := dk_4 (dk_at dksX0_isMethod_0 9 rfl rfl)
theorem dX0_isMethod_10 : decode cX0_isMethod 10 = .ok (.isub, 1) := dk_100 (dk_at dksX0_isMethod_0 10 rfl rfl)
theorem dX0_isMethod_11 : decode cX0_isMethod 11 = .ok (.invokestatic 86, 3) := dk_184 0 86 (dk_at dksX0_isMethod_0 11 rfl rfl)
theorem dX0_isMethod_14 : decode cX0_isMethod 14 = .ok (.ireturn, 1) := dk_172 (dk_at dksX0_isMethod_0 14 rfl rfl)
theorem okX0_isMethod_0 : XOkL xms rX0_isMethod bX0_isMethod_0 := xcP (xok_iload_n dX0_isMethod_0 rfl) rfl (xcP (xok_iconst dX0_isMethod_1 rfl) rfl (xcP (xok_aload_n dX0_isMethod_2 rfl) rfl (xcP (xok_getfield (ref := "WaysAtlas") (Or.inr ⟨rfl, by decide⟩) dX0_isMethod_3 (Or.inl ⟨q647, (Or.inl rfl)⟩) xh1003) rfl (xcP (xok_getfield (ref := "WaysAtlas$Program") (Or.inl ⟨rfl, by decide⟩) dX0_isMethod_6 (Or.inr ⟨⟨"WaysAtlas", (List.mem_of_getElem? (i := 91) rfl)⟩, (Or.inl rfl)⟩) xh12) rfl (xcP (xok_iconst dX0_isMethod_9 rfl) rfl (xcP (xok_isub dX0_isMethod_10) rfl (xcC0 (xokc_S xm3 rfl dX0_isMethod_11 q680 q681 q138 q682 (by decide +kernel)) rfl (xcR ⟨dX0_isMethod_14, rfl⟩))))))))
theorem okM_X0_isMethod : XOkM xms rX0_isMethod := xokM0 (List.forall_mem_cons.mpr ⟨⟨rfl, okX0_isMethod_0⟩, fun _ h => nomatch h⟩) (xokH0 rfl (fun _ _ => rfl)) (by decide +kernel) (by decide)
abbrev cX0_goes : ByteArray := prog_1_method_14_code
def dkwX0_goes_2 : List UInt8 := [21, 7, 182, 0, 180, 177]
abbrev dktX0_goes_2 : List UInt8 := dkwX0_goes_2 ++ []
def dkwX0_goes_1 : List UInt8 := [21, 5, 21, 6, 21, 7, 182, 0, 177, 167, 0, 19, 42, 180, 0, 50, 43, 21, 4, 21, 5, 21, 6]
abbrev dktX0_goes_1 : List UInt8 := dkwX0_goes_1 ++ dktX0_goes_2
def dkwX0_goes_0 : List UInt8 := [43, 42, 180, 0, 50, 181, 0, 175, 43, 45, 181, 0, 176, 28, 153, 0, 22, 42, 180, 0, 50, 43, 21, 4]
abbrev dktX0_goes_0 : List UInt8 := dkwX0_goes_0 ++ dktX0_goes_1
theorem dksX0_goes_0 : cX0_goes.data.toList.drop 0 = dktX0_goes_0 := by decide +kernel
theorem dksX0_goes_1 : cX0_goes.data.toList.drop 24 = dktX0_goes_1 := dk_seg dksX0_goes_0 24 rfl rfl
theorem dksX0_goes_2 : cX0_goes.data.toList.drop 47 = dktX0_goes_2 := dk_seg dksX0_goes_1 23 rfl rfl
theorem dX0_goes_0 : decode cX0_goes 0 = .ok (.aload_n 1, 1) := dk_43 (dk_at dksX0_goes_0 0 rfl rfl)
theorem dX0_goes_1 : decode cX0_goes 1 = .ok (.aload_n 0, 1) := dk_42 (dk_at dksX0_goes_0 1 rfl rfl)
theorem dX0_goes_2 : decode cX0_goes 2 = .ok (.getfield 50, 3) := dk_180 0 50 (dk_at dksX0_goes_0 2 rfl rfl)
theorem dX0_goes_5 : decode cX0_goes 5 = .ok (.putfield 175, 3) := dk_181 0 175 (dk_at dksX0_goes_0 5 rfl rfl)
theorem dX0_goes_8 : decode cX0_goes 8 = .ok (.aload_n 1, 1) := dk_43 (dk_at dksX0_goes_0 8 rfl rfl)
theorem dX0_goes_9 : decode cX0_goes 9 = .ok (.aload_n 3, 1) := dk_45 (dk_at dksX0_goes_0 9 rfl rfl)
theorem dX0_goes_10 : decode cX0_goes 10 = .ok (.putfield 176, 3) := dk_181 0 176 (dk_at dksX0_goes_0 10 rfl rfl)
theorem dX0_goes_13 : decode cX0_goes 13 = .ok (.iload_n 2, 1) := dk_28 (dk_at dksX0_goes_0 13 rfl rfl)
theorem dX0_goes_14 : decode cX0_goes 14 = .ok (.ifCond .eq 22, 3) := dk_153 0 22 (dk_at dksX0_goes_0 14 rfl rfl)
theorem dX0_goes_17 : decode cX0_goes 17 = .ok (.aload_n 0, 1) := dk_42 (dk_at dksX0_goes_0 17 rfl rfl)
theorem dX0_goes_18 : decode cX0_goes 18 = .ok (.getfield 50, 3) := dk_180 0 50 (dk_at dksX0_goes_0 18 rfl rfl)
theorem dX0_goes_21 : decode cX0_goes 21 = .ok (.aload_n 1, 1) := dk_43 (dk_at dksX0_goes_0 21 rfl rfl)
theorem dX0_goes_22 : decode cX0_goes 22 = .ok (.iload 4, 2) := dk_21 4 (dk_at dksX0_goes_0 22 rfl rfl)
theorem dX0_goes_24 : decode cX0_goes 24 = .ok (.iload 5, 2) := dk_21 5 (dk_at dksX0_goes_1 0 rfl rfl)
theorem dX0_goes_26 : decode cX0_goes 26 = .ok (.iload 6, 2) := dk_21 6 (dk_at dksX0_goes_1 2 rfl rfl)
theorem dX0_goes_28 : decode cX0_goes 28 = .ok (.iload 7, 2) := dk_21 7 (dk_at dksX0_goes_1 4 rfl rfl)
theorem dX0_goes_30 : decode cX0_goes 30 = .ok (.invokevirtual 177, 3) := dk_182 0 177 (dk_at dksX0_goes_1 6 rfl rfl)
theorem dX0_goes_33 : decode cX0_goes 33 = .ok (.goto 19, 3) := dk_167 0 19 (dk_at dksX0_goes_1 9 rfl rfl)
theorem dX0_goes_36 : decode cX0_goes 36 = .ok (.aload_n 0, 1) := dk_42 (dk_at dksX0_goes_1 12 rfl rfl)
theorem dX0_goes_37 : decode cX0_goes 37 = .ok (.getfield 50, 3) := dk_180 0 50 (dk_at dksX0_goes_1 13 rfl rfl)
theorem dX0_goes_40 : decode cX0_goes 40 = .ok (.aload_n 1, 1) := dk_43 (dk_at dksX0_goes_1 16 rfl rfl)
theorem dX0_goes_41 : decode cX0_goes 41 = .ok (.iload 4, 2) := dk_21 4 (dk_at dksX0_goes_1 17 rfl rfl)
theorem dX0_goes_43 : decode cX0_goes 43 = .ok (.iload 5, 2) := dk_21 5 (dk_at dksX0_goes_1 19 rfl rfl)
theorem dX0_goes_45 : decode cX0_goes 45 = .ok (.iload 6, 2) := dk_21 6 (dk_at dksX0_goes_1 21 rfl rfl)
theorem dX0_goes_47 : decode cX0_goes 47 = .ok (.iload 7, 2) := dk_21 7 (dk_at dksX0_goes_2 0 rfl rfl)
theorem dX0_goes_49 : decode cX0_goes 49 = .ok (.invokevirtual 180, 3) := dk_182 0 180 (dk_at dksX0_goes_2 2 rfl rfl)
theorem dX0_goes_52 : decode cX0_goes 52 = .ok (.return_, 1) := dk_177 (dk_at dksX0_goes_2 5 rfl rfl)
theorem okX0_goes_0 : XOkL xms rX0_goes bX0_goes_0 := xcP (xok_aload_n dX0_goes_0 rfl) rfl (xcP (xok_aload_n dX0_goes_1 rfl) rfl (xcP (xok_getfield (ref := "WaysAtlas") (Or.inr ⟨rfl, by decide⟩) dX0_goes_2 (Or.inl ⟨q647, (Or.inl rfl)⟩) xh1003) rfl (xcP (xok_putfield (ref := "WaysAtlas$Run") (Or.inr (Or.inr ⟨rfl, by decide, rfl⟩)) dX0_goes_5 (Or.inr ⟨⟨"WaysAtlas", (List.mem_of_getElem? (i := 105) rfl)⟩, (Or.inl rfl)⟩) (Or.inl rfl) xh1029) rfl (xcP (xok_aload_n dX0_goes_8 rfl) rfl (xcP (xok_aload_n dX0_goes_9 rfl) rfl (xcP (xok_putfield (ref := "WaysAtlas$Run") (Or.inr (Or.inr ⟨rfl, by decide, rfl⟩)) dX0_goes_10 (Or.inr ⟨⟨"WaysAtlas", (List.mem_of_getElem? (i := 106) rfl)⟩, (Or.inl rfl)⟩) (Or.inl rfl) xh1030) rfl (xcP (xok_iload_n dX0_goes_13 rfl) rfl (xcP (xok_ifeq dX0_goes_14 (by decide)) rfl (xcP (xok_aload_n dX0_goes_17 rfl) rfl (xcP (xok_getfield (ref := "WaysAtlas") (Or.inr ⟨rfl, by decide⟩) dX0_goes_18 (Or.inl ⟨q647, (Or.inl rfl)⟩) xh1003) rfl (xcP (xok_aload_n dX0_goes_21 rfl) rfl (xcP (xok_iload dX0_goes_22) rfl (xcP (xok_iload dX0_goes_24) rfl (xcP (xok_iload dX0_goes_26) rfl (xcP (xok_iload dX0_goes_28) rfl (xcC0 (xokc_list (List.forall_mem_cons.mpr ⟨xokc_VX (r := (RX3, TX3, 10)) xm68 (List.mem_of_getElem? (i := 3) rfl) (by decide) (by decide) dX0_goes_30 q1549 q1550 q1551 q141 q1552 (by decide +kernel), fun _ h => nomatch h⟩)) rfl (xcP (xok_goto dX0_goes_33 (by decide)) rfl trivial)))))))))))))))))
theorem okX0_goes_36 : XOkL xms rX0_goes bX0_goes_36 := xcP (xok_aload_n dX0_goes_36 rfl) rfl (xcP (xok_getfield (ref := "WaysAtlas") (Or.inr ⟨rfl, by decide⟩) dX0_goes_37 (Or.inl ⟨q647, (Or.inl rfl)⟩) xh1003) rfl (xcP (xok_aload_n dX0_goes_40 rfl) rfl (xcP (xok_iload dX0_goes_41) rfl (xcP (xok_iload dX0_goes_43) rfl (xcP (xok_iload dX0_goes_45) rfl (xcP (xok_iload dX0_goes_47) rfl (xcC0 (xokc_list (List.forall_mem_cons.mpr ⟨xokc_VX (r := (RX3, TX3, 10)) xm71 (List.mem_of_getElem? (i := 3) rfl) (by decide) (by decide) dX0_goes_49 q1779 q1780 q1781 q141 q1782 (by decide +kernel), fun _ h => nomatch h⟩)) rfl (xcP xok_fal rfl trivial))))))))
theorem okX0_goes_52 : XOkL xms rX0_goes bX0_goes_52 := xcR ⟨dX0_goes_52, rfl⟩
theorem okM_X0_goes : XOkM xms rX0_goes := xokM0 (List.forall_mem_cons.mpr ⟨⟨rfl, okX0_goes_0⟩, List.forall_mem_cons.mpr ⟨⟨rfl, okX0_goes_36⟩, List.forall_mem_cons.mpr ⟨⟨rfl, okX0_goes_52⟩, fun _ h => nomatch h⟩⟩⟩) (xokH0 rfl (fun _ _ => rfl)) (by decide +kernel) (by decide)
abbrev cX0_walks : ByteArray := prog_1_method_2_code
def dkwX0_walks_2 : List UInt8 := [132, 4, 1, 167, 255, 211, 29, 172]
abbrev dktX0_walks_2 : List UInt8 := dkwX0_walks_2 ++ []
def dkwX0_walks_1 : List UInt8 := [50, 180, 0, 9, 181, 0, 15, 42, 21, 4, 50, 58, 5, 25, 5, 43, 44, 185, 0, 20, 3, 0, 62]
abbrev dktX0_walks_1 : List UInt8 := dkwX0_walks_1 ++ dktX0_walks_2
def dkwX0_walks_0 : List UInt8 := [3, 62, 3, 54, 4, 21, 4, 42, 190, 162, 0, 44, 29, 154, 0, 40, 43, 182, 0, 3, 44, 42, 21, 4]
abbrev dktX0_walks_0 : List UInt8 := dkwX0_walks_0 ++ dktX0_walks_1
theorem dksX0_walks_0 : cX0_walks.data.toList.drop 0 = dktX0_walks_0 := by decide +kernel
theorem dksX0_walks_1 : cX0_walks.data.toList.drop 24 = dktX0_walks_1 := dk_seg dksX0_walks_0 24 rfl rfl
theorem dksX0_walks_2 : cX0_walks.data.toList.drop 47 = dktX0_walks_2 := dk_seg dksX0_walks_1 23 rfl rfl
theorem dX0_walks_0 : decode cX0_walks 0 = .ok (.iconst 0, 1) := dk_3 (dk_at dksX0_walks_0 0 rfl rfl)
theorem dX0_walks_1 : decode cX0_walks 1 = .ok (.istore_n 3, 1) := dk_62 (dk_at dksX0_walks_0 1 rfl rfl)
theorem dX0_walks_2 : decode cX0_walks 2 = .ok (.iconst 0, 1) := dk_3 (dk_at dksX0_walks_0 2 rfl rfl)
theorem dX0_walks_3 : decode cX0_walks 3 = .ok (.istore 4, 2) := dk_54 4 (dk_at dksX0_walks_0 3 rfl rfl)
theorem dX0_walks_5 : decode cX0_walks 5 = .ok (.iload 4, 2) := dk_21 4 (dk_at dksX0_walks_0 5 rfl rfl)
theorem dX0_walks_7 : decode cX0_walks 7 = .ok (.aload_n 0, 1) := dk_42 (dk_at dksX0_walks_0 7 rfl rfl)
theorem dX0_walks_8 : decode cX0_walks 8 = .ok (.arraylength, 1) := dk_190 (dk_at dksX0_walks_0 8 rfl rfl)
theorem dX0_walks_9 : decode cX0_walks 9 = .ok (.if_icmp .ge 44, 3) := dk_162 0 44 (dk_at dksX0_walks_0 9 rfl rfl)
theorem dX0_walks_12 : decode cX0_walks 12 = .ok (.iload_n 3, 1) := dk_29 (dk_at dksX0_walks_0 12 rfl rfl)
theorem dX0_walks_13 : decode cX0_walks 13 = .ok (.ifCond .ne 40, 3) := dk_154 0 40 (dk_at dksX0_walks_0 13 rfl rfl)
theorem dX0_walks_16 : decode cX0_walks 16 = .ok (.aload_n 1, 1) := dk_43 (dk_at dksX0_walks_0 16 rfl rfl)
theorem dX0_walks_17 : decode cX0_walks 17 = .ok (.invokevirtual 3, 3) := dk_182 0 3 (dk_at dksX0_walks_0 17 rfl rfl)
theorem dX0_walks_20 : decode cX0_walks 20 = .ok (.aload_n 2, 1) := dk_44 (dk_at dksX0_walks_0 20 rfl rfl)
theorem dX0_walks_21 : decode cX0_walks 21 = .ok (.aload_n 0, 1) := dk_42 (dk_at dksX0_walks_0 21 rfl rfl)
theorem dX0_walks_22 : decode cX0_walks 22 = .ok (.iload 4, 2) := dk_21 4 (dk_at dksX0_walks_0 22 rfl rfl)
theorem dX0_walks_24 : decode cX0_walks 24 = .ok (.aaload, 1) := dk_50 (dk_at dksX0_walks_1 0 rfl rfl)
theorem dX0_walks_25 : decode cX0_walks 25 = .ok (.getfield 9, 3) := dk_180 0 9 (dk_at dksX0_walks_1 1 rfl rfl)
theorem dX0_walks_28 : decode cX0_walks 28 = .ok (.putfield 15, 3) := dk_181 0 15 (dk_at dksX0_walks_1 4 rfl rfl)
theorem dX0_walks_31 : decode cX0_walks 31 = .ok (.aload_n 0, 1) := dk_42 (dk_at dksX0_walks_1 7 rfl rfl)
theorem dX0_walks_32 : decode cX0_walks 32 = .ok (.iload 4, 2) := dk_21 4 (dk_at dksX0_walks_1 8 rfl rfl)
theorem dX0_walks_34 : decode cX0_walks 34 = .ok (.aaload, 1) := dk_50 (dk_at dksX0_walks_1 10 rfl rfl)
theorem dX0_walks_35 : decode cX0_walks 35 = .ok (.astore 5, 2) := dk_58 5 (dk_at dksX0_walks_1 11 rfl rfl)
theorem dX0_walks_37 : decode cX0_walks 37 = .ok (.aload 5, 2) := dk_25 5 (dk_at dksX0_walks_1 13 rfl rfl)
theorem dX0_walks_39 : decode cX0_walks 39 = .ok (.aload_n 1, 1) := dk_43 (dk_at dksX0_walks_1 15 rfl rfl)
theorem dX0_walks_40 : decode cX0_walks 40 = .ok (.aload_n 2, 1) := dk_44 (dk_at dksX0_walks_1 16 rfl rfl)
theorem dX0_walks_41 : decode cX0_walks 41 = .ok (.invokeinterface 20 3, 5) := by decide +kernel
theorem dX0_walks_46 : decode cX0_walks 46 = .ok (.istore_n 3, 1) := dk_62 (dk_at dksX0_walks_1 22 rfl rfl)
theorem dX0_walks_47 : decode cX0_walks 47 = .ok (.iinc 4 1, 3) := dk_132 4 1 (dk_at dksX0_walks_2 0 rfl rfl)
theorem dX0_walks_50 : decode cX0_walks 50 = .ok (.goto (-45), 3) := dk_167 255 211 (dk_at dksX0_walks_2 3 rfl rfl)
theorem dX0_walks_53 : decode cX0_walks 53 = .ok (.iload_n 3, 1) := dk_29 (dk_at dksX0_walks_2 6 rfl rfl)
theorem dX0_walks_54 : decode cX0_walks 54 = .ok (.ireturn, 1) := dk_172 (dk_at dksX0_walks_2 7 rfl rfl)
theorem okX0_walks_0 : XOkL xms rX0_walks bX0_walks_0 := xcP (xok_iconst dX0_walks_0 rfl) rfl (xcP (xok_istore_n dX0_walks_1 rfl) rfl (xcP (xok_iconst dX0_walks_2 rfl) rfl (xcP (xok_istore dX0_walks_3) rfl (xcP xok_fal rfl trivial))))
theorem okX0_walks_5 : XOkL xms rX0_walks bX0_walks_5 := xcP (xok_iload dX0_walks_5) rfl (xcP (xok_aload_n dX0_walks_7 rfl) rfl (xcP (xok_len dX0_walks_8) rfl (xcP (xok_icmpge dX0_walks_9 (by decide)) rfl (xcP (xok_iload_n dX0_walks_12 rfl) rfl (xcP (xok_ifne dX0_walks_13 (by decide)) rfl (xcP (xok_aload_n dX0_walks_16 rfl) rfl (xcC0 (xokc_list (List.forall_mem_cons.mpr ⟨xokc_V (r := (RX5, TX5, 34)) xm85 (List.mem_of_getElem? (i := 5) rfl) (by decide) rfl dX0_walks_17 q1593 q1594 q1595 q143 q1596 (by decide +kernel), fun _ h => nomatch h⟩)) rfl (xcP (xok_aload_n dX0_walks_20 rfl) rfl (xcP (xok_aload_n dX0_walks_21 rfl) rfl (xcP (xok_iload dX0_walks_22) rfl (xcP (xok_aaload (by decide) rfl dX0_walks_24) rfl (xcP (xok_getfield (ref := "WaysAtlas$Statement") (Or.inl ⟨rfl, by decide⟩) dX0_walks_25 (Or.inl ⟨q972, (Or.inl rfl)⟩) xh82) rfl (xcP (xok_putfield (ref := "WaysAtlas$Frame") (Or.inl ⟨rfl, by decide, rfl⟩) dX0_walks_28 (Or.inr ⟨⟨"WaysAtlas", (List.mem_of_getElem? (i := 100) rfl)⟩, (Or.inl rfl)⟩) (Or.inl rfl) xh35) rfl (xcP (xok_aload_n dX0_walks_31 rfl) rfl (xcP (xok_iload dX0_walks_32) rfl (xcP (xok_aaload (by decide) rfl dX0_walks_34) rfl (xcP (xok_astore dX0_walks_35) rfl (xcP (xok_aload dX0_walks_37) rfl (xcP (xok_aload_n dX0_walks_39 rfl) rfl (xcP (xok_aload_n dX0_walks_40 rfl) rfl (xcC0 (xokc_list (List.forall_mem_cons.mpr ⟨xokc_F (r := (RX18, TX18, 5)) xm219 (List.mem_of_getElem? (i := 16) rfl) (by decide) rfl dX0_walks_41 q1598 q1613 q1615 q163 (List.mem_of_getElem? (i := 3) rfl) q1617 (by decide +kernel), List.forall_mem_cons.mpr ⟨xokc_F (r := (RX20, TX20, 3)) xm223 (List.mem_of_getElem? (i := 17) rfl) (by decide) rfl dX0_walks_41 q1598 q1775 q1724 q164 (List.mem_of_getElem? (i := 23) rfl) q1726 (by decide +kernel), List.forall_mem_cons.mpr ⟨xokc_F (r := (RX21, TX21, 3)) xm223 (List.mem_of_getElem? (i := 18) rfl) (by decide) rfl dX0_walks_41 q1598 q1761 q1724 q164 (List.mem_of_getElem? (i := 17) rfl) q1726 (by decide +kernel), List.forall_mem_cons.mpr ⟨xokc_F (r := (RX22, TX22, 3)) xm223 (List.mem_of_getElem? (i := 19) rfl) (by decide) rfl dX0_walks_41 q1598 q1759 q1724 q164 (List.mem_of_getElem? (i := 15) rfl) q1726 (by decide +kernel), List.forall_mem_cons.mpr ⟨xokc_F (r := (RX23, TX23, 3)) xm223 (List.mem_of_getElem? (i := 20) rfl) (by decide) rfl dX0_walks_41 q1598 q1773 q1724 q164 (List.mem_of_getElem? (i := 21) rfl) q1726 (by decide +kernel), List.forall_mem_cons.mpr ⟨xokc_F (r := (RX24, TX24, 2)) xm223 (List.mem_of_getElem? (i := 21) rfl) (by decide) rfl dX0_walks_41 q1598 q1722 q1724 q164 (List.mem_of_getElem? (i := 13) rfl) q1726 (by decide +kernel), List.forall_mem_cons.mpr ⟨xokc_F (r := (RX25, TX25, 2)) xm237 (List.mem_of_getElem? (i := 22) rfl) (by decide) rfl dX0_walks_41 q1598 q1763 q1765 q170 (List.mem_of_getElem? (i := 19) rfl) q1767 (by decide +kernel), List.forall_mem_cons.mpr ⟨xokc_F (r := (RX26, TX26, 6)) xm241 (List.mem_of_getElem? (i := 23) rfl) (by decide) rfl dX0_walks_41 q1598 q1694 q1696 q171 (List.mem_of_getElem? (i := 7) rfl) q1698 (by decide +kernel), List.forall_mem_cons.mpr ⟨xokc_F (r := (RX27, TX27, 3)) xm246 (List.mem_of_getElem? (i := 24) rfl) (by decide) rfl dX0_walks_41 q1598 q1710 q1712 q172 (List.mem_of_getElem? (i := 11) rfl) q1714 (by decide +kernel), List.forall_mem_cons.mpr ⟨xokc_F (r := (RX28, TX28, 2)) xm250 (List.mem_of_getElem? (i := 25) rfl) (by decide) rfl dX0_walks_41 q1598 q1705 q1707 q173 (List.mem_of_getElem? (i := 9) rfl) q1709 (by decide +kernel), List.forall_mem_cons.mpr ⟨xokc_F (r := (RX29, TX29, 2)) xm223 (List.mem_of_getElem? (i := 26) rfl) (by decide) rfl dX0_walks_41 q1598 q1777 q1724 q164 (List.mem_of_getElem? (i := 25) rfl) q1726 (by decide +kernel), List.forall_mem_cons.mpr ⟨xokc_F (r := (RX30, TX30, 3)) xm255 (List.mem_of_getElem? (i := 27) rfl) (by decide) rfl dX0_walks_41 q1598 q1601 q1603 q175 (List.mem_of_getElem? (i := 1) rfl) q1605 (by decide +kernel), List.forall_mem_cons.mpr ⟨xokc_FW (r := (RX31, TX31, 7)) xm262 (List.mem_of_getElem? (i := 28) rfl) (by decide) (by decide) dX0_walks_41 q1598 q1648 q1650 q176 (List.mem_of_getElem? (i := 5) rfl) q1652 (by decide +kernel), fun _ h => nomatch h⟩⟩⟩⟩⟩⟩⟩⟩⟩⟩⟩⟩⟩)) rfl (xcP (xok_istore_n dX0_walks_46 rfl) rfl (xcP (xok_iinc dX0_walks_47 rfl) rfl (xcP (xok_goto dX0_walks_50 (by decide)) rfl trivial))))))))))))))))))))))))
theorem okX0_walks_53 : XOkL xms rX0_walks bX0_walks_53 := xcP (xok_iload_n dX0_walks_53 rfl) rfl (xcR ⟨dX0_walks_54, rfl⟩)
theorem okM_X0_walks : XOkM xms rX0_walks := xokM0 (List.forall_mem_cons.mpr ⟨⟨rfl, okX0_walks_0⟩, List.forall_mem_cons.mpr ⟨⟨rfl, okX0_walks_5⟩, List.forall_mem_cons.mpr ⟨⟨rfl, okX0_walks_53⟩, fun _ h => nomatch h⟩⟩⟩) (xokH0 rfl (fun _ _ => rfl)) (by decide +kernel) (by decide)
abbrev cX0_ran : ByteArray := prog_1_method_17_code
def dkwX0_ran_1 : List UInt8 := [45, 28, 184, 0, 194, 172]
abbrev dktX0_ran_1 : List UInt8 := dkwX0_ran_1 ++ []
def dkwX0_ran_0 : List UInt8 := [42, 27, 182, 0, 190, 78, 45, 198, 0, 13, 28, 3, 16, 9, 184, 0, 86, 154, 0, 7, 2, 167, 0, 8]
abbrev dktX0_ran_0 : List UInt8 := dkwX0_ran_0 ++ dktX0_ran_1
theorem dksX0_ran_0 : cX0_ran.data.toList.drop 0 = dktX0_ran_0 := by decide +kernel
theorem dksX0_ran_1 : cX0_ran.data.toList.drop 24 = dktX0_ran_1 := dk_seg dksX0_ran_0 24 rfl rfl
theorem dX0_ran_0 : decode cX0_ran 0 = .ok (.aload_n 0, 1) := dk_42 (dk_at dksX0_ran_0 0 rfl rfl)
theorem dX0_ran_1 : decode cX0_ran 1 = .ok (.iload_n 1, 1) := dk_27 (dk_at dksX0_ran_0 1 rfl rfl)
theorem dX0_ran_2 : decode cX0_ran 2 = .ok (.invokevirtual 190, 3) := dk_182 0 190 (dk_at dksX0_ran_0 2 rfl rfl)
theorem dX0_ran_5 : decode cX0_ran 5 = .ok (.astore_n 3, 1) := dk_78 (dk_at dksX0_ran_0 5 rfl rfl)
theorem dX0_ran_6 : decode cX0_ran 6 = .ok (.aload_n 3, 1) := dk_45 (dk_at dksX0_ran_0 6 rfl rfl)
theorem dX0_ran_7 : decode cX0_ran 7 = .ok (.ifnull 13, 3) := dk_198 0 13 (dk_at dksX0_ran_0 7 rfl rfl)
theorem dX0_ran_10 : decode cX0_ran 10 = .ok (.iload_n 2, 1) := dk_28 (dk_at dksX0_ran_0 10 rfl rfl)
theorem dX0_ran_11 : decode cX0_ran 11 = .ok (.iconst 0, 1) := dk_3 (dk_at dksX0_ran_0 11 rfl rfl)
theorem dX0_ran_12 : decode cX0_ran 12 = .ok (.bipush 9, 2) := dk_16 9 (dk_at dksX0_ran_0 12 rfl rfl)
theorem dX0_ran_14 : decode cX0_ran 14 = .ok (.invokestatic 86, 3) := dk_184 0 86 (dk_at dksX0_ran_0 14 rfl rfl)
theorem dX0_ran_17 : decode cX0_ran 17 = .ok (.ifCond .ne 7, 3) := dk_154 0 7 (dk_at dksX0_ran_0 17 rfl rfl)
theorem dX0_ran_20 : decode cX0_ran 20 = .ok (.iconst (-1), 1) := dk_2 (dk_at dksX0_ran_0 20 rfl rfl)
theorem dX0_ran_21 : decode cX0_ran 21 = .ok (.goto 8, 3) := dk_167 0 8 (dk_at dksX0_ran_0 21 rfl rfl)
theorem dX0_ran_24 : decode cX0_ran 24 = .ok (.aload_n 3, 1) := dk_45 (dk_at dksX0_ran_1 0 rfl rfl)
theorem dX0_ran_25 : decode cX0_ran 25 = .ok (.iload_n 2, 1) := dk_28 (dk_at dksX0_ran_1 1 rfl rfl)
theorem dX0_ran_26 : decode cX0_ran 26 = .ok (.invokestatic 194, 3) := dk_184 0 194 (dk_at dksX0_ran_1 2 rfl rfl)
theorem dX0_ran_29 : decode cX0_ran 29 = .ok (.ireturn, 1) := dk_172 (dk_at dksX0_ran_1 5 rfl rfl)
theorem okX0_ran_0 : XOkL xms rX0_ran bX0_ran_0 := xcP (xok_aload_n dX0_ran_0 rfl) rfl (xcP (xok_iload_n dX0_ran_1 rfl) rfl (xcC0 (xokc_list (List.forall_mem_cons.mpr ⟨xokc_V (r := (RX0, TX0, 10)) xm16 (List.mem_of_getElem? (i := 0) rfl) (by decide) rfl dX0_ran_2 q1827 q1829 qs51 q138 q1830 (by decide +kernel), fun _ h => nomatch h⟩)) rfl (xcP (xok_astore_n dX0_ran_5 rfl) rfl (xcP (xok_aload_n dX0_ran_6 rfl) rfl (xcP (xok_ifnull dX0_ran_7 (by decide)) rfl (xcP (xok_iload_n dX0_ran_10 rfl) rfl (xcP (xok_iconst dX0_ran_11 rfl) rfl (xcP (xok_bipush dX0_ran_12 rfl) rfl (xcC0 (xokc_S xm3 rfl dX0_ran_14 q680 q681 q138 q682 (by decide +kernel)) rfl (xcP (xok_ifne dX0_ran_17 (by decide)) rfl (xcP xok_fal rfl trivial)))))))))))
theorem okX0_ran_20 : XOkL xms rX0_ran bX0_ran_20 := xcP (xok_iconst dX0_ran_20 rfl) rfl (xcP (xok_goto dX0_ran_21 (by decide)) rfl trivial)
theorem okX0_ran_24 : XOkL xms rX0_ran bX0_ran_24 := xcP (xok_aload_n dX0_ran_24 rfl) rfl (xcP (xok_iload_n dX0_ran_25 rfl) rfl (xcC0 (xokc_S xm17 rfl dX0_ran_26 q1831 q1832 q138 q1833 (by decide +kernel)) rfl (xcP xok_fal rfl trivial)))
theorem okX0_ran_29 : XOkL xms rX0_ran bX0_ran_29 := xcR ⟨dX0_ran_29, rfl⟩
theorem okM_X0_ran : XOkM xms rX0_ran := xokM0 (List.forall_mem_cons.mpr ⟨⟨rfl, okX0_ran_0⟩, List.forall_mem_cons.mpr ⟨⟨rfl, okX0_ran_20⟩, List.forall_mem_cons.mpr ⟨⟨rfl, okX0_ran_24⟩, List.forall_mem_cons.mpr ⟨⟨rfl, okX0_ran_29⟩, fun _ h => nomatch h⟩⟩⟩⟩) (xokH0 rfl (fun _ _ => rfl)) (by decide +kernel) (by decide)
abbrev cX0_runOf : ByteArray := prog_1_method_16_code
def dkwX0_runOf_1 : List UInt8 := [77, 44, 198, 0, 12, 44, 180, 0, 83, 16, 247, 160, 0, 7, 1, 167, 0, 4, 44, 176]
abbrev dktX0_runOf_1 : List UInt8 := dkwX0_runOf_1 ++ []
def dkwX0_runOf_0 : List UInt8 := [27, 154, 0, 10, 42, 180, 0, 67, 167, 0, 16, 27, 4, 160, 0, 10, 42, 180, 0, 74, 167, 0, 4, 1]
abbrev dktX0_runOf_0 : List UInt8 := dkwX0_runOf_0 ++ dktX0_runOf_1
theorem dksX0_runOf_0 : cX0_runOf.data.toList.drop 0 = dktX0_runOf_0 := by decide +kernel
theorem dksX0_runOf_1 : cX0_runOf.data.toList.drop 24 = dktX0_runOf_1 := dk_seg dksX0_runOf_0 24 rfl rfl
theorem dX0_runOf_0 : decode cX0_runOf 0 = .ok (.iload_n 1, 1) := dk_27 (dk_at dksX0_runOf_0 0 rfl rfl)
theorem dX0_runOf_1 : decode cX0_runOf 1 = .ok (.ifCond .ne 10, 3) := dk_154 0 10 (dk_at dksX0_runOf_0 1 rfl rfl)
theorem dX0_runOf_4 : decode cX0_runOf 4 = .ok (.aload_n 0, 1) := dk_42 (dk_at dksX0_runOf_0 4 rfl rfl)
theorem dX0_runOf_5 : decode cX0_runOf 5 = .ok (.getfield 67, 3) := dk_180 0 67 (dk_at dksX0_runOf_0 5 rfl rfl)
theorem dX0_runOf_8 : decode cX0_runOf 8 = .ok (.goto 16, 3) := dk_167 0 16 (dk_at dksX0_runOf_0 8 rfl rfl)
theorem dX0_runOf_11 : decode cX0_runOf 11 = .ok (.iload_n 1, 1) := dk_27 (dk_at dksX0_runOf_0 11 rfl rfl)
theorem dX0_runOf_12 : decode cX0_runOf 12 = .ok (.iconst 1, 1) := dk_4 (dk_at dksX0_runOf_0 12 rfl rfl)
theorem dX0_runOf_13 : decode cX0_runOf 13 = .ok (.if_icmp .ne 10, 3) := dk_160 0 10 (dk_at dksX0_runOf_0 13 rfl rfl)
theorem dX0_runOf_16 : decode cX0_runOf 16 = .ok (.aload_n 0, 1) := dk_42 (dk_at dksX0_runOf_0 16 rfl rfl)
theorem dX0_runOf_17 : decode cX0_runOf 17 = .ok (.getfield 74, 3) := dk_180 0 74 (dk_at dksX0_runOf_0 17 rfl rfl)
theorem dX0_runOf_20 : decode cX0_runOf 20 = .ok (.goto 4, 3) := dk_167 0 4 (dk_at dksX0_runOf_0 20 rfl rfl)
theorem dX0_runOf_23 : decode cX0_runOf 23 = .ok (.aconst_null, 1) := dk_1 (dk_at dksX0_runOf_0 23 rfl rfl)
theorem dX0_runOf_24 : decode cX0_runOf 24 = .ok (.astore_n 2, 1) := dk_77 (dk_at dksX0_runOf_1 0 rfl rfl)
theorem dX0_runOf_25 : decode cX0_runOf 25 = .ok (.aload_n 2, 1) := dk_44 (dk_at dksX0_runOf_1 1 rfl rfl)
theorem dX0_runOf_26 : decode cX0_runOf 26 = .ok (.ifnull 12, 3) := dk_198 0 12 (dk_at dksX0_runOf_1 2 rfl rfl)
theorem dX0_runOf_29 : decode cX0_runOf 29 = .ok (.aload_n 2, 1) := dk_44 (dk_at dksX0_runOf_1 5 rfl rfl)
theorem dX0_runOf_30 : decode cX0_runOf 30 = .ok (.getfield 83, 3) := dk_180 0 83 (dk_at dksX0_runOf_1 6 rfl rfl)
theorem dX0_runOf_33 : decode cX0_runOf 33 = .ok (.bipush (-9), 2) := dk_16 247 (dk_at dksX0_runOf_1 9 rfl rfl)
theorem dX0_runOf_35 : decode cX0_runOf 35 = .ok (.if_icmp .ne 7, 3) := dk_160 0 7 (dk_at dksX0_runOf_1 11 rfl rfl)
theorem dX0_runOf_38 : decode cX0_runOf 38 = .ok (.aconst_null, 1) := dk_1 (dk_at dksX0_runOf_1 14 rfl rfl)
theorem dX0_runOf_39 : decode cX0_runOf 39 = .ok (.goto 4, 3) := dk_167 0 4 (dk_at dksX0_runOf_1 15 rfl rfl)
theorem dX0_runOf_42 : decode cX0_runOf 42 = .ok (.aload_n 2, 1) := dk_44 (dk_at dksX0_runOf_1 18 rfl rfl)
theorem dX0_runOf_43 : decode cX0_runOf 43 = .ok (.areturn, 1) := dk_176 (dk_at dksX0_runOf_1 19 rfl rfl)
theorem okX0_runOf_0 : XOkL xms rX0_runOf bX0_runOf_0 := xcP (xok_iload_n dX0_runOf_0 rfl) rfl (xcP (xok_ifne dX0_runOf_1 (by decide)) rfl (xcP (xok_aload_n dX0_runOf_4 rfl) rfl (xcP (xok_getfield (ref := "WaysAtlas") (Or.inr ⟨rfl, by decide⟩) dX0_runOf_5 (Or.inl ⟨q651, (Or.inl rfl)⟩) xh1006) rfl (xcP (xok_goto dX0_runOf_8 (by decide)) rfl trivial))))
theorem okX0_runOf_11 : XOkL xms rX0_runOf bX0_runOf_11 := xcP (xok_iload_n dX0_runOf_11 rfl) rfl (xcP (xok_iconst dX0_runOf_12 rfl) rfl (xcP (xok_icmpne dX0_runOf_13 (by decide)) rfl (xcP (xok_aload_n dX0_runOf_16 rfl) rfl (xcP (xok_getfield (ref := "WaysAtlas") (Or.inr ⟨rfl, by decide⟩) dX0_runOf_17 (Or.inl ⟨q652, (Or.inl rfl)⟩) xh1007) rfl (xcP (xok_goto dX0_runOf_20 (by decide)) rfl trivial)))))
theorem okX0_runOf_23 : XOkL xms rX0_runOf bX0_runOf_23 := xcP (xok_null dX0_runOf_23) rfl (xcP xok_fal rfl trivial)
theorem okX0_runOf_24 : XOkL xms rX0_runOf bX0_runOf_24 := xcP (xok_astore_n dX0_runOf_24 rfl) rfl (xcP (xok_aload_n dX0_runOf_25 rfl) rfl (xcP (xok_ifnull dX0_runOf_26 (by decide)) rfl (xcP (xok_aload_n dX0_runOf_29 rfl) rfl (xcP (xok_getfield (ref := "WaysAtlas$Run") (Or.inl ⟨rfl, by decide⟩) dX0_runOf_30 (Or.inr ⟨⟨"WaysAtlas", (List.mem_of_getElem? (i := 131) rfl)⟩, (Or.inl rfl)⟩) xh28) rfl (xcP (xok_bipush dX0_runOf_33 rfl) rfl (xcP (xok_icmpne dX0_runOf_35 (by decide)) rfl (xcP xok_fal rfl trivial)))))))
theorem okX0_runOf_38 : XOkL xms rX0_runOf bX0_runOf_38 := xcP (xok_null dX0_runOf_38) rfl (xcP (xok_goto dX0_runOf_39 (by decide)) rfl trivial)
theorem okX0_runOf_42 : XOkL xms rX0_runOf bX0_runOf_42 := xcP (xok_aload_n dX0_runOf_42 rfl) rfl (xcP xok_fal rfl trivial)
theorem okX0_runOf_43 : XOkL xms rX0_runOf bX0_runOf_43 := xcR ⟨dX0_runOf_43, _, rfl, Or.inl ⟨_, rfl⟩⟩
theorem okM_X0_runOf : XOkM xms rX0_runOf := xokM0 (List.forall_mem_cons.mpr ⟨⟨rfl, okX0_runOf_0⟩, List.forall_mem_cons.mpr ⟨⟨rfl, okX0_runOf_11⟩, List.forall_mem_cons.mpr ⟨⟨rfl, okX0_runOf_23⟩, List.forall_mem_cons.mpr ⟨⟨rfl, okX0_runOf_24⟩, List.forall_mem_cons.mpr ⟨⟨rfl, okX0_runOf_38⟩, List.forall_mem_cons.mpr ⟨⟨rfl, okX0_runOf_42⟩, List.forall_mem_cons.mpr ⟨⟨rfl, okX0_runOf_43⟩, fun _ h => nomatch h⟩⟩⟩⟩⟩⟩⟩) (xokH0 rfl (fun _ _ => rfl)) (by decide +kernel) (by decide)
abbrev cX0_told : ByteArray := prog_1_method_18_code
def dkwX0_told_4 : List UInt8 := [180, 0, 222, 172]
abbrev dktX0_told_4 : List UInt8 := dkwX0_told_4 ++ []
def dkwX0_told_3 : List UInt8 := [172, 42, 180, 0, 210, 172, 42, 180, 0, 213, 172, 42, 180, 0, 216, 172, 42, 180, 0, 219, 172, 42]
abbrev dktX0_told_3 : List UInt8 := dkwX0_told_3 ++ dktX0_told_4
def dkwX0_told_2 : List UInt8 := [42, 180, 0, 83, 172, 42, 180, 0, 198, 172, 42, 180, 0, 201, 172, 42, 180, 0, 204, 172, 42, 180, 0, 207]
abbrev dktX0_told_2 : List UInt8 := dkwX0_told_2 ++ dktX0_told_3
def dkwX0_told_1 : List UInt8 := [170, 0, 0, 0, 0, 0, 96, 0, 0, 0, 0, 0, 0, 0, 8, 0, 0, 0, 51, 0, 0, 0, 56, 0, 0, 0, 61, 0, 0, 0, 66, 0, 0, 0, 71, 0, 0, 0, 76, 0, 0, 0, 81, 0, 0, 0, 86, 0, 0, 0, 91]
abbrev dktX0_told_1 : List UInt8 := dkwX0_told_1 ++ dktX0_told_2
def dkwX0_told_0 : List UInt8 := [27]
abbrev dktX0_told_0 : List UInt8 := dkwX0_told_0 ++ dktX0_told_1
theorem dksX0_told_0 : cX0_told.data.toList.drop 0 = dktX0_told_0 := by decide +kernel
theorem dksX0_told_1 : cX0_told.data.toList.drop 1 = dktX0_told_1 := dk_seg dksX0_told_0 1 rfl rfl
theorem dksX0_told_2 : cX0_told.data.toList.drop 52 = dktX0_told_2 := dk_seg dksX0_told_1 51 rfl rfl
theorem dksX0_told_3 : cX0_told.data.toList.drop 76 = dktX0_told_3 := dk_seg dksX0_told_2 24 rfl rfl
theorem dksX0_told_4 : cX0_told.data.toList.drop 98 = dktX0_told_4 := dk_seg dksX0_told_3 22 rfl rfl
theorem dX0_told_0 : decode cX0_told 0 = .ok (.iload_n 1, 1) := dk_27 (dk_at dksX0_told_0 0 rfl rfl)
theorem dX0_told_1 : decode cX0_told 1 = .ok (.tableswitch 96 0 8 #[51, 56, 61, 66, 71, 76, 81, 86, 91], 51) := by decide +kernel
theorem dX0_told_52 : decode cX0_told 52 = .ok (.aload_n 0, 1) := dk_42 (dk_at dksX0_told_2 0 rfl rfl)
theorem dX0_told_53 : decode cX0_told 53 = .ok (.getfield 83, 3) := dk_180 0 83 (dk_at dksX0_told_2 1 rfl rfl)
theorem dX0_told_56 : decode cX0_told 56 = .ok (.ireturn, 1) := dk_172 (dk_at dksX0_told_2 4 rfl rfl)
theorem dX0_told_57 : decode cX0_told 57 = .ok (.aload_n 0, 1) := dk_42 (dk_at dksX0_told_2 5 rfl rfl)
theorem dX0_told_58 : decode cX0_told 58 = .ok (.getfield 198, 3) := dk_180 0 198 (dk_at dksX0_told_2 6 rfl rfl)
theorem dX0_told_61 : decode cX0_told 61 = .ok (.ireturn, 1) := dk_172 (dk_at dksX0_told_2 9 rfl rfl)
theorem dX0_told_62 : decode cX0_told 62 = .ok (.aload_n 0, 1) := dk_42 (dk_at dksX0_told_2 10 rfl rfl)
theorem dX0_told_63 : decode cX0_told 63 = .ok (.getfield 201, 3) := dk_180 0 201 (dk_at dksX0_told_2 11 rfl rfl)
theorem dX0_told_66 : decode cX0_told 66 = .ok (.ireturn, 1) := dk_172 (dk_at dksX0_told_2 14 rfl rfl)
theorem dX0_told_67 : decode cX0_told 67 = .ok (.aload_n 0, 1) := dk_42 (dk_at dksX0_told_2 15 rfl rfl)
theorem dX0_told_68 : decode cX0_told 68 = .ok (.getfield 204, 3) := dk_180 0 204 (dk_at dksX0_told_2 16 rfl rfl)
theorem dX0_told_71 : decode cX0_told 71 = .ok (.ireturn, 1) := dk_172 (dk_at dksX0_told_2 19 rfl rfl)
theorem dX0_told_72 : decode cX0_told 72 = .ok (.aload_n 0, 1) := dk_42 (dk_at dksX0_told_2 20 rfl rfl)
theorem dX0_told_73 : decode cX0_told 73 = .ok (.getfield 207, 3) := dk_180 0 207 (dk_at dksX0_told_2 21 rfl rfl)
theorem dX0_told_76 : decode cX0_told 76 = .ok (.ireturn, 1) := dk_172 (dk_at dksX0_told_3 0 rfl rfl)
theorem dX0_told_77 : decode cX0_told 77 = .ok (.aload_n 0, 1) := dk_42 (dk_at dksX0_told_3 1 rfl rfl)
theorem dX0_told_78 : decode cX0_told 78 = .ok (.getfield 210, 3) := dk_180 0 210 (dk_at dksX0_told_3 2 rfl rfl)
theorem dX0_told_81 : decode cX0_told 81 = .ok (.ireturn, 1) := dk_172 (dk_at dksX0_told_3 5 rfl rfl)
theorem dX0_told_82 : decode cX0_told 82 = .ok (.aload_n 0, 1) := dk_42 (dk_at dksX0_told_3 6 rfl rfl)
theorem dX0_told_83 : decode cX0_told 83 = .ok (.getfield 213, 3) := dk_180 0 213 (dk_at dksX0_told_3 7 rfl rfl)
theorem dX0_told_86 : decode cX0_told 86 = .ok (.ireturn, 1) := dk_172 (dk_at dksX0_told_3 10 rfl rfl)
theorem dX0_told_87 : decode cX0_told 87 = .ok (.aload_n 0, 1) := dk_42 (dk_at dksX0_told_3 11 rfl rfl)
theorem dX0_told_88 : decode cX0_told 88 = .ok (.getfield 216, 3) := dk_180 0 216 (dk_at dksX0_told_3 12 rfl rfl)
theorem dX0_told_91 : decode cX0_told 91 = .ok (.ireturn, 1) := dk_172 (dk_at dksX0_told_3 15 rfl rfl)
theorem dX0_told_92 : decode cX0_told 92 = .ok (.aload_n 0, 1) := dk_42 (dk_at dksX0_told_3 16 rfl rfl)
theorem dX0_told_93 : decode cX0_told 93 = .ok (.getfield 219, 3) := dk_180 0 219 (dk_at dksX0_told_3 17 rfl rfl)
theorem dX0_told_96 : decode cX0_told 96 = .ok (.ireturn, 1) := dk_172 (dk_at dksX0_told_3 20 rfl rfl)
theorem dX0_told_97 : decode cX0_told 97 = .ok (.aload_n 0, 1) := dk_42 (dk_at dksX0_told_3 21 rfl rfl)
theorem dX0_told_98 : decode cX0_told 98 = .ok (.getfield 222, 3) := dk_180 0 222 (dk_at dksX0_told_4 0 rfl rfl)
theorem dX0_told_101 : decode cX0_told 101 = .ok (.ireturn, 1) := dk_172 (dk_at dksX0_told_4 3 rfl rfl)
theorem okX0_told_0 : XOkL xms rX0_told bX0_told_0 := xcP (xok_iload_n dX0_told_0 rfl) rfl (xcP (xok_tsw dX0_told_1 (by decide) (by decide) (by decide)) rfl trivial)
theorem okX0_told_52 : XOkL xms rX0_told bX0_told_52 := xcP (xok_aload_n dX0_told_52 rfl) rfl (xcP (xok_getfield (ref := "WaysAtlas$Run") (Or.inl ⟨rfl, by decide⟩) dX0_told_53 (Or.inr ⟨⟨"WaysAtlas", (List.mem_of_getElem? (i := 131) rfl)⟩, (Or.inl rfl)⟩) xh28) rfl (xcR ⟨dX0_told_56, rfl⟩))
theorem okX0_told_57 : XOkL xms rX0_told bX0_told_57 := xcP (xok_aload_n dX0_told_57 rfl) rfl (xcP (xok_getfield (ref := "WaysAtlas$Run") (Or.inl ⟨rfl, by decide⟩) dX0_told_58 (Or.inr ⟨⟨"WaysAtlas", (List.mem_of_getElem? (i := 107) rfl)⟩, (Or.inl rfl)⟩) xh29) rfl (xcR ⟨dX0_told_61, rfl⟩))
theorem okX0_told_62 : XOkL xms rX0_told bX0_told_62 := xcP (xok_aload_n dX0_told_62 rfl) rfl (xcP (xok_getfield (ref := "WaysAtlas$Run") (Or.inl ⟨rfl, by decide⟩) dX0_told_63 (Or.inr ⟨⟨"WaysAtlas", (List.mem_of_getElem? (i := 108) rfl)⟩, (Or.inl rfl)⟩) xh30) rfl (xcR ⟨dX0_told_66, rfl⟩))
theorem okX0_told_67 : XOkL xms rX0_told bX0_told_67 := xcP (xok_aload_n dX0_told_67 rfl) rfl (xcP (xok_getfield (ref := "WaysAtlas$Run") (Or.inl ⟨rfl, by decide⟩) dX0_told_68 (Or.inr ⟨⟨"WaysAtlas", (List.mem_of_getElem? (i := 109) rfl)⟩, (Or.inl rfl)⟩) xh21) rfl (xcR ⟨dX0_told_71, rfl⟩))
theorem okX0_told_72 : XOkL xms rX0_told bX0_told_72 := xcP (xok_aload_n dX0_told_72 rfl) rfl (xcP (xok_getfield (ref := "WaysAtlas$Run") (Or.inl ⟨rfl, by decide⟩) dX0_told_73 (Or.inr ⟨⟨"WaysAtlas", (List.mem_of_getElem? (i := 110) rfl)⟩, (Or.inl rfl)⟩) xh22) rfl (xcR ⟨dX0_told_76, rfl⟩))
theorem okX0_told_77 : XOkL xms rX0_told bX0_told_77 := xcP (xok_aload_n dX0_told_77 rfl) rfl (xcP (xok_getfield (ref := "WaysAtlas$Run") (Or.inl ⟨rfl, by decide⟩) dX0_told_78 (Or.inr ⟨⟨"WaysAtlas", (List.mem_of_getElem? (i := 111) rfl)⟩, (Or.inl rfl)⟩) xh23) rfl (xcR ⟨dX0_told_81, rfl⟩))
theorem okX0_told_82 : XOkL xms rX0_told bX0_told_82 := xcP (xok_aload_n dX0_told_82 rfl) rfl (xcP (xok_getfield (ref := "WaysAtlas$Run") (Or.inl ⟨rfl, by decide⟩) dX0_told_83 (Or.inr ⟨⟨"WaysAtlas", (List.mem_of_getElem? (i := 112) rfl)⟩, (Or.inl rfl)⟩) xh24) rfl (xcR ⟨dX0_told_86, rfl⟩))
theorem okX0_told_87 : XOkL xms rX0_told bX0_told_87 := xcP (xok_aload_n dX0_told_87 rfl) rfl (xcP (xok_getfield (ref := "WaysAtlas$Run") (Or.inl ⟨rfl, by decide⟩) dX0_told_88 (Or.inr ⟨⟨"WaysAtlas", (List.mem_of_getElem? (i := 113) rfl)⟩, (Or.inl rfl)⟩) xh25) rfl (xcR ⟨dX0_told_91, rfl⟩))
theorem okX0_told_92 : XOkL xms rX0_told bX0_told_92 := xcP (xok_aload_n dX0_told_92 rfl) rfl (xcP (xok_getfield (ref := "WaysAtlas$Run") (Or.inl ⟨rfl, by decide⟩) dX0_told_93 (Or.inr ⟨⟨"WaysAtlas", (List.mem_of_getElem? (i := 114) rfl)⟩, (Or.inl rfl)⟩) xh18) rfl (xcR ⟨dX0_told_96, rfl⟩))
theorem okX0_told_97 : XOkL xms rX0_told bX0_told_97 := xcP (xok_aload_n dX0_told_97 rfl) rfl (xcP (xok_getfield (ref := "WaysAtlas$Run") (Or.inl ⟨rfl, by decide⟩) dX0_told_98 (Or.inr ⟨⟨"WaysAtlas", (List.mem_of_getElem? (i := 115) rfl)⟩, (Or.inl rfl)⟩) xh19) rfl (xcR ⟨dX0_told_101, rfl⟩))
theorem okM_X0_told : XOkM xms rX0_told := xokM0 (List.forall_mem_cons.mpr ⟨⟨rfl, okX0_told_0⟩, List.forall_mem_cons.mpr ⟨⟨rfl, okX0_told_52⟩, List.forall_mem_cons.mpr ⟨⟨rfl, okX0_told_57⟩, List.forall_mem_cons.mpr ⟨⟨rfl, okX0_told_62⟩, List.forall_mem_cons.mpr ⟨⟨rfl, okX0_told_67⟩, List.forall_mem_cons.mpr ⟨⟨rfl, okX0_told_72⟩, List.forall_mem_cons.mpr ⟨⟨rfl, okX0_told_77⟩, List.forall_mem_cons.mpr ⟨⟨rfl, okX0_told_82⟩, List.forall_mem_cons.mpr ⟨⟨rfl, okX0_told_87⟩, List.forall_mem_cons.mpr ⟨⟨rfl, okX0_told_92⟩, List.forall_mem_cons.mpr ⟨⟨rfl, okX0_told_97⟩, fun _ h => nomatch h⟩⟩⟩⟩⟩⟩⟩⟩⟩⟩⟩) (xokH0 rfl (fun _ _ => rfl)) (by decide +kernel) (by decide)
abbrev cX0_mark : ByteArray := prog_1_method_19_code
def dkwX0_mark_1 : List UInt8 := [184, 0, 86, 153, 0, 12, 45, 180, 0, 225, 28, 46, 167, 0, 5, 16, 247, 172]
abbrev dktX0_mark_1 : List UInt8 := dkwX0_mark_1 ++ []
def dkwX0_mark_0 : List UInt8 := [42, 27, 182, 0, 190, 78, 45, 199, 0, 7, 2, 167, 0, 28, 28, 3, 45, 180, 0, 204, 4, 100]
abbrev dktX0_mark_0 : List UInt8 := dkwX0_mark_0 ++ dktX0_mark_1
theorem dksX0_mark_0 : cX0_mark.data.toList.drop 0 = dktX0_mark_0 := by decide +kernel
theorem dksX0_mark_1 : cX0_mark.data.toList.drop 22 = dktX0_mark_1 := dk_seg dksX0_mark_0 22 rfl rfl
theorem dX0_mark_0 : decode cX0_mark 0 = .ok (.aload_n 0, 1) := dk_42 (dk_at dksX0_mark_0 0 rfl rfl)
theorem dX0_mark_1 : decode cX0_mark 1 = .ok (.iload_n 1, 1) := dk_27 (dk_at dksX0_mark_0 1 rfl rfl)
theorem dX0_mark_2 : decode cX0_mark 2 = .ok (.invokevirtual 190, 3) := dk_182 0 190 (dk_at dksX0_mark_0 2 rfl rfl)
theorem dX0_mark_5 : decode cX0_mark 5 = .ok (.astore_n 3, 1) := dk_78 (dk_at dksX0_mark_0 5 rfl rfl)
theorem dX0_mark_6 : decode cX0_mark 6 = .ok (.aload_n 3, 1) := dk_45 (dk_at dksX0_mark_0 6 rfl rfl)
theorem dX0_mark_7 : decode cX0_mark 7 = .ok (.ifnonnull 7, 3) := dk_199 0 7 (dk_at dksX0_mark_0 7 rfl rfl)
theorem dX0_mark_10 : decode cX0_mark 10 = .ok (.iconst (-1), 1) := dk_2 (dk_at dksX0_mark_0 10 rfl rfl)
theorem dX0_mark_11 : decode cX0_mark 11 = .ok (.goto 28, 3) := dk_167 0 28 (dk_at dksX0_mark_0 11 rfl rfl)
theorem dX0_mark_14 : decode cX0_mark 14 = .ok (.iload_n 2, 1) := dk_28 (dk_at dksX0_mark_0 14 rfl rfl)
theorem dX0_mark_15 : decode cX0_mark 15 = .ok (.iconst 0, 1) := dk_3 (dk_at dksX0_mark_0 15 rfl rfl)
theorem dX0_mark_16 : decode cX0_mark 16 = .ok (.aload_n 3, 1) := dk_45 (dk_at dksX0_mark_0 16 rfl rfl)
theorem dX0_mark_17 : decode cX0_mark 17 = .ok (.getfield 204, 3) := dk_180 0 204 (dk_at dksX0_mark_0 17 rfl rfl)
theorem dX0_mark_20 : decode cX0_mark 20 = .ok (.iconst 1, 1) := dk_4 (dk_at dksX0_mark_0 20 rfl rfl)
theorem dX0_mark_21 : decode cX0_mark 21 = .ok (.isub, 1) := dk_100 (dk_at dksX0_mark_0 21 rfl rfl)
theorem dX0_mark_22 : decode cX0_mark 22 = .ok (.invokestatic 86, 3) := dk_184 0 86 (dk_at dksX0_mark_1 0 rfl rfl)
theorem dX0_mark_25 : decode cX0_mark 25 = .ok (.ifCond .eq 12, 3) := dk_153 0 12 (dk_at dksX0_mark_1 3 rfl rfl)
theorem dX0_mark_28 : decode cX0_mark 28 = .ok (.aload_n 3, 1) := dk_45 (dk_at dksX0_mark_1 6 rfl rfl)
theorem dX0_mark_29 : decode cX0_mark 29 = .ok (.getfield 225, 3) := dk_180 0 225 (dk_at dksX0_mark_1 7 rfl rfl)
theorem dX0_mark_32 : decode cX0_mark 32 = .ok (.iload_n 2, 1) := dk_28 (dk_at dksX0_mark_1 10 rfl rfl)
theorem dX0_mark_33 : decode cX0_mark 33 = .ok (.iaload, 1) := dk_46 (dk_at dksX0_mark_1 11 rfl rfl)
theorem dX0_mark_34 : decode cX0_mark 34 = .ok (.goto 5, 3) := dk_167 0 5 (dk_at dksX0_mark_1 12 rfl rfl)
theorem dX0_mark_37 : decode cX0_mark 37 = .ok (.bipush (-9), 2) := dk_16 247 (dk_at dksX0_mark_1 15 rfl rfl)
theorem dX0_mark_39 : decode cX0_mark 39 = .ok (.ireturn, 1) := dk_172 (dk_at dksX0_mark_1 17 rfl rfl)
theorem okX0_mark_0 : XOkL xms rX0_mark bX0_mark_0 := xcP (xok_aload_n dX0_mark_0 rfl) rfl (xcP (xok_iload_n dX0_mark_1 rfl) rfl (xcC0 (xokc_list (List.forall_mem_cons.mpr ⟨xokc_V (r := (RX0, TX0, 10)) xm16 (List.mem_of_getElem? (i := 0) rfl) (by decide) rfl dX0_mark_2 q1827 q1829 qs51 q138 q1830 (by decide +kernel), fun _ h => nomatch h⟩)) rfl (xcP (xok_astore_n dX0_mark_5 rfl) rfl (xcP (xok_aload_n dX0_mark_6 rfl) rfl (xcP (xok_ifnonnull dX0_mark_7 (by decide)) rfl (xcP (xok_iconst dX0_mark_10 rfl) rfl (xcP (xok_goto dX0_mark_11 (by decide)) rfl trivial)))))))
theorem okX0_mark_14 : XOkL xms rX0_mark bX0_mark_14 := xcP (xok_iload_n dX0_mark_14 rfl) rfl (xcP (xok_iconst dX0_mark_15 rfl) rfl (xcP (xok_aload_n dX0_mark_16 rfl) rfl (xcP (xok_getfield (ref := "WaysAtlas$Run") (Or.inl ⟨rfl, by decide⟩) dX0_mark_17 (Or.inr ⟨⟨"WaysAtlas", (List.mem_of_getElem? (i := 109) rfl)⟩, (Or.inl rfl)⟩) xh21) rfl (xcP (xok_iconst dX0_mark_20 rfl) rfl (xcP (xok_isub dX0_mark_21) rfl (xcC0 (xokc_S xm3 rfl dX0_mark_22 q680 q681 q138 q682 (by decide +kernel)) rfl (xcP (xok_ifeq dX0_mark_25 (by decide)) rfl (xcP (xok_aload_n dX0_mark_28 rfl) rfl (xcP (xok_getfield (ref := "WaysAtlas$Run") (Or.inr ⟨rfl, by decide⟩) dX0_mark_29 (Or.inr ⟨⟨"WaysAtlas", (List.mem_of_getElem? (i := 116) rfl)⟩, (Or.inl rfl)⟩) xh1032) rfl (xcP (xok_iload_n dX0_mark_32 rfl) rfl (xcP (xok_iaload dX0_mark_33) rfl (xcP (xok_goto dX0_mark_34 (by decide)) rfl trivial))))))))))))
theorem okX0_mark_37 : XOkL xms rX0_mark bX0_mark_37 := xcP (xok_bipush dX0_mark_37 rfl) rfl (xcP xok_fal rfl trivial)
theorem okX0_mark_39 : XOkL xms rX0_mark bX0_mark_39 := xcR ⟨dX0_mark_39, rfl⟩
theorem okM_X0_mark : XOkM xms rX0_mark := xokM0 (List.forall_mem_cons.mpr ⟨⟨rfl, okX0_mark_0⟩, List.forall_mem_cons.mpr ⟨⟨rfl, okX0_mark_14⟩, List.forall_mem_cons.mpr ⟨⟨rfl, okX0_mark_37⟩, List.forall_mem_cons.mpr ⟨⟨rfl, okX0_mark_39⟩, fun _ h => nomatch h⟩⟩⟩⟩) (xokH0 rfl (fun _ _ => rfl)) (by decide +kernel) (by decide)
abbrev cX0_failure : ByteArray := prog_1_method_20_code
def dkwX0_failure_2 : List UInt8 := [16, 247, 172]
abbrev dktX0_failure_2 : List UInt8 := dkwX0_failure_2 ++ []
def dkwX0_failure_1 : List UInt8 := [3, 25, 4, 180, 0, 207, 4, 100, 184, 0, 86, 153, 0, 13, 25, 4, 28, 29, 184, 0, 228, 167, 0, 5]
abbrev dktX0_failure_1 : List UInt8 := dkwX0_failure_1 ++ dktX0_failure_2
def dkwX0_failure_0 : List UInt8 := [42, 27, 182, 0, 190, 58, 4, 25, 4, 198, 0, 12, 29, 3, 8, 184, 0, 86, 154, 0, 5, 2, 172, 28]
abbrev dktX0_failure_0 : List UInt8 := dkwX0_failure_0 ++ dktX0_failure_1
theorem dksX0_failure_0 : cX0_failure.data.toList.drop 0 = dktX0_failure_0 := by decide +kernel
theorem dksX0_failure_1 : cX0_failure.data.toList.drop 24 = dktX0_failure_1 := dk_seg dksX0_failure_0 24 rfl rfl
theorem dksX0_failure_2 : cX0_failure.data.toList.drop 48 = dktX0_failure_2 := dk_seg dksX0_failure_1 24 rfl rfl
theorem dX0_failure_0 : decode cX0_failure 0 = .ok (.aload_n 0, 1) := dk_42 (dk_at dksX0_failure_0 0 rfl rfl)
theorem dX0_failure_1 : decode cX0_failure 1 = .ok (.iload_n 1, 1) := dk_27 (dk_at dksX0_failure_0 1 rfl rfl)
theorem dX0_failure_2 : decode cX0_failure 2 = .ok (.invokevirtual 190, 3) := dk_182 0 190 (dk_at dksX0_failure_0 2 rfl rfl)
theorem dX0_failure_5 : decode cX0_failure 5 = .ok (.astore 4, 2) := dk_58 4 (dk_at dksX0_failure_0 5 rfl rfl)
theorem dX0_failure_7 : decode cX0_failure 7 = .ok (.aload 4, 2) := dk_25 4 (dk_at dksX0_failure_0 7 rfl rfl)
theorem dX0_failure_9 : decode cX0_failure 9 = .ok (.ifnull 12, 3) := dk_198 0 12 (dk_at dksX0_failure_0 9 rfl rfl)
theorem dX0_failure_12 : decode cX0_failure 12 = .ok (.iload_n 3, 1) := dk_29 (dk_at dksX0_failure_0 12 rfl rfl)
theorem dX0_failure_13 : decode cX0_failure 13 = .ok (.iconst 0, 1) := dk_3 (dk_at dksX0_failure_0 13 rfl rfl)
theorem dX0_failure_14 : decode cX0_failure 14 = .ok (.iconst 5, 1) := dk_8 (dk_at dksX0_failure_0 14 rfl rfl)
theorem dX0_failure_15 : decode cX0_failure 15 = .ok (.invokestatic 86, 3) := dk_184 0 86 (dk_at dksX0_failure_0 15 rfl rfl)
theorem dX0_failure_18 : decode cX0_failure 18 = .ok (.ifCond .ne 5, 3) := dk_154 0 5 (dk_at dksX0_failure_0 18 rfl rfl)
theorem dX0_failure_21 : decode cX0_failure 21 = .ok (.iconst (-1), 1) := dk_2 (dk_at dksX0_failure_0 21 rfl rfl)
theorem dX0_failure_22 : decode cX0_failure 22 = .ok (.ireturn, 1) := dk_172 (dk_at dksX0_failure_0 22 rfl rfl)
theorem dX0_failure_23 : decode cX0_failure 23 = .ok (.iload_n 2, 1) := dk_28 (dk_at dksX0_failure_0 23 rfl rfl)
theorem dX0_failure_24 : decode cX0_failure 24 = .ok (.iconst 0, 1) := dk_3 (dk_at dksX0_failure_1 0 rfl rfl)
theorem dX0_failure_25 : decode cX0_failure 25 = .ok (.aload 4, 2) := dk_25 4 (dk_at dksX0_failure_1 1 rfl rfl)
theorem dX0_failure_27 : decode cX0_failure 27 = .ok (.getfield 207, 3) := dk_180 0 207 (dk_at dksX0_failure_1 3 rfl rfl)
theorem dX0_failure_30 : decode cX0_failure 30 = .ok (.iconst 1, 1) := dk_4 (dk_at dksX0_failure_1 6 rfl rfl)
theorem dX0_failure_31 : decode cX0_failure 31 = .ok (.isub, 1) := dk_100 (dk_at dksX0_failure_1 7 rfl rfl)
theorem dX0_failure_32 : decode cX0_failure 32 = .ok (.invokestatic 86, 3) := dk_184 0 86 (dk_at dksX0_failure_1 8 rfl rfl)
theorem dX0_failure_35 : decode cX0_failure 35 = .ok (.ifCond .eq 13, 3) := dk_153 0 13 (dk_at dksX0_failure_1 11 rfl rfl)
theorem dX0_failure_38 : decode cX0_failure 38 = .ok (.aload 4, 2) := dk_25 4 (dk_at dksX0_failure_1 14 rfl rfl)
theorem dX0_failure_40 : decode cX0_failure 40 = .ok (.iload_n 2, 1) := dk_28 (dk_at dksX0_failure_1 16 rfl rfl)
theorem dX0_failure_41 : decode cX0_failure 41 = .ok (.iload_n 3, 1) := dk_29 (dk_at dksX0_failure_1 17 rfl rfl)
theorem dX0_failure_42 : decode cX0_failure 42 = .ok (.invokestatic 228, 3) := dk_184 0 228 (dk_at dksX0_failure_1 18 rfl rfl)
theorem dX0_failure_45 : decode cX0_failure 45 = .ok (.goto 5, 3) := dk_167 0 5 (dk_at dksX0_failure_1 21 rfl rfl)
theorem dX0_failure_48 : decode cX0_failure 48 = .ok (.bipush (-9), 2) := dk_16 247 (dk_at dksX0_failure_2 0 rfl rfl)
theorem dX0_failure_50 : decode cX0_failure 50 = .ok (.ireturn, 1) := dk_172 (dk_at dksX0_failure_2 2 rfl rfl)
theorem okX0_failure_0 : XOkL xms rX0_failure bX0_failure_0 := xcP (xok_aload_n dX0_failure_0 rfl) rfl (xcP (xok_iload_n dX0_failure_1 rfl) rfl (xcC0 (xokc_list (List.forall_mem_cons.mpr ⟨xokc_V (r := (RX0, TX0, 10)) xm16 (List.mem_of_getElem? (i := 0) rfl) (by decide) rfl dX0_failure_2 q1827 q1829 qs51 q138 q1830 (by decide +kernel), fun _ h => nomatch h⟩)) rfl (xcP (xok_astore dX0_failure_5) rfl (xcP (xok_aload dX0_failure_7) rfl (xcP (xok_ifnull dX0_failure_9 (by decide)) rfl (xcP (xok_iload_n dX0_failure_12 rfl) rfl (xcP (xok_iconst dX0_failure_13 rfl) rfl (xcP (xok_iconst dX0_failure_14 rfl) rfl (xcC0 (xokc_S xm3 rfl dX0_failure_15 q680 q681 q138 q682 (by decide +kernel)) rfl (xcP (xok_ifne dX0_failure_18 (by decide)) rfl (xcP xok_fal rfl trivial)))))))))))
theorem okX0_failure_21 : XOkL xms rX0_failure bX0_failure_21 := xcP (xok_iconst dX0_failure_21 rfl) rfl (xcR ⟨dX0_failure_22, rfl⟩)
theorem okX0_failure_23 : XOkL xms rX0_failure bX0_failure_23 := xcP (xok_iload_n dX0_failure_23 rfl) rfl (xcP (xok_iconst dX0_failure_24 rfl) rfl (xcP (xok_aload dX0_failure_25) rfl (xcP (xok_getfield (ref := "WaysAtlas$Run") (Or.inl ⟨rfl, by decide⟩) dX0_failure_27 (Or.inr ⟨⟨"WaysAtlas", (List.mem_of_getElem? (i := 110) rfl)⟩, (Or.inl rfl)⟩) xh22) rfl (xcP (xok_iconst dX0_failure_30 rfl) rfl (xcP (xok_isub dX0_failure_31) rfl (xcC0 (xokc_S xm3 rfl dX0_failure_32 q680 q681 q138 q682 (by decide +kernel)) rfl (xcP (xok_ifeq dX0_failure_35 (by decide)) rfl (xcP (xok_aload dX0_failure_38) rfl (xcP (xok_iload_n dX0_failure_40 rfl) rfl (xcP (xok_iload_n dX0_failure_41 rfl) rfl (xcC0 (xokc_S xm20 rfl dX0_failure_42 q1842 q1843 q138 q1844 (by decide +kernel)) rfl (xcP (xok_goto dX0_failure_45 (by decide)) rfl trivial))))))))))))
theorem okX0_failure_48 : XOkL xms rX0_failure bX0_failure_48 := xcP (xok_bipush dX0_failure_48 rfl) rfl (xcP xok_fal rfl trivial)
theorem okX0_failure_50 : XOkL xms rX0_failure bX0_failure_50 := xcR ⟨dX0_failure_50, rfl⟩
theorem okM_X0_failure : XOkM xms rX0_failure := xokM0 (List.forall_mem_cons.mpr ⟨⟨rfl, okX0_failure_0⟩, List.forall_mem_cons.mpr ⟨⟨rfl, okX0_failure_21⟩, List.forall_mem_cons.mpr ⟨⟨rfl, okX0_failure_23⟩, List.forall_mem_cons.mpr ⟨⟨rfl, okX0_failure_48⟩, List.forall_mem_cons.mpr ⟨⟨rfl, okX0_failure_50⟩, fun _ h => nomatch h⟩⟩⟩⟩⟩) (xokH0 rfl (fun _ _ => rfl)) (by decide +kernel) (by decide)
abbrev cX0_ofFailure : ByteArray := prog_1_method_21_code
def dkwX0_ofFailure_3 : List UInt8 := [180, 0, 245, 27, 46, 172]
abbrev dktX0_ofFailure_3 : List UInt8 := dkwX0_ofFailure_3 ++ []
def dkwX0_ofFailure_2 : List UInt8 := [180, 0, 239, 27, 46, 167, 0, 23, 28, 7, 160, 0, 12, 42, 180, 0, 242, 27, 46, 167, 0, 9, 42]
abbrev dktX0_ofFailure_2 : List UInt8 := dkwX0_ofFailure_2 ++ dktX0_ofFailure_3
def dkwX0_ofFailure_1 : List UInt8 := [167, 0, 51, 28, 5, 160, 0, 12, 42, 180, 0, 236, 27, 46, 167, 0, 37, 28, 6, 160, 0, 12, 42]
abbrev dktX0_ofFailure_1 : List UInt8 := dkwX0_ofFailure_1 ++ dktX0_ofFailure_2
def dkwX0_ofFailure_0 : List UInt8 := [28, 154, 0, 12, 42, 180, 0, 232, 27, 46, 167, 0, 65, 28, 4, 160, 0, 12, 42, 180, 0, 233, 27, 46]
abbrev dktX0_ofFailure_0 : List UInt8 := dkwX0_ofFailure_0 ++ dktX0_ofFailure_1
theorem dksX0_ofFailure_0 : cX0_ofFailure.data.toList.drop 0 = dktX0_ofFailure_0 := by decide +kernel
theorem dksX0_ofFailure_1 : cX0_ofFailure.data.toList.drop 24 = dktX0_ofFailure_1 := dk_seg dksX0_ofFailure_0 24 rfl rfl
theorem dksX0_ofFailure_2 : cX0_ofFailure.data.toList.drop 47 = dktX0_ofFailure_2 := dk_seg dksX0_ofFailure_1 23 rfl rfl
theorem dksX0_ofFailure_3 : cX0_ofFailure.data.toList.drop 70 = dktX0_ofFailure_3 := dk_seg dksX0_ofFailure_2 23 rfl rfl
theorem dX0_ofFailure_0 : decode cX0_ofFailure 0 = .ok (.iload_n 2, 1) := dk_28 (dk_at dksX0_ofFailure_0 0 rfl rfl)
theorem dX0_ofFailure_1 : decode cX0_ofFailure 1 = .ok (.ifCond .ne 12, 3) := dk_154 0 12 (dk_at dksX0_ofFailure_0 1 rfl rfl)
theorem dX0_ofFailure_4 : decode cX0_ofFailure 4 = .ok (.aload_n 0, 1) := dk_42 (dk_at dksX0_ofFailure_0 4 rfl rfl)
theorem dX0_ofFailure_5 : decode cX0_ofFailure 5 = .ok (.getfield 232, 3) := dk_180 0 232 (dk_at dksX0_ofFailure_0 5 rfl rfl)
theorem dX0_ofFailure_8 : decode cX0_ofFailure 8 = .ok (.iload_n 1, 1) := dk_27 (dk_at dksX0_ofFailure_0 8 rfl rfl)
theorem dX0_ofFailure_9 : decode cX0_ofFailure 9 = .ok (.iaload, 1) := dk_46 (dk_at dksX0_ofFailure_0 9 rfl rfl)
theorem dX0_ofFailure_10 : decode cX0_ofFailure 10 = .ok (.goto 65, 3) := dk_167 0 65 (dk_at dksX0_ofFailure_0 10 rfl rfl)
theorem dX0_ofFailure_13 : decode cX0_ofFailure 13 = .ok (.iload_n 2, 1) := dk_28 (dk_at dksX0_ofFailure_0 13 rfl rfl)
theorem dX0_ofFailure_14 : decode cX0_ofFailure 14 = .ok (.iconst 1, 1) := dk_4 (dk_at dksX0_ofFailure_0 14 rfl rfl)
theorem dX0_ofFailure_15 : decode cX0_ofFailure 15 = .ok (.if_icmp .ne 12, 3) := dk_160 0 12 (dk_at dksX0_ofFailure_0 15 rfl rfl)
theorem dX0_ofFailure_18 : decode cX0_ofFailure 18 = .ok (.aload_n 0, 1) := dk_42 (dk_at dksX0_ofFailure_0 18 rfl rfl)
theorem dX0_ofFailure_19 : decode cX0_ofFailure 19 = .ok (.getfield 233, 3) := dk_180 0 233 (dk_at dksX0_ofFailure_0 19 rfl rfl)
theorem dX0_ofFailure_22 : decode cX0_ofFailure 22 = .ok (.iload_n 1, 1) := dk_27 (dk_at dksX0_ofFailure_0 22 rfl rfl)
theorem dX0_ofFailure_23 : decode cX0_ofFailure 23 = .ok (.iaload, 1) := dk_46 (dk_at dksX0_ofFailure_0 23 rfl rfl)
theorem dX0_ofFailure_24 : decode cX0_ofFailure 24 = .ok (.goto 51, 3) := dk_167 0 51 (dk_at dksX0_ofFailure_1 0 rfl rfl)
theorem dX0_ofFailure_27 : decode cX0_ofFailure 27 = .ok (.iload_n 2, 1) := dk_28 (dk_at dksX0_ofFailure_1 3 rfl rfl)
theorem dX0_ofFailure_28 : decode cX0_ofFailure 28 = .ok (.iconst 2, 1) := dk_5 (dk_at dksX0_ofFailure_1 4 rfl rfl)
theorem dX0_ofFailure_29 : decode cX0_ofFailure 29 = .ok (.if_icmp .ne 12, 3) := dk_160 0 12 (dk_at dksX0_ofFailure_1 5 rfl rfl)
theorem dX0_ofFailure_32 : decode cX0_ofFailure 32 = .ok (.aload_n 0, 1) := dk_42 (dk_at dksX0_ofFailure_1 8 rfl rfl)
theorem dX0_ofFailure_33 : decode cX0_ofFailure 33 = .ok (.getfield 236, 3) := dk_180 0 236 (dk_at dksX0_ofFailure_1 9 rfl rfl)
theorem dX0_ofFailure_36 : decode cX0_ofFailure 36 = .ok (.iload_n 1, 1) := dk_27 (dk_at dksX0_ofFailure_1 12 rfl rfl)
theorem dX0_ofFailure_37 : decode cX0_ofFailure 37 = .ok (.iaload, 1) := dk_46 (dk_at dksX0_ofFailure_1 13 rfl rfl)
theorem dX0_ofFailure_38 : decode cX0_ofFailure 38 = .ok (.goto 37, 3) := dk_167 0 37 (dk_at dksX0_ofFailure_1 14 rfl rfl)
theorem dX0_ofFailure_41 : decode cX0_ofFailure 41 = .ok (.iload_n 2, 1) := dk_28 (dk_at dksX0_ofFailure_1 17 rfl rfl)
theorem dX0_ofFailure_42 : decode cX0_ofFailure 42 = .ok (.iconst 3, 1) := dk_6 (dk_at dksX0_ofFailure_1 18 rfl rfl)
theorem dX0_ofFailure_43 : decode cX0_ofFailure 43 = .ok (.if_icmp .ne 12, 3) := dk_160 0 12 (dk_at dksX0_ofFailure_1 19 rfl rfl)
theorem dX0_ofFailure_46 : decode cX0_ofFailure 46 = .ok (.aload_n 0, 1) := dk_42 (dk_at dksX0_ofFailure_1 22 rfl rfl)
theorem dX0_ofFailure_47 : decode cX0_ofFailure 47 = .ok (.getfield 239, 3) := dk_180 0 239 (dk_at dksX0_ofFailure_2 0 rfl rfl)
theorem dX0_ofFailure_50 : decode cX0_ofFailure 50 = .ok (.iload_n 1, 1) := dk_27 (dk_at dksX0_ofFailure_2 3 rfl rfl)
theorem dX0_ofFailure_51 : decode cX0_ofFailure 51 = .ok (.iaload, 1) := dk_46 (dk_at dksX0_ofFailure_2 4 rfl rfl)
theorem dX0_ofFailure_52 : decode cX0_ofFailure 52 = .ok (.goto 23, 3) := dk_167 0 23 (dk_at dksX0_ofFailure_2 5 rfl rfl)
theorem dX0_ofFailure_55 : decode cX0_ofFailure 55 = .ok (.iload_n 2, 1) := dk_28 (dk_at dksX0_ofFailure_2 8 rfl rfl)
theorem dX0_ofFailure_56 : decode cX0_ofFailure 56 = .ok (.iconst 4, 1) := dk_7 (dk_at dksX0_ofFailure_2 9 rfl rfl)
theorem dX0_ofFailure_57 : decode cX0_ofFailure 57 = .ok (.if_icmp .ne 12, 3) := dk_160 0 12 (dk_at dksX0_ofFailure_2 10 rfl rfl)
theorem dX0_ofFailure_60 : decode cX0_ofFailure 60 = .ok (.aload_n 0, 1) := dk_42 (dk_at dksX0_ofFailure_2 13 rfl rfl)
theorem dX0_ofFailure_61 : decode cX0_ofFailure 61 = .ok (.getfield 242, 3) := dk_180 0 242 (dk_at dksX0_ofFailure_2 14 rfl rfl)
theorem dX0_ofFailure_64 : decode cX0_ofFailure 64 = .ok (.iload_n 1, 1) := dk_27 (dk_at dksX0_ofFailure_2 17 rfl rfl)
theorem dX0_ofFailure_65 : decode cX0_ofFailure 65 = .ok (.iaload, 1) := dk_46 (dk_at dksX0_ofFailure_2 18 rfl rfl)
theorem dX0_ofFailure_66 : decode cX0_ofFailure 66 = .ok (.goto 9, 3) := dk_167 0 9 (dk_at dksX0_ofFailure_2 19 rfl rfl)
theorem dX0_ofFailure_69 : decode cX0_ofFailure 69 = .ok (.aload_n 0, 1) := dk_42 (dk_at dksX0_ofFailure_2 22 rfl rfl)
theorem dX0_ofFailure_70 : decode cX0_ofFailure 70 = .ok (.getfield 245, 3) := dk_180 0 245 (dk_at dksX0_ofFailure_3 0 rfl rfl)
theorem dX0_ofFailure_73 : decode cX0_ofFailure 73 = .ok (.iload_n 1, 1) := dk_27 (dk_at dksX0_ofFailure_3 3 rfl rfl)
theorem dX0_ofFailure_74 : decode cX0_ofFailure 74 = .ok (.iaload, 1) := dk_46 (dk_at dksX0_ofFailure_3 4 rfl rfl)
theorem dX0_ofFailure_75 : decode cX0_ofFailure 75 = .ok (.ireturn, 1) := dk_172 (dk_at dksX0_ofFailure_3 5 rfl rfl)
theorem okX0_ofFailure_0 : XOkL xms rX0_ofFailure bX0_ofFailure_0 := xcP (xok_iload_n dX0_ofFailure_0 rfl) rfl (xcP (xok_ifne dX0_ofFailure_1 (by decide)) rfl (xcP (xok_aload_n dX0_ofFailure_4 rfl) rfl (xcP (xok_getfield (ref := "WaysAtlas$Run") (Or.inr ⟨rfl, by decide⟩) dX0_ofFailure_5 (Or.inr ⟨⟨"WaysAtlas", (List.mem_of_getElem? (i := 117) rfl)⟩, (Or.inl rfl)⟩) xh1033) rfl (xcP (xok_iload_n dX0_ofFailure_8 rfl) rfl (xcP (xok_iaload dX0_ofFailure_9) rfl (xcP (xok_goto dX0_ofFailure_10 (by decide)) rfl trivial))))))
theorem okX0_ofFailure_13 : XOkL xms rX0_ofFailure bX0_ofFailure_13 := xcP (xok_iload_n dX0_ofFailure_13 rfl) rfl (xcP (xok_iconst dX0_ofFailure_14 rfl) rfl (xcP (xok_icmpne dX0_ofFailure_15 (by decide)) rfl (xcP (xok_aload_n dX0_ofFailure_18 rfl) rfl (xcP (xok_getfield (ref := "WaysAtlas$Run") (Or.inr ⟨rfl, by decide⟩) dX0_ofFailure_19 (Or.inr ⟨⟨"WaysAtlas", (List.mem_of_getElem? (i := 118) rfl)⟩, (Or.inl rfl)⟩) xh1034) rfl (xcP (xok_iload_n dX0_ofFailure_22 rfl) rfl (xcP (xok_iaload dX0_ofFailure_23) rfl (xcP (xok_goto dX0_ofFailure_24 (by decide)) rfl trivial)))))))
theorem okX0_ofFailure_27 : XOkL xms rX0_ofFailure bX0_ofFailure_27 := xcP (xok_iload_n dX0_ofFailure_27 rfl) rfl (xcP (xok_iconst dX0_ofFailure_28 rfl) rfl (xcP (xok_icmpne dX0_ofFailure_29 (by decide)) rfl (xcP (xok_aload_n dX0_ofFailure_32 rfl) rfl (xcP (xok_getfield (ref := "WaysAtlas$Run") (Or.inr ⟨rfl, by decide⟩) dX0_ofFailure_33 (Or.inr ⟨⟨"WaysAtlas", (List.mem_of_getElem? (i := 119) rfl)⟩, (Or.inl rfl)⟩) xh1035) rfl (xcP (xok_iload_n dX0_ofFailure_36 rfl) rfl (xcP (xok_iaload dX0_ofFailure_37) rfl (xcP (xok_goto dX0_ofFailure_38 (by decide)) rfl trivial)))))))
theorem okX0_ofFailure_41 : XOkL xms rX0_ofFailure bX0_ofFailure_41 := xcP (xok_iload_n dX0_ofFailure_41 rfl) rfl (xcP (xok_iconst dX0_ofFailure_42 rfl) rfl (xcP (xok_icmpne dX0_ofFailure_43 (by decide)) rfl (xcP (xok_aload_n dX0_ofFailure_46 rfl) rfl (xcP (xok_getfield (ref := "WaysAtlas$Run") (Or.inr ⟨rfl, by decide⟩) dX0_ofFailure_47 (Or.inr ⟨⟨"WaysAtlas", (List.mem_of_getElem? (i := 120) rfl)⟩, (Or.inl rfl)⟩) xh1036) rfl (xcP (xok_iload_n dX0_ofFailure_50 rfl) rfl (xcP (xok_iaload dX0_ofFailure_51) rfl (xcP (xok_goto dX0_ofFailure_52 (by decide)) rfl trivial)))))))
theorem okX0_ofFailure_55 : XOkL xms rX0_ofFailure bX0_ofFailure_55 := xcP (xok_iload_n dX0_ofFailure_55 rfl) rfl (xcP (xok_iconst dX0_ofFailure_56 rfl) rfl (xcP (xok_icmpne dX0_ofFailure_57 (by decide)) rfl (xcP (xok_aload_n dX0_ofFailure_60 rfl) rfl (xcP (xok_getfield (ref := "WaysAtlas$Run") (Or.inr ⟨rfl, by decide⟩) dX0_ofFailure_61 (Or.inr ⟨⟨"WaysAtlas", (List.mem_of_getElem? (i := 121) rfl)⟩, (Or.inl rfl)⟩) xh1037) rfl (xcP (xok_iload_n dX0_ofFailure_64 rfl) rfl (xcP (xok_iaload dX0_ofFailure_65) rfl (xcP (xok_goto dX0_ofFailure_66 (by decide)) rfl trivial)))))))
theorem okX0_ofFailure_69 : XOkL xms rX0_ofFailure bX0_ofFailure_69 := xcP (xok_aload_n dX0_ofFailure_69 rfl) rfl (xcP (xok_getfield (ref := "WaysAtlas$Run") (Or.inr ⟨rfl, by decide⟩) dX0_ofFailure_70 (Or.inr ⟨⟨"WaysAtlas", (List.mem_of_getElem? (i := 122) rfl)⟩, (Or.inl rfl)⟩) xh1038) rfl (xcP (xok_iload_n dX0_ofFailure_73 rfl) rfl (xcP (xok_iaload dX0_ofFailure_74) rfl (xcP xok_fal rfl trivial))))
theorem okX0_ofFailure_75 : XOkL xms rX0_ofFailure bX0_ofFailure_75 := xcR ⟨dX0_ofFailure_75, rfl⟩
theorem okM_X0_ofFailure : XOkM xms rX0_ofFailure := xokM0 (List.forall_mem_cons.mpr ⟨⟨rfl, okX0_ofFailure_0⟩, List.forall_mem_cons.mpr ⟨⟨rfl, okX0_ofFailure_13⟩, List.forall_mem_cons.mpr ⟨⟨rfl, okX0_ofFailure_27⟩, List.forall_mem_cons.mpr ⟨⟨rfl, okX0_ofFailure_41⟩, List.forall_mem_cons.mpr ⟨⟨rfl, okX0_ofFailure_55⟩, List.forall_mem_cons.mpr ⟨⟨rfl, okX0_ofFailure_69⟩, List.forall_mem_cons.mpr ⟨⟨rfl, okX0_ofFailure_75⟩, fun _ h => nomatch h⟩⟩⟩⟩⟩⟩⟩) (xokH0 rfl (fun _ _ => rfl)) (by decide +kernel) (by decide)
abbrev cX0_trace : ByteArray := prog_1_method_22_code
def dkwX0_trace_2 : List UInt8 := [25, 4, 180, 0, 248, 16, 12, 28, 104, 29, 96, 46, 167, 0, 5, 16, 247, 172]
abbrev dktX0_trace_2 : List UInt8 := dkwX0_trace_2 ++ []
def dkwX0_trace_1 : List UInt8 := [184, 0, 86, 153, 0, 35, 29, 3, 25, 4, 180, 0, 245, 28, 46, 4, 100, 184, 0, 86, 153, 0, 18]
abbrev dktX0_trace_1 : List UInt8 := dkwX0_trace_1 ++ dktX0_trace_2
def dkwX0_trace_0 : List UInt8 := [42, 27, 182, 0, 190, 58, 4, 25, 4, 199, 0, 5, 2, 172, 28, 3, 25, 4, 180, 0, 207, 4, 100]
abbrev dktX0_trace_0 : List UInt8 := dkwX0_trace_0 ++ dktX0_trace_1
theorem dksX0_trace_0 : cX0_trace.data.toList.drop 0 = dktX0_trace_0 := by decide +kernel
theorem dksX0_trace_1 : cX0_trace.data.toList.drop 23 = dktX0_trace_1 := dk_seg dksX0_trace_0 23 rfl rfl
theorem dksX0_trace_2 : cX0_trace.data.toList.drop 46 = dktX0_trace_2 := dk_seg dksX0_trace_1 23 rfl rfl
theorem dX0_trace_0 : decode cX0_trace 0 = .ok (.aload_n 0, 1) := dk_42 (dk_at dksX0_trace_0 0 rfl rfl)
theorem dX0_trace_1 : decode cX0_trace 1 = .ok (.iload_n 1, 1) := dk_27 (dk_at dksX0_trace_0 1 rfl rfl)
theorem dX0_trace_2 : decode cX0_trace 2 = .ok (.invokevirtual 190, 3) := dk_182 0 190 (dk_at dksX0_trace_0 2 rfl rfl)
theorem dX0_trace_5 : decode cX0_trace 5 = .ok (.astore 4, 2) := dk_58 4 (dk_at dksX0_trace_0 5 rfl rfl)
theorem dX0_trace_7 : decode cX0_trace 7 = .ok (.aload 4, 2) := dk_25 4 (dk_at dksX0_trace_0 7 rfl rfl)
theorem dX0_trace_9 : decode cX0_trace 9 = .ok (.ifnonnull 5, 3) := dk_199 0 5 (dk_at dksX0_trace_0 9 rfl rfl)
theorem dX0_trace_12 : decode cX0_trace 12 = .ok (.iconst (-1), 1) := dk_2 (dk_at dksX0_trace_0 12 rfl rfl)
theorem dX0_trace_13 : decode cX0_trace 13 = .ok (.ireturn, 1) := dk_172 (dk_at dksX0_trace_0 13 rfl rfl)
theorem dX0_trace_14 : decode cX0_trace 14 = .ok (.iload_n 2, 1) := dk_28 (dk_at dksX0_trace_0 14 rfl rfl)
theorem dX0_trace_15 : decode cX0_trace 15 = .ok (.iconst 0, 1) := dk_3 (dk_at dksX0_trace_0 15 rfl rfl)
theorem dX0_trace_16 : decode cX0_trace 16 = .ok (.aload 4, 2) := dk_25 4 (dk_at dksX0_trace_0 16 rfl rfl)
theorem dX0_trace_18 : decode cX0_trace 18 = .ok (.getfield 207, 3) := dk_180 0 207 (dk_at dksX0_trace_0 18 rfl rfl)
theorem dX0_trace_21 : decode cX0_trace 21 = .ok (.iconst 1, 1) := dk_4 (dk_at dksX0_trace_0 21 rfl rfl)
theorem dX0_trace_22 : decode cX0_trace 22 = .ok (.isub, 1) := dk_100 (dk_at dksX0_trace_0 22 rfl rfl)
theorem dX0_trace_23 : decode cX0_trace 23 = .ok (.invokestatic 86, 3) := dk_184 0 86 (dk_at dksX0_trace_1 0 rfl rfl)
theorem dX0_trace_26 : decode cX0_trace 26 = .ok (.ifCond .eq 35, 3) := dk_153 0 35 (dk_at dksX0_trace_1 3 rfl rfl)
theorem dX0_trace_29 : decode cX0_trace 29 = .ok (.iload_n 3, 1) := dk_29 (dk_at dksX0_trace_1 6 rfl rfl)
theorem dX0_trace_30 : decode cX0_trace 30 = .ok (.iconst 0, 1) := dk_3 (dk_at dksX0_trace_1 7 rfl rfl)
theorem dX0_trace_31 : decode cX0_trace 31 = .ok (.aload 4, 2) := dk_25 4 (dk_at dksX0_trace_1 8 rfl rfl)
theorem dX0_trace_33 : decode cX0_trace 33 = .ok (.getfield 245, 3) := dk_180 0 245 (dk_at dksX0_trace_1 10 rfl rfl)
theorem dX0_trace_36 : decode cX0_trace 36 = .ok (.iload_n 2, 1) := dk_28 (dk_at dksX0_trace_1 13 rfl rfl)
theorem dX0_trace_37 : decode cX0_trace 37 = .ok (.iaload, 1) := dk_46 (dk_at dksX0_trace_1 14 rfl rfl)
theorem dX0_trace_38 : decode cX0_trace 38 = .ok (.iconst 1, 1) := dk_4 (dk_at dksX0_trace_1 15 rfl rfl)
theorem dX0_trace_39 : decode cX0_trace 39 = .ok (.isub, 1) := dk_100 (dk_at dksX0_trace_1 16 rfl rfl)
theorem dX0_trace_40 : decode cX0_trace 40 = .ok (.invokestatic 86, 3) := dk_184 0 86 (dk_at dksX0_trace_1 17 rfl rfl)
theorem dX0_trace_43 : decode cX0_trace 43 = .ok (.ifCond .eq 18, 3) := dk_153 0 18 (dk_at dksX0_trace_1 20 rfl rfl)
theorem dX0_trace_46 : decode cX0_trace 46 = .ok (.aload 4, 2) := dk_25 4 (dk_at dksX0_trace_2 0 rfl rfl)
theorem dX0_trace_48 : decode cX0_trace 48 = .ok (.getfield 248, 3) := dk_180 0 248 (dk_at dksX0_trace_2 2 rfl rfl)
theorem dX0_trace_51 : decode cX0_trace 51 = .ok (.bipush 12, 2) := dk_16 12 (dk_at dksX0_trace_2 5 rfl rfl)
theorem dX0_trace_53 : decode cX0_trace 53 = .ok (.iload_n 2, 1) := dk_28 (dk_at dksX0_trace_2 7 rfl rfl)
theorem dX0_trace_54 : decode cX0_trace 54 = .ok (.imul, 1) := dk_104 (dk_at dksX0_trace_2 8 rfl rfl)
theorem dX0_trace_55 : decode cX0_trace 55 = .ok (.iload_n 3, 1) := dk_29 (dk_at dksX0_trace_2 9 rfl rfl)
theorem dX0_trace_56 : decode cX0_trace 56 = .ok (.iadd, 1) := dk_96 (dk_at dksX0_trace_2 10 rfl rfl)
theorem dX0_trace_57 : decode cX0_trace 57 = .ok (.iaload, 1) := dk_46 (dk_at dksX0_trace_2 11 rfl rfl)
theorem dX0_trace_58 : decode cX0_trace 58 = .ok (.goto 5, 3) := dk_167 0 5 (dk_at dksX0_trace_2 12 rfl rfl)
theorem dX0_trace_61 : decode cX0_trace 61 = .ok (.bipush (-9), 2) := dk_16 247 (dk_at dksX0_trace_2 15 rfl rfl)
theorem dX0_trace_63 : decode cX0_trace 63 = .ok (.ireturn, 1) := dk_172 (dk_at dksX0_trace_2 17 rfl rfl)
theorem okX0_trace_0 : XOkL xms rX0_trace bX0_trace_0 := xcP (xok_aload_n dX0_trace_0 rfl) rfl (xcP (xok_iload_n dX0_trace_1 rfl) rfl (xcC0 (xokc_list (List.forall_mem_cons.mpr ⟨xokc_V (r := (RX0, TX0, 10)) xm16 (List.mem_of_getElem? (i := 0) rfl) (by decide) rfl dX0_trace_2 q1827 q1829 qs51 q138 q1830 (by decide +kernel), fun _ h => nomatch h⟩)) rfl (xcP (xok_astore dX0_trace_5) rfl (xcP (xok_aload dX0_trace_7) rfl (xcP (xok_ifnonnull dX0_trace_9 (by decide)) rfl (xcP (xok_iconst dX0_trace_12 rfl) rfl (xcR ⟨dX0_trace_13, rfl⟩)))))))
theorem okX0_trace_14 : XOkL xms rX0_trace bX0_trace_14 := xcP (xok_iload_n dX0_trace_14 rfl) rfl (xcP (xok_iconst dX0_trace_15 rfl) rfl (xcP (xok_aload dX0_trace_16) rfl (xcP (xok_getfield (ref := "WaysAtlas$Run") (Or.inl ⟨rfl, by decide⟩) dX0_trace_18 (Or.inr ⟨⟨"WaysAtlas", (List.mem_of_getElem? (i := 110) rfl)⟩, (Or.inl rfl)⟩) xh22) rfl (xcP (xok_iconst dX0_trace_21 rfl) rfl (xcP (xok_isub dX0_trace_22) rfl (xcC0 (xokc_S xm3 rfl dX0_trace_23 q680 q681 q138 q682 (by decide +kernel)) rfl (xcP (xok_ifeq dX0_trace_26 (by decide)) rfl (xcP (xok_iload_n dX0_trace_29 rfl) rfl (xcP (xok_iconst dX0_trace_30 rfl) rfl (xcP (xok_aload dX0_trace_31) rfl (xcP (xok_getfield (ref := "WaysAtlas$Run") (Or.inr ⟨rfl, by decide⟩) dX0_trace_33 (Or.inr ⟨⟨"WaysAtlas", (List.mem_of_getElem? (i := 122) rfl)⟩, (Or.inl rfl)⟩) xh1038) rfl (xcP (xok_iload_n dX0_trace_36 rfl) rfl (xcP (xok_iaload dX0_trace_37) rfl (xcP (xok_iconst dX0_trace_38 rfl) rfl (xcP (xok_isub dX0_trace_39) rfl (xcC0 (xokc_S xm3 rfl dX0_trace_40 q680 q681 q138 q682 (by decide +kernel)) rfl (xcP (xok_ifeq dX0_trace_43 (by decide)) rfl (xcP (xok_aload dX0_trace_46) rfl (xcP (xok_getfield (ref := "WaysAtlas$Run") (Or.inr ⟨rfl, by decide⟩) dX0_trace_48 (Or.inr ⟨⟨"WaysAtlas", (List.mem_of_getElem? (i := 123) rfl)⟩, (Or.inl rfl)⟩) xh1039) rfl (xcP (xok_bipush dX0_trace_51 rfl) rfl (xcP (xok_iload_n dX0_trace_53 rfl) rfl (xcP (xok_imul dX0_trace_54) rfl (xcP (xok_iload_n dX0_trace_55 rfl) rfl (xcP (xok_iadd dX0_trace_56) rfl (xcP (xok_iaload dX0_trace_57) rfl (xcP (xok_goto dX0_trace_58 (by decide)) rfl trivial))))))))))))))))))))))))))
theorem okX0_trace_61 : XOkL xms rX0_trace bX0_trace_61 := xcP (xok_bipush dX0_trace_61 rfl) rfl (xcP xok_fal rfl trivial)
theorem okX0_trace_63 : XOkL xms rX0_trace bX0_trace_63 := xcR ⟨dX0_trace_63, rfl⟩
theorem okM_X0_trace : XOkM xms rX0_trace := xokM0 (List.forall_mem_cons.mpr ⟨⟨rfl, okX0_trace_0⟩, List.forall_mem_cons.mpr ⟨⟨rfl, okX0_trace_14⟩, List.forall_mem_cons.mpr ⟨⟨rfl, okX0_trace_61⟩, List.forall_mem_cons.mpr ⟨⟨rfl, okX0_trace_63⟩, fun _ h => nomatch h⟩⟩⟩⟩) (xokH0 rfl (fun _ _ => rfl)) (by decide +kernel) (by decide)
abbrev cX0_closed : ByteArray := prog_1_method_23_code
def dkwX0_closed_1 : List UInt8 := [184, 0, 86, 153, 0, 12, 45, 180, 0, 251, 28, 46, 167, 0, 5, 16, 247, 172]
abbrev dktX0_closed_1 : List UInt8 := dkwX0_closed_1 ++ []
def dkwX0_closed_0 : List UInt8 := [42, 27, 182, 0, 190, 78, 45, 199, 0, 7, 2, 167, 0, 28, 28, 3, 45, 180, 0, 213, 4, 100]
abbrev dktX0_closed_0 : List UInt8 := dkwX0_closed_0 ++ dktX0_closed_1
theorem dksX0_closed_0 : cX0_closed.data.toList.drop 0 = dktX0_closed_0 := by decide +kernel
theorem dksX0_closed_1 : cX0_closed.data.toList.drop 22 = dktX0_closed_1 := dk_seg dksX0_closed_0 22 rfl rfl
theorem dX0_closed_0 : decode cX0_closed 0 = .ok (.aload_n 0, 1) := dk_42 (dk_at dksX0_closed_0 0 rfl rfl)
theorem dX0_closed_1 : decode cX0_closed 1 = .ok (.iload_n 1, 1) := dk_27 (dk_at dksX0_closed_0 1 rfl rfl)
theorem dX0_closed_2 : decode cX0_closed 2 = .ok (.invokevirtual 190, 3) := dk_182 0 190 (dk_at dksX0_closed_0 2 rfl rfl)
theorem dX0_closed_5 : decode cX0_closed 5 = .ok (.astore_n 3, 1) := dk_78 (dk_at dksX0_closed_0 5 rfl rfl)
theorem dX0_closed_6 : decode cX0_closed 6 = .ok (.aload_n 3, 1) := dk_45 (dk_at dksX0_closed_0 6 rfl rfl)
theorem dX0_closed_7 : decode cX0_closed 7 = .ok (.ifnonnull 7, 3) := dk_199 0 7 (dk_at dksX0_closed_0 7 rfl rfl)
theorem dX0_closed_10 : decode cX0_closed 10 = .ok (.iconst (-1), 1) := dk_2 (dk_at dksX0_closed_0 10 rfl rfl)
theorem dX0_closed_11 : decode cX0_closed 11 = .ok (.goto 28, 3) := dk_167 0 28 (dk_at dksX0_closed_0 11 rfl rfl)
theorem dX0_closed_14 : decode cX0_closed 14 = .ok (.iload_n 2, 1) := dk_28 (dk_at dksX0_closed_0 14 rfl rfl)
theorem dX0_closed_15 : decode cX0_closed 15 = .ok (.iconst 0, 1) := dk_3 (dk_at dksX0_closed_0 15 rfl rfl)
theorem dX0_closed_16 : decode cX0_closed 16 = .ok (.aload_n 3, 1) := dk_45 (dk_at dksX0_closed_0 16 rfl rfl)
theorem dX0_closed_17 : decode cX0_closed 17 = .ok (.getfield 213, 3) := dk_180 0 213 (dk_at dksX0_closed_0 17 rfl rfl)
theorem dX0_closed_20 : decode cX0_closed 20 = .ok (.iconst 1, 1) := dk_4 (dk_at dksX0_closed_0 20 rfl rfl)
theorem dX0_closed_21 : decode cX0_closed 21 = .ok (.isub, 1) := dk_100 (dk_at dksX0_closed_0 21 rfl rfl)
theorem dX0_closed_22 : decode cX0_closed 22 = .ok (.invokestatic 86, 3) := dk_184 0 86 (dk_at dksX0_closed_1 0 rfl rfl)
theorem dX0_closed_25 : decode cX0_closed 25 = .ok (.ifCond .eq 12, 3) := dk_153 0 12 (dk_at dksX0_closed_1 3 rfl rfl)
theorem dX0_closed_28 : decode cX0_closed 28 = .ok (.aload_n 3, 1) := dk_45 (dk_at dksX0_closed_1 6 rfl rfl)
theorem dX0_closed_29 : decode cX0_closed 29 = .ok (.getfield 251, 3) := dk_180 0 251 (dk_at dksX0_closed_1 7 rfl rfl)
theorem dX0_closed_32 : decode cX0_closed 32 = .ok (.iload_n 2, 1) := dk_28 (dk_at dksX0_closed_1 10 rfl rfl)
theorem dX0_closed_33 : decode cX0_closed 33 = .ok (.iaload, 1) := dk_46 (dk_at dksX0_closed_1 11 rfl rfl)
theorem dX0_closed_34 : decode cX0_closed 34 = .ok (.goto 5, 3) := dk_167 0 5 (dk_at dksX0_closed_1 12 rfl rfl)
theorem dX0_closed_37 : decode cX0_closed 37 = .ok (.bipush (-9), 2) := dk_16 247 (dk_at dksX0_closed_1 15 rfl rfl)
theorem dX0_closed_39 : decode cX0_closed 39 = .ok (.ireturn, 1) := dk_172 (dk_at dksX0_closed_1 17 rfl rfl)
theorem okX0_closed_0 : XOkL xms rX0_closed bX0_closed_0 := xcP (xok_aload_n dX0_closed_0 rfl) rfl (xcP (xok_iload_n dX0_closed_1 rfl) rfl (xcC0 (xokc_list (List.forall_mem_cons.mpr ⟨xokc_V (r := (RX0, TX0, 10)) xm16 (List.mem_of_getElem? (i := 0) rfl) (by decide) rfl dX0_closed_2 q1827 q1829 qs51 q138 q1830 (by decide +kernel), fun _ h => nomatch h⟩)) rfl (xcP (xok_astore_n dX0_closed_5 rfl) rfl (xcP (xok_aload_n dX0_closed_6 rfl) rfl (xcP (xok_ifnonnull dX0_closed_7 (by decide)) rfl (xcP (xok_iconst dX0_closed_10 rfl) rfl (xcP (xok_goto dX0_closed_11 (by decide)) rfl trivial)))))))
theorem okX0_closed_14 : XOkL xms rX0_closed bX0_closed_14 := xcP (xok_iload_n dX0_closed_14 rfl) rfl (xcP (xok_iconst dX0_closed_15 rfl) rfl (xcP (xok_aload_n dX0_closed_16 rfl) rfl (xcP (xok_getfield (ref := "WaysAtlas$Run") (Or.inl ⟨rfl, by decide⟩) dX0_closed_17 (Or.inr ⟨⟨"WaysAtlas", (List.mem_of_getElem? (i := 112) rfl)⟩, (Or.inl rfl)⟩) xh24) rfl (xcP (xok_iconst dX0_closed_20 rfl) rfl (xcP (xok_isub dX0_closed_21) rfl (xcC0 (xokc_S xm3 rfl dX0_closed_22 q680 q681 q138 q682 (by decide +kernel)) rfl (xcP (xok_ifeq dX0_closed_25 (by decide)) rfl (xcP (xok_aload_n dX0_closed_28 rfl) rfl (xcP (xok_getfield (ref := "WaysAtlas$Run") (Or.inr ⟨rfl, by decide⟩) dX0_closed_29 (Or.inr ⟨⟨"WaysAtlas", (List.mem_of_getElem? (i := 124) rfl)⟩, (Or.inl rfl)⟩) xh1040) rfl (xcP (xok_iload_n dX0_closed_32 rfl) rfl (xcP (xok_iaload dX0_closed_33) rfl (xcP (xok_goto dX0_closed_34 (by decide)) rfl trivial))))))))))))
theorem okX0_closed_37 : XOkL xms rX0_closed bX0_closed_37 := xcP (xok_bipush dX0_closed_37 rfl) rfl (xcP xok_fal rfl trivial)
theorem okX0_closed_39 : XOkL xms rX0_closed bX0_closed_39 := xcR ⟨dX0_closed_39, rfl⟩
theorem okM_X0_closed : XOkM xms rX0_closed := xokM0 (List.forall_mem_cons.mpr ⟨⟨rfl, okX0_closed_0⟩, List.forall_mem_cons.mpr ⟨⟨rfl, okX0_closed_14⟩, List.forall_mem_cons.mpr ⟨⟨rfl, okX0_closed_37⟩, List.forall_mem_cons.mpr ⟨⟨rfl, okX0_closed_39⟩, fun _ h => nomatch h⟩⟩⟩⟩) (xokH0 rfl (fun _ _ => rfl)) (by decide +kernel) (by decide)
abbrev cX0_entered : ByteArray := prog_1_method_24_code
def dkwX0_entered_1 : List UInt8 := [180, 0, 155, 28, 50, 182, 0, 254, 154, 0, 5, 2, 172, 45, 180, 1, 1, 28, 46, 172]
abbrev dktX0_entered_1 : List UInt8 := dkwX0_entered_1 ++ []
def dkwX0_entered_0 : List UInt8 := [42, 27, 182, 0, 190, 78, 45, 198, 0, 26, 42, 28, 182, 0, 151, 153, 0, 18, 42, 180, 0, 50]
abbrev dktX0_entered_0 : List UInt8 := dkwX0_entered_0 ++ dktX0_entered_1
theorem dksX0_entered_0 : cX0_entered.data.toList.drop 0 = dktX0_entered_0 := by decide +kernel
theorem dksX0_entered_1 : cX0_entered.data.toList.drop 22 = dktX0_entered_1 := dk_seg dksX0_entered_0 22 rfl rfl
theorem dX0_entered_0 : decode cX0_entered 0 = .ok (.aload_n 0, 1) := dk_42 (dk_at dksX0_entered_0 0 rfl rfl)
theorem dX0_entered_1 : decode cX0_entered 1 = .ok (.iload_n 1, 1) := dk_27 (dk_at dksX0_entered_0 1 rfl rfl)
theorem dX0_entered_2 : decode cX0_entered 2 = .ok (.invokevirtual 190, 3) := dk_182 0 190 (dk_at dksX0_entered_0 2 rfl rfl)
theorem dX0_entered_5 : decode cX0_entered 5 = .ok (.astore_n 3, 1) := dk_78 (dk_at dksX0_entered_0 5 rfl rfl)
theorem dX0_entered_6 : decode cX0_entered 6 = .ok (.aload_n 3, 1) := dk_45 (dk_at dksX0_entered_0 6 rfl rfl)
theorem dX0_entered_7 : decode cX0_entered 7 = .ok (.ifnull 26, 3) := dk_198 0 26 (dk_at dksX0_entered_0 7 rfl rfl)
theorem dX0_entered_10 : decode cX0_entered 10 = .ok (.aload_n 0, 1) := dk_42 (dk_at dksX0_entered_0 10 rfl rfl)
theorem dX0_entered_11 : decode cX0_entered 11 = .ok (.iload_n 2, 1) := dk_28 (dk_at dksX0_entered_0 11 rfl rfl)
theorem dX0_entered_12 : decode cX0_entered 12 = .ok (.invokevirtual 151, 3) := dk_182 0 151 (dk_at dksX0_entered_0 12 rfl rfl)
theorem dX0_entered_15 : decode cX0_entered 15 = .ok (.ifCond .eq 18, 3) := dk_153 0 18 (dk_at dksX0_entered_0 15 rfl rfl)
theorem dX0_entered_18 : decode cX0_entered 18 = .ok (.aload_n 0, 1) := dk_42 (dk_at dksX0_entered_0 18 rfl rfl)
theorem dX0_entered_19 : decode cX0_entered 19 = .ok (.getfield 50, 3) := dk_180 0 50 (dk_at dksX0_entered_0 19 rfl rfl)
theorem dX0_entered_22 : decode cX0_entered 22 = .ok (.getfield 155, 3) := dk_180 0 155 (dk_at dksX0_entered_1 0 rfl rfl)
theorem dX0_entered_25 : decode cX0_entered 25 = .ok (.iload_n 2, 1) := dk_28 (dk_at dksX0_entered_1 3 rfl rfl)
theorem dX0_entered_26 : decode cX0_entered 26 = .ok (.aaload, 1) := dk_50 (dk_at dksX0_entered_1 4 rfl rfl)
theorem dX0_entered_27 : decode cX0_entered 27 = .ok (.invokevirtual 254, 3) := dk_182 0 254 (dk_at dksX0_entered_1 5 rfl rfl)
theorem dX0_entered_30 : decode cX0_entered 30 = .ok (.ifCond .ne 5, 3) := dk_154 0 5 (dk_at dksX0_entered_1 8 rfl rfl)
theorem dX0_entered_33 : decode cX0_entered 33 = .ok (.iconst (-1), 1) := dk_2 (dk_at dksX0_entered_1 11 rfl rfl)
theorem dX0_entered_34 : decode cX0_entered 34 = .ok (.ireturn, 1) := dk_172 (dk_at dksX0_entered_1 12 rfl rfl)
theorem dX0_entered_35 : decode cX0_entered 35 = .ok (.aload_n 3, 1) := dk_45 (dk_at dksX0_entered_1 13 rfl rfl)
theorem dX0_entered_36 : decode cX0_entered 36 = .ok (.getfield 257, 3) := dk_180 1 1 (dk_at dksX0_entered_1 14 rfl rfl)
theorem dX0_entered_39 : decode cX0_entered 39 = .ok (.iload_n 2, 1) := dk_28 (dk_at dksX0_entered_1 17 rfl rfl)
theorem dX0_entered_40 : decode cX0_entered 40 = .ok (.iaload, 1) := dk_46 (dk_at dksX0_entered_1 18 rfl rfl)
theorem dX0_entered_41 : decode cX0_entered 41 = .ok (.ireturn, 1) := dk_172 (dk_at dksX0_entered_1 19 rfl rfl)
theorem okX0_entered_0 : XOkL xms rX0_entered bX0_entered_0 := xcP (xok_aload_n dX0_entered_0 rfl) rfl (xcP (xok_iload_n dX0_entered_1 rfl) rfl (xcC0 (xokc_list (List.forall_mem_cons.mpr ⟨xokc_V (r := (RX0, TX0, 10)) xm16 (List.mem_of_getElem? (i := 0) rfl) (by decide) rfl dX0_entered_2 q1827 q1829 qs51 q138 q1830 (by decide +kernel), fun _ h => nomatch h⟩)) rfl (xcP (xok_astore_n dX0_entered_5 rfl) rfl (xcP (xok_aload_n dX0_entered_6 rfl) rfl (xcP (xok_ifnull dX0_entered_7 (by decide)) rfl (xcP (xok_aload_n dX0_entered_10 rfl) rfl (xcP (xok_iload_n dX0_entered_11 rfl) rfl (xcC0 (xokc_list (List.forall_mem_cons.mpr ⟨xokc_V (r := (RX0, TX0, 10)) xm9 (List.mem_of_getElem? (i := 0) rfl) (by decide) rfl dX0_entered_12 q1493 q1495 qs41 q138 q1496 (by decide +kernel), fun _ h => nomatch h⟩)) rfl (xcP (xok_ifeq dX0_entered_15 (by decide)) rfl (xcP (xok_aload_n dX0_entered_18 rfl) rfl (xcP (xok_getfield (ref := "WaysAtlas") (Or.inr ⟨rfl, by decide⟩) dX0_entered_19 (Or.inl ⟨q647, (Or.inl rfl)⟩) xh1003) rfl (xcP (xok_getfield (ref := "WaysAtlas$Program") (Or.inr ⟨rfl, by decide⟩) dX0_entered_22 (Or.inr ⟨⟨"WaysAtlas", (List.mem_of_getElem? (i := 101) rfl)⟩, (Or.inl rfl)⟩) xh1022) rfl (xcP (xok_iload_n dX0_entered_25 rfl) rfl (xcP (xok_aaload (by decide) rfl dX0_entered_26) rfl (xcC0 (xokc_list (List.forall_mem_cons.mpr ⟨xokc_U (r := (RX18, TX18, 5)) xm216 (List.mem_of_getElem? (i := 16) rfl) (by decide) rfl dX0_entered_27 q1857 q1859 q1861 q1858 q162 q1875 rfl (by decide +kernel), List.forall_mem_cons.mpr ⟨xokc_U (r := (RX20, TX20, 3)) xm216 (List.mem_of_getElem? (i := 17) rfl) (by decide) rfl dX0_entered_27 q1857 q1859 q1873 q1858 q162 q1875 rfl (by decide +kernel), List.forall_mem_cons.mpr ⟨xokc_U (r := (RX21, TX21, 3)) xm216 (List.mem_of_getElem? (i := 18) rfl) (by decide) rfl dX0_entered_27 q1857 q1859 q1870 q1858 q162 q1875 rfl (by decide +kernel), List.forall_mem_cons.mpr ⟨xokc_U (r := (RX22, TX22, 3)) xm216 (List.mem_of_getElem? (i := 19) rfl) (by decide) rfl dX0_entered_27 q1857 q1859 q1869 q1858 q162 q1875 rfl (by decide +kernel), List.forall_mem_cons.mpr ⟨xokc_U (r := (RX23, TX23, 3)) xm216 (List.mem_of_getElem? (i := 20) rfl) (by decide) rfl dX0_entered_27 q1857 q1859 q1872 q1858 q162 q1875 rfl (by decide +kernel), List.forall_mem_cons.mpr ⟨xokc_U (r := (RX24, TX24, 2)) xm216 (List.mem_of_getElem? (i := 21) rfl) (by decide) rfl dX0_entered_27 q1857 q1859 q1868 q1858 q162 q1875 rfl (by decide +kernel), List.forall_mem_cons.mpr ⟨xokc_U (r := (RX25, TX25, 2)) xm216 (List.mem_of_getElem? (i := 22) rfl) (by decide) rfl dX0_entered_27 q1857 q1859 q1871 q1858 q162 q1875 rfl (by decide +kernel), List.forall_mem_cons.mpr ⟨xokc_U (r := (RX26, TX26, 6)) xm216 (List.mem_of_getElem? (i := 23) rfl) (by decide) rfl dX0_entered_27 q1857 q1859 q1865 q1858 q162 q1875 rfl (by decide +kernel), List.forall_mem_cons.mpr ⟨xokc_U (r := (RX27, TX27, 3)) xm216 (List.mem_of_getElem? (i := 24) rfl) (by decide) rfl dX0_entered_27 q1857 q1859 q1867 q1858 q162 q1875 rfl (by decide +kernel), List.forall_mem_cons.mpr ⟨xokc_U (r := (RX28, TX28, 2)) xm216 (List.mem_of_getElem? (i := 25) rfl) (by decide) rfl dX0_entered_27 q1857 q1859 q1866 q1858 q162 q1875 rfl (by decide +kernel), List.forall_mem_cons.mpr ⟨xokc_U (r := (RX29, TX29, 2)) xm216 (List.mem_of_getElem? (i := 26) rfl) (by decide) rfl dX0_entered_27 q1857 q1859 q1874 q1858 q162 q1875 rfl (by decide +kernel), List.forall_mem_cons.mpr ⟨xokc_U (r := (RX30, TX30, 3)) xm216 (List.mem_of_getElem? (i := 27) rfl) (by decide) rfl dX0_entered_27 q1857 q1859 q1860 q1858 q162 q1875 rfl (by decide +kernel), List.forall_mem_cons.mpr ⟨xokc_O (owner := "WaysAtlas$Statement") (r := (RX31, TX31, 7)) xm266 (List.mem_of_getElem? (i := 28) rfl) (by decide) rfl dX0_entered_27 q1857 q1859 q1858 q1862 q1863 q176 q1864 q1875 (by decide +kernel), fun _ h => nomatch h⟩⟩⟩⟩⟩⟩⟩⟩⟩⟩⟩⟩⟩)) rfl (xcP (xok_ifne dX0_entered_30 (by decide)) rfl (xcP xok_fal rfl trivial)))))))))))))))))
theorem okX0_entered_33 : XOkL xms rX0_entered bX0_entered_33 := xcP (xok_iconst dX0_entered_33 rfl) rfl (xcR ⟨dX0_entered_34, rfl⟩)
theorem okX0_entered_35 : XOkL xms rX0_entered bX0_entered_35 := xcP (xok_aload_n dX0_entered_35 rfl) rfl (xcP (xok_getfield (ref := "WaysAtlas$Run") (Or.inr ⟨rfl, by decide⟩) dX0_entered_36 (Or.inr ⟨⟨"WaysAtlas", (List.mem_of_getElem? (i := 125) rfl)⟩, (Or.inl rfl)⟩) xh1041) rfl (xcP (xok_iload_n dX0_entered_39 rfl) rfl (xcP (xok_iaload dX0_entered_40) rfl (xcR ⟨dX0_entered_41, rfl⟩))))
theorem okM_X0_entered : XOkM xms rX0_entered := xokM0 (List.forall_mem_cons.mpr ⟨⟨rfl, okX0_entered_0⟩, List.forall_mem_cons.mpr ⟨⟨rfl, okX0_entered_33⟩, List.forall_mem_cons.mpr ⟨⟨rfl, okX0_entered_35⟩, fun _ h => nomatch h⟩⟩⟩) (xokH0 rfl (fun _ _ => rfl)) (by decide +kernel) (by decide)
abbrev cX0_handler : ByteArray := prog_1_method_25_code
def dkwX0_handler_5 : List UInt8 := [167, 255, 220, 21, 5, 153, 0, 7, 4, 167, 0, 4, 3, 172]
abbrev dktX0_handler_5 : List UInt8 := dkwX0_handler_5 ++ []
def dkwX0_handler_4 : List UInt8 := [180, 1, 14, 21, 4, 46, 45, 180, 1, 14, 21, 6, 46, 182, 1, 16, 128, 54, 5, 132, 6, 1]
abbrev dktX0_handler_4 : List UInt8 := dkwX0_handler_4 ++ dktX0_handler_5
def dkwX0_handler_3 : List UInt8 := [46, 172, 3, 54, 5, 3, 54, 6, 21, 6, 21, 4, 162, 0, 35, 21, 5, 42, 180, 0, 50, 45]
abbrev dktX0_handler_3 : List UInt8 := dkwX0_handler_3 ++ dktX0_handler_4
def dkwX0_handler_2 : List UInt8 := [54, 4, 28, 5, 162, 0, 22, 28, 154, 0, 10, 45, 180, 1, 11, 167, 0, 10, 45, 180, 1, 14, 21, 4]
abbrev dktX0_handler_2 : List UInt8 := dkwX0_handler_2 ++ dktX0_handler_3
def dkwX0_handler_1 : List UInt8 := [154, 0, 5, 2, 172, 42, 180, 0, 50, 180, 1, 4, 27, 50, 78, 42, 180, 0, 50, 180, 1, 8, 27, 46]
abbrev dktX0_handler_1 : List UInt8 := dkwX0_handler_1 ++ dktX0_handler_2
def dkwX0_handler_0 : List UInt8 := [27, 3, 42, 180, 0, 50, 180, 0, 148, 4, 100, 184, 0, 86, 153, 0, 12, 28, 3, 5, 184, 0, 86]
abbrev dktX0_handler_0 : List UInt8 := dkwX0_handler_0 ++ dktX0_handler_1
theorem dksX0_handler_0 : cX0_handler.data.toList.drop 0 = dktX0_handler_0 := by decide +kernel
theorem dksX0_handler_1 : cX0_handler.data.toList.drop 23 = dktX0_handler_1 := dk_seg dksX0_handler_0 23 rfl rfl
theorem dksX0_handler_2 : cX0_handler.data.toList.drop 47 = dktX0_handler_2 := dk_seg dksX0_handler_1 24 rfl rfl
theorem dksX0_handler_3 : cX0_handler.data.toList.drop 71 = dktX0_handler_3 := dk_seg dksX0_handler_2 24 rfl rfl
theorem dksX0_handler_4 : cX0_handler.data.toList.drop 93 = dktX0_handler_4 := dk_seg dksX0_handler_3 22 rfl rfl
theorem dksX0_handler_5 : cX0_handler.data.toList.drop 115 = dktX0_handler_5 := dk_seg dksX0_handler_4 22 rfl rfl
theorem dX0_handler_0 : decode cX0_handler 0 = .ok (.iload_n 1, 1) := dk_27 (dk_at dksX0_handler_0 0 rfl rfl)
theorem dX0_handler_1 : decode cX0_handler 1 = .ok (.iconst 0, 1) := dk_3 (dk_at dksX0_handler_0 1 rfl rfl)
theorem dX0_handler_2 : decode cX0_handler 2 = .ok (.aload_n 0, 1) := dk_42 (dk_at dksX0_handler_0 2 rfl rfl)
theorem dX0_handler_3 : decode cX0_handler 3 = .ok (.getfield 50, 3) := dk_180 0 50 (dk_at dksX0_handler_0 3 rfl rfl)
theorem dX0_handler_6 : decode cX0_handler 6 = .ok (.getfield 148, 3) := dk_180 0 148 (dk_at dksX0_handler_0 6 rfl rfl)
theorem dX0_handler_9 : decode cX0_handler 9 = .ok (.iconst 1, 1) := dk_4 (dk_at dksX0_handler_0 9 rfl rfl)
theorem dX0_handler_10 : decode cX0_handler 10 = .ok (.isub, 1) := dk_100 (dk_at dksX0_handler_0 10 rfl rfl)
theorem dX0_handler_11 : decode cX0_handler 11 = .ok (.invokestatic 86, 3) := dk_184 0 86 (dk_at dksX0_handler_0 11 rfl rfl)
theorem dX0_handler_14 : decode cX0_handler 14 = .ok (.ifCond .eq 12, 3) := dk_153 0 12 (dk_at dksX0_handler_0 14 rfl rfl)
theorem dX0_handler_17 : decode cX0_handler 17 = .ok (.iload_n 2, 1) := dk_28 (dk_at dksX0_handler_0 17 rfl rfl)
theorem dX0_handler_18 : decode cX0_handler 18 = .ok (.iconst 0, 1) := dk_3 (dk_at dksX0_handler_0 18 rfl rfl)
theorem dX0_handler_19 : decode cX0_handler 19 = .ok (.iconst 2, 1) := dk_5 (dk_at dksX0_handler_0 19 rfl rfl)
theorem dX0_handler_20 : decode cX0_handler 20 = .ok (.invokestatic 86, 3) := dk_184 0 86 (dk_at dksX0_handler_0 20 rfl rfl)
theorem dX0_handler_23 : decode cX0_handler 23 = .ok (.ifCond .ne 5, 3) := dk_154 0 5 (dk_at dksX0_handler_1 0 rfl rfl)
theorem dX0_handler_26 : decode cX0_handler 26 = .ok (.iconst (-1), 1) := dk_2 (dk_at dksX0_handler_1 3 rfl rfl)
theorem dX0_handler_27 : decode cX0_handler 27 = .ok (.ireturn, 1) := dk_172 (dk_at dksX0_handler_1 4 rfl rfl)
theorem dX0_handler_28 : decode cX0_handler 28 = .ok (.aload_n 0, 1) := dk_42 (dk_at dksX0_handler_1 5 rfl rfl)
theorem dX0_handler_29 : decode cX0_handler 29 = .ok (.getfield 50, 3) := dk_180 0 50 (dk_at dksX0_handler_1 6 rfl rfl)
theorem dX0_handler_32 : decode cX0_handler 32 = .ok (.getfield 260, 3) := dk_180 1 4 (dk_at dksX0_handler_1 9 rfl rfl)
theorem dX0_handler_35 : decode cX0_handler 35 = .ok (.iload_n 1, 1) := dk_27 (dk_at dksX0_handler_1 12 rfl rfl)
theorem dX0_handler_36 : decode cX0_handler 36 = .ok (.aaload, 1) := dk_50 (dk_at dksX0_handler_1 13 rfl rfl)
theorem dX0_handler_37 : decode cX0_handler 37 = .ok (.astore_n 3, 1) := dk_78 (dk_at dksX0_handler_1 14 rfl rfl)
theorem dX0_handler_38 : decode cX0_handler 38 = .ok (.aload_n 0, 1) := dk_42 (dk_at dksX0_handler_1 15 rfl rfl)
theorem dX0_handler_39 : decode cX0_handler 39 = .ok (.getfield 50, 3) := dk_180 0 50 (dk_at dksX0_handler_1 16 rfl rfl)
theorem dX0_handler_42 : decode cX0_handler 42 = .ok (.getfield 264, 3) := dk_180 1 8 (dk_at dksX0_handler_1 19 rfl rfl)
theorem dX0_handler_45 : decode cX0_handler 45 = .ok (.iload_n 1, 1) := dk_27 (dk_at dksX0_handler_1 22 rfl rfl)
theorem dX0_handler_46 : decode cX0_handler 46 = .ok (.iaload, 1) := dk_46 (dk_at dksX0_handler_1 23 rfl rfl)
theorem dX0_handler_47 : decode cX0_handler 47 = .ok (.istore 4, 2) := dk_54 4 (dk_at dksX0_handler_2 0 rfl rfl)
theorem dX0_handler_49 : decode cX0_handler 49 = .ok (.iload_n 2, 1) := dk_28 (dk_at dksX0_handler_2 2 rfl rfl)
theorem dX0_handler_50 : decode cX0_handler 50 = .ok (.iconst 2, 1) := dk_5 (dk_at dksX0_handler_2 3 rfl rfl)
theorem dX0_handler_51 : decode cX0_handler 51 = .ok (.if_icmp .ge 22, 3) := dk_162 0 22 (dk_at dksX0_handler_2 4 rfl rfl)
theorem dX0_handler_54 : decode cX0_handler 54 = .ok (.iload_n 2, 1) := dk_28 (dk_at dksX0_handler_2 7 rfl rfl)
theorem dX0_handler_55 : decode cX0_handler 55 = .ok (.ifCond .ne 10, 3) := dk_154 0 10 (dk_at dksX0_handler_2 8 rfl rfl)
theorem dX0_handler_58 : decode cX0_handler 58 = .ok (.aload_n 3, 1) := dk_45 (dk_at dksX0_handler_2 11 rfl rfl)
theorem dX0_handler_59 : decode cX0_handler 59 = .ok (.getfield 267, 3) := dk_180 1 11 (dk_at dksX0_handler_2 12 rfl rfl)
theorem dX0_handler_62 : decode cX0_handler 62 = .ok (.goto 10, 3) := dk_167 0 10 (dk_at dksX0_handler_2 15 rfl rfl)
theorem dX0_handler_65 : decode cX0_handler 65 = .ok (.aload_n 3, 1) := dk_45 (dk_at dksX0_handler_2 18 rfl rfl)
theorem dX0_handler_66 : decode cX0_handler 66 = .ok (.getfield 270, 3) := dk_180 1 14 (dk_at dksX0_handler_2 19 rfl rfl)
theorem dX0_handler_69 : decode cX0_handler 69 = .ok (.iload 4, 2) := dk_21 4 (dk_at dksX0_handler_2 22 rfl rfl)
theorem dX0_handler_71 : decode cX0_handler 71 = .ok (.iaload, 1) := dk_46 (dk_at dksX0_handler_3 0 rfl rfl)
theorem dX0_handler_72 : decode cX0_handler 72 = .ok (.ireturn, 1) := dk_172 (dk_at dksX0_handler_3 1 rfl rfl)
theorem dX0_handler_73 : decode cX0_handler 73 = .ok (.iconst 0, 1) := dk_3 (dk_at dksX0_handler_3 2 rfl rfl)
theorem dX0_handler_74 : decode cX0_handler 74 = .ok (.istore 5, 2) := dk_54 5 (dk_at dksX0_handler_3 3 rfl rfl)
theorem dX0_handler_76 : decode cX0_handler 76 = .ok (.iconst 0, 1) := dk_3 (dk_at dksX0_handler_3 5 rfl rfl)
theorem dX0_handler_77 : decode cX0_handler 77 = .ok (.istore 6, 2) := dk_54 6 (dk_at dksX0_handler_3 6 rfl rfl)
theorem dX0_handler_79 : decode cX0_handler 79 = .ok (.iload 6, 2) := dk_21 6 (dk_at dksX0_handler_3 8 rfl rfl)
theorem dX0_handler_81 : decode cX0_handler 81 = .ok (.iload 4, 2) := dk_21 4 (dk_at dksX0_handler_3 10 rfl rfl)
theorem dX0_handler_83 : decode cX0_handler 83 = .ok (.if_icmp .ge 35, 3) := dk_162 0 35 (dk_at dksX0_handler_3 12 rfl rfl)
theorem dX0_handler_86 : decode cX0_handler 86 = .ok (.iload 5, 2) := dk_21 5 (dk_at dksX0_handler_3 15 rfl rfl)
theorem dX0_handler_88 : decode cX0_handler 88 = .ok (.aload_n 0, 1) := dk_42 (dk_at dksX0_handler_3 17 rfl rfl)
theorem dX0_handler_89 : decode cX0_handler 89 = .ok (.getfield 50, 3) := dk_180 0 50 (dk_at dksX0_handler_3 18 rfl rfl)
theorem dX0_handler_92 : decode cX0_handler 92 = .ok (.aload_n 3, 1) := dk_45 (dk_at dksX0_handler_3 21 rfl rfl)
theorem dX0_handler_93 : decode cX0_handler 93 = .ok (.getfield 270, 3) := dk_180 1 14 (dk_at dksX0_handler_4 0 rfl rfl)
theorem dX0_handler_96 : decode cX0_handler 96 = .ok (.iload 4, 2) := dk_21 4 (dk_at dksX0_handler_4 3 rfl rfl)
theorem dX0_handler_98 : decode cX0_handler 98 = .ok (.iaload, 1) := dk_46 (dk_at dksX0_handler_4 5 rfl rfl)
theorem dX0_handler_99 : decode cX0_handler 99 = .ok (.aload_n 3, 1) := dk_45 (dk_at dksX0_handler_4 6 rfl rfl)
theorem dX0_handler_100 : decode cX0_handler 100 = .ok (.getfield 270, 3) := dk_180 1 14 (dk_at dksX0_handler_4 7 rfl rfl)
theorem dX0_handler_103 : decode cX0_handler 103 = .ok (.iload 6, 2) := dk_21 6 (dk_at dksX0_handler_4 10 rfl rfl)
theorem dX0_handler_105 : decode cX0_handler 105 = .ok (.iaload, 1) := dk_46 (dk_at dksX0_handler_4 12 rfl rfl)
theorem dX0_handler_106 : decode cX0_handler 106 = .ok (.invokevirtual 272, 3) := dk_182 1 16 (dk_at dksX0_handler_4 13 rfl rfl)
theorem dX0_handler_109 : decode cX0_handler 109 = .ok (.ior, 1) := dk_128 (dk_at dksX0_handler_4 16 rfl rfl)
theorem dX0_handler_110 : decode cX0_handler 110 = .ok (.istore 5, 2) := dk_54 5 (dk_at dksX0_handler_4 17 rfl rfl)
theorem dX0_handler_112 : decode cX0_handler 112 = .ok (.iinc 6 1, 3) := dk_132 6 1 (dk_at dksX0_handler_4 19 rfl rfl)
theorem dX0_handler_115 : decode cX0_handler 115 = .ok (.goto (-36), 3) := dk_167 255 220 (dk_at dksX0_handler_5 0 rfl rfl)
theorem dX0_handler_118 : decode cX0_handler 118 = .ok (.iload 5, 2) := dk_21 5 (dk_at dksX0_handler_5 3 rfl rfl)
theorem dX0_handler_120 : decode cX0_handler 120 = .ok (.ifCond .eq 7, 3) := dk_153 0 7 (dk_at dksX0_handler_5 5 rfl rfl)
theorem dX0_handler_123 : decode cX0_handler 123 = .ok (.iconst 1, 1) := dk_4 (dk_at dksX0_handler_5 8 rfl rfl)
theorem dX0_handler_124 : decode cX0_handler 124 = .ok (.goto 4, 3) := dk_167 0 4 (dk_at dksX0_handler_5 9 rfl rfl)
theorem dX0_handler_127 : decode cX0_handler 127 = .ok (.iconst 0, 1) := dk_3 (dk_at dksX0_handler_5 12 rfl rfl)
theorem dX0_handler_128 : decode cX0_handler 128 = .ok (.ireturn, 1) := dk_172 (dk_at dksX0_handler_5 13 rfl rfl)
theorem okX0_handler_0 : XOkL xms rX0_handler bX0_handler_0 := xcP (xok_iload_n dX0_handler_0 rfl) rfl (xcP (xok_iconst dX0_handler_1 rfl) rfl (xcP (xok_aload_n dX0_handler_2 rfl) rfl (xcP (xok_getfield (ref := "WaysAtlas") (Or.inr ⟨rfl, by decide⟩) dX0_handler_3 (Or.inl ⟨q647, (Or.inl rfl)⟩) xh1003) rfl (xcP (xok_getfield (ref := "WaysAtlas$Program") (Or.inl ⟨rfl, by decide⟩) dX0_handler_6 (Or.inr ⟨⟨"WaysAtlas", (List.mem_of_getElem? (i := 99) rfl)⟩, (Or.inl rfl)⟩) xh15) rfl (xcP (xok_iconst dX0_handler_9 rfl) rfl (xcP (xok_isub dX0_handler_10) rfl (xcC0 (xokc_S xm3 rfl dX0_handler_11 q680 q681 q138 q682 (by decide +kernel)) rfl (xcP (xok_ifeq dX0_handler_14 (by decide)) rfl (xcP (xok_iload_n dX0_handler_17 rfl) rfl (xcP (xok_iconst dX0_handler_18 rfl) rfl (xcP (xok_iconst dX0_handler_19 rfl) rfl (xcC0 (xokc_S xm3 rfl dX0_handler_20 q680 q681 q138 q682 (by decide +kernel)) rfl (xcP (xok_ifne dX0_handler_23 (by decide)) rfl (xcP xok_fal rfl trivial))))))))))))))
theorem okX0_handler_26 : XOkL xms rX0_handler bX0_handler_26 := xcP (xok_iconst dX0_handler_26 rfl) rfl (xcR ⟨dX0_handler_27, rfl⟩)
theorem okX0_handler_28 : XOkL xms rX0_handler bX0_handler_28 := xcP (xok_aload_n dX0_handler_28 rfl) rfl (xcP (xok_getfield (ref := "WaysAtlas") (Or.inr ⟨rfl, by decide⟩) dX0_handler_29 (Or.inl ⟨q647, (Or.inl rfl)⟩) xh1003) rfl (xcP (xok_getfield (ref := "WaysAtlas$Program") (Or.inr ⟨rfl, by decide⟩) dX0_handler_32 (Or.inr ⟨⟨"WaysAtlas", (List.mem_of_getElem? (i := 126) rfl)⟩, (Or.inl rfl)⟩) xh1023) rfl (xcP (xok_iload_n dX0_handler_35 rfl) rfl (xcP (xok_aaload (by decide) rfl dX0_handler_36) rfl (xcP (xok_astore_n dX0_handler_37 rfl) rfl (xcP (xok_aload_n dX0_handler_38 rfl) rfl (xcP (xok_getfield (ref := "WaysAtlas") (Or.inr ⟨rfl, by decide⟩) dX0_handler_39 (Or.inl ⟨q647, (Or.inl rfl)⟩) xh1003) rfl (xcP (xok_getfield (ref := "WaysAtlas$Program") (Or.inr ⟨rfl, by decide⟩) dX0_handler_42 (Or.inr ⟨⟨"WaysAtlas", (List.mem_of_getElem? (i := 127) rfl)⟩, (Or.inl rfl)⟩) xh1024) rfl (xcP (xok_iload_n dX0_handler_45 rfl) rfl (xcP (xok_iaload dX0_handler_46) rfl (xcP (xok_istore dX0_handler_47) rfl (xcP (xok_iload_n dX0_handler_49 rfl) rfl (xcP (xok_iconst dX0_handler_50 rfl) rfl (xcP (xok_icmpge dX0_handler_51 (by decide)) rfl (xcP (xok_iload_n dX0_handler_54 rfl) rfl (xcP (xok_ifne dX0_handler_55 (by decide)) rfl (xcP (xok_aload_n dX0_handler_58 rfl) rfl (xcP (xok_getfield (ref := "WaysAtlas$Guard") (Or.inl ⟨rfl, by decide⟩) dX0_handler_59 (Or.inl ⟨q989, (Or.inr q971)⟩) xh82) rfl (xcP (xok_goto dX0_handler_62 (by decide)) rfl trivial)))))))))))))))))))
theorem okX0_handler_65 : XOkL xms rX0_handler bX0_handler_65 := xcP (xok_aload_n dX0_handler_65 rfl) rfl (xcP (xok_getfield (ref := "WaysAtlas$Guard") (Or.inr ⟨rfl, by decide⟩) dX0_handler_66 (Or.inr ⟨⟨"WaysAtlas", (List.mem_of_getElem? (i := 128) rfl)⟩, (Or.inl rfl)⟩) xh1136) rfl (xcP (xok_iload dX0_handler_69) rfl (xcP (xok_iaload dX0_handler_71) rfl (xcP xok_fal rfl trivial))))
theorem okX0_handler_72 : XOkL xms rX0_handler bX0_handler_72 := xcR ⟨dX0_handler_72, rfl⟩
theorem okX0_handler_73 : XOkL xms rX0_handler bX0_handler_73 := xcP (xok_iconst dX0_handler_73 rfl) rfl (xcP (xok_istore dX0_handler_74) rfl (xcP (xok_iconst dX0_handler_76 rfl) rfl (xcP (xok_istore dX0_handler_77) rfl (xcP xok_fal rfl trivial))))
theorem okX0_handler_79 : XOkL xms rX0_handler bX0_handler_79 := xcP (xok_iload dX0_handler_79) rfl (xcP (xok_iload dX0_handler_81) rfl (xcP (xok_icmpge dX0_handler_83 (by decide)) rfl (xcP (xok_iload dX0_handler_86) rfl (xcP (xok_aload_n dX0_handler_88 rfl) rfl (xcP (xok_getfield (ref := "WaysAtlas") (Or.inr ⟨rfl, by decide⟩) dX0_handler_89 (Or.inl ⟨q647, (Or.inl rfl)⟩) xh1003) rfl (xcP (xok_aload_n dX0_handler_92 rfl) rfl (xcP (xok_getfield (ref := "WaysAtlas$Guard") (Or.inr ⟨rfl, by decide⟩) dX0_handler_93 (Or.inr ⟨⟨"WaysAtlas", (List.mem_of_getElem? (i := 128) rfl)⟩, (Or.inl rfl)⟩) xh1136) rfl (xcP (xok_iload dX0_handler_96) rfl (xcP (xok_iaload dX0_handler_98) rfl (xcP (xok_aload_n dX0_handler_99 rfl) rfl (xcP (xok_getfield (ref := "WaysAtlas$Guard") (Or.inr ⟨rfl, by decide⟩) dX0_handler_100 (Or.inr ⟨⟨"WaysAtlas", (List.mem_of_getElem? (i := 128) rfl)⟩, (Or.inl rfl)⟩) xh1136) rfl (xcP (xok_iload dX0_handler_103) rfl (xcP (xok_iaload dX0_handler_105) rfl (xcC0 (xokc_list (List.forall_mem_cons.mpr ⟨xokc_V (r := (RX3, TX3, 10)) xm70 (List.mem_of_getElem? (i := 3) rfl) (by decide) rfl dX0_handler_106 q1880 q1691 q1692 q141 q1693 (by decide +kernel), fun _ h => nomatch h⟩)) rfl (xcP (xok_ior dX0_handler_109) rfl (xcP (xok_istore dX0_handler_110) rfl (xcP (xok_iinc dX0_handler_112 rfl) rfl (xcP (xok_goto dX0_handler_115 (by decide)) rfl trivial))))))))))))))))))
theorem okX0_handler_118 : XOkL xms rX0_handler bX0_handler_118 := xcP (xok_iload dX0_handler_118) rfl (xcP (xok_ifeq dX0_handler_120 (by decide)) rfl (xcP (xok_iconst dX0_handler_123 rfl) rfl (xcP (xok_goto dX0_handler_124 (by decide)) rfl trivial)))
theorem okX0_handler_127 : XOkL xms rX0_handler bX0_handler_127 := xcP (xok_iconst dX0_handler_127 rfl) rfl (xcP xok_fal rfl trivial)
theorem okX0_handler_128 : XOkL xms rX0_handler bX0_handler_128 := xcR ⟨dX0_handler_128, rfl⟩
theorem okM_X0_handler : XOkM xms rX0_handler := xokM0 (List.forall_mem_cons.mpr ⟨⟨rfl, okX0_handler_0⟩, List.forall_mem_cons.mpr ⟨⟨rfl, okX0_handler_26⟩, List.forall_mem_cons.mpr ⟨⟨rfl, okX0_handler_28⟩, List.forall_mem_cons.mpr ⟨⟨rfl, okX0_handler_65⟩, List.forall_mem_cons.mpr ⟨⟨rfl, okX0_handler_72⟩, List.forall_mem_cons.mpr ⟨⟨rfl, okX0_handler_73⟩, List.forall_mem_cons.mpr ⟨⟨rfl, okX0_handler_79⟩, List.forall_mem_cons.mpr ⟨⟨rfl, okX0_handler_118⟩, List.forall_mem_cons.mpr ⟨⟨rfl, okX0_handler_127⟩, List.forall_mem_cons.mpr ⟨⟨rfl, okX0_handler_128⟩, fun _ h => nomatch h⟩⟩⟩⟩⟩⟩⟩⟩⟩⟩) (xokH0 rfl (fun _ _ => rfl)) (by decide +kernel) (by decide)
abbrev cX0_ways : ByteArray := prog_1_method_29_code
def dkwX0_ways_7 : List UInt8 := [172]
abbrev dktX0_ways_7 : List UInt8 := dkwX0_ways_7 ++ []
def dkwX0_ways_6 : List UInt8 := [182, 0, 186, 25, 4, 21, 6, 42, 180, 0, 80, 184, 1, 31, 54, 6, 132, 7, 1, 167, 255, 159, 21, 6]
abbrev dktX0_ways_6 : List UInt8 := dkwX0_ways_6 ++ dktX0_ways_7
def dkwX0_ways_5 : List UInt8 := [180, 0, 80, 21, 7, 5, 112, 4, 160, 0, 7, 4, 167, 0, 4, 3, 25, 5, 27, 28, 29, 17, 1, 144]
abbrev dktX0_ways_5 : List UInt8 := dkwX0_ways_5 ++ dktX0_ways_6
def dkwX0_ways_4 : List UInt8 := [79, 25, 5, 180, 0, 170, 3, 42, 180, 0, 77, 180, 1, 38, 5, 21, 7, 104, 4, 96, 46, 79, 42, 42]
abbrev dktX0_ways_4 : List UInt8 := dkwX0_ways_4 ++ dktX0_ways_5
def dkwX0_ways_3 : List UInt8 := [180, 1, 35, 162, 0, 91, 25, 5, 180, 0, 166, 3, 42, 180, 0, 77, 180, 1, 38, 5, 21, 7, 104, 46]
abbrev dktX0_ways_3 : List UInt8 := dkwX0_ways_3 ++ dktX0_ways_4
def dkwX0_ways_2 : List UInt8 := [42, 180, 0, 77, 184, 1, 31, 54, 6, 25, 5, 4, 181, 0, 143, 3, 54, 7, 21, 7, 42, 180, 0, 77]
abbrev dktX0_ways_2 : List UInt8 := dkwX0_ways_2 ++ dktX0_ways_3
def dkwX0_ways_1 : List UInt8 := [58, 5, 42, 42, 180, 0, 77, 3, 42, 180, 0, 61, 27, 28, 29, 17, 1, 144, 182, 0, 186, 25, 4, 3]
abbrev dktX0_ways_1 : List UInt8 := dkwX0_ways_1 ++ dktX0_ways_2
def dkwX0_ways_0 : List UInt8 := [42, 27, 182, 0, 183, 154, 0, 5, 2, 172, 17, 0, 244, 188, 10, 58, 4, 187, 0, 54, 89, 183, 0, 56]
abbrev dktX0_ways_0 : List UInt8 := dkwX0_ways_0 ++ dktX0_ways_1
theorem dksX0_ways_0 : cX0_ways.data.toList.drop 0 = dktX0_ways_0 := by decide +kernel
theorem dksX0_ways_1 : cX0_ways.data.toList.drop 24 = dktX0_ways_1 := dk_seg dksX0_ways_0 24 rfl rfl
theorem dksX0_ways_2 : cX0_ways.data.toList.drop 48 = dktX0_ways_2 := dk_seg dksX0_ways_1 24 rfl rfl
theorem dksX0_ways_3 : cX0_ways.data.toList.drop 72 = dktX0_ways_3 := dk_seg dksX0_ways_2 24 rfl rfl
theorem dksX0_ways_4 : cX0_ways.data.toList.drop 96 = dktX0_ways_4 := dk_seg dksX0_ways_3 24 rfl rfl
theorem dksX0_ways_5 : cX0_ways.data.toList.drop 120 = dktX0_ways_5 := dk_seg dksX0_ways_4 24 rfl rfl
theorem dksX0_ways_6 : cX0_ways.data.toList.drop 144 = dktX0_ways_6 := dk_seg dksX0_ways_5 24 rfl rfl
theorem dksX0_ways_7 : cX0_ways.data.toList.drop 168 = dktX0_ways_7 := dk_seg dksX0_ways_6 24 rfl rfl
theorem dX0_ways_0 : decode cX0_ways 0 = .ok (.aload_n 0, 1) := dk_42 (dk_at dksX0_ways_0 0 rfl rfl)
theorem dX0_ways_1 : decode cX0_ways 1 = .ok (.iload_n 1, 1) := dk_27 (dk_at dksX0_ways_0 1 rfl rfl)
theorem dX0_ways_2 : decode cX0_ways 2 = .ok (.invokevirtual 183, 3) := dk_182 0 183 (dk_at dksX0_ways_0 2 rfl rfl)
theorem dX0_ways_5 : decode cX0_ways 5 = .ok (.ifCond .ne 5, 3) := dk_154 0 5 (dk_at dksX0_ways_0 5 rfl rfl)
theorem dX0_ways_8 : decode cX0_ways 8 = .ok (.iconst (-1), 1) := dk_2 (dk_at dksX0_ways_0 8 rfl rfl)
theorem dX0_ways_9 : decode cX0_ways 9 = .ok (.ireturn, 1) := dk_172 (dk_at dksX0_ways_0 9 rfl rfl)
theorem dX0_ways_10 : decode cX0_ways 10 = .ok (.sipush 244, 3) := dk_17 0 244 (dk_at dksX0_ways_0 10 rfl rfl)
theorem dX0_ways_13 : decode cX0_ways 13 = .ok (.newarray .int, 2) := dk_188_10 (dk_at dksX0_ways_0 13 rfl rfl)
theorem dX0_ways_15 : decode cX0_ways 15 = .ok (.astore 4, 2) := dk_58 4 (dk_at dksX0_ways_0 15 rfl rfl)
theorem dX0_ways_17 : decode cX0_ways 17 = .ok (.new 54, 3) := dk_187 0 54 (dk_at dksX0_ways_0 17 rfl rfl)
theorem dX0_ways_20 : decode cX0_ways 20 = .ok (.dup, 1) := dk_89 (dk_at dksX0_ways_0 20 rfl rfl)
theorem dX0_ways_21 : decode cX0_ways 21 = .ok (.invokespecial 56, 3) := dk_183 0 56 (dk_at dksX0_ways_0 21 rfl rfl)
theorem dX0_ways_24 : decode cX0_ways 24 = .ok (.astore 5, 2) := dk_58 5 (dk_at dksX0_ways_1 0 rfl rfl)
theorem dX0_ways_26 : decode cX0_ways 26 = .ok (.aload_n 0, 1) := dk_42 (dk_at dksX0_ways_1 2 rfl rfl)
theorem dX0_ways_27 : decode cX0_ways 27 = .ok (.aload_n 0, 1) := dk_42 (dk_at dksX0_ways_1 3 rfl rfl)
theorem dX0_ways_28 : decode cX0_ways 28 = .ok (.getfield 77, 3) := dk_180 0 77 (dk_at dksX0_ways_1 4 rfl rfl)
theorem dX0_ways_31 : decode cX0_ways 31 = .ok (.iconst 0, 1) := dk_3 (dk_at dksX0_ways_1 7 rfl rfl)
theorem dX0_ways_32 : decode cX0_ways 32 = .ok (.aload_n 0, 1) := dk_42 (dk_at dksX0_ways_1 8 rfl rfl)
theorem dX0_ways_33 : decode cX0_ways 33 = .ok (.getfield 61, 3) := dk_180 0 61 (dk_at dksX0_ways_1 9 rfl rfl)
theorem dX0_ways_36 : decode cX0_ways 36 = .ok (.iload_n 1, 1) := dk_27 (dk_at dksX0_ways_1 12 rfl rfl)
theorem dX0_ways_37 : decode cX0_ways 37 = .ok (.iload_n 2, 1) := dk_28 (dk_at dksX0_ways_1 13 rfl rfl)
theorem dX0_ways_38 : decode cX0_ways 38 = .ok (.iload_n 3, 1) := dk_29 (dk_at dksX0_ways_1 14 rfl rfl)
theorem dX0_ways_39 : decode cX0_ways 39 = .ok (.sipush 400, 3) := dk_17 1 144 (dk_at dksX0_ways_1 15 rfl rfl)
theorem dX0_ways_42 : decode cX0_ways 42 = .ok (.invokevirtual 186, 3) := dk_182 0 186 (dk_at dksX0_ways_1 18 rfl rfl)
theorem dX0_ways_45 : decode cX0_ways 45 = .ok (.aload 4, 2) := dk_25 4 (dk_at dksX0_ways_1 21 rfl rfl)
theorem dX0_ways_47 : decode cX0_ways 47 = .ok (.iconst 0, 1) := dk_3 (dk_at dksX0_ways_1 23 rfl rfl)
theorem dX0_ways_48 : decode cX0_ways 48 = .ok (.aload_n 0, 1) := dk_42 (dk_at dksX0_ways_2 0 rfl rfl)
theorem dX0_ways_49 : decode cX0_ways 49 = .ok (.getfield 77, 3) := dk_180 0 77 (dk_at dksX0_ways_2 1 rfl rfl)
theorem dX0_ways_52 : decode cX0_ways 52 = .ok (.invokestatic 287, 3) := dk_184 1 31 (dk_at dksX0_ways_2 4 rfl rfl)
theorem dX0_ways_55 : decode cX0_ways 55 = .ok (.istore 6, 2) := dk_54 6 (dk_at dksX0_ways_2 7 rfl rfl)
theorem dX0_ways_57 : decode cX0_ways 57 = .ok (.aload 5, 2) := dk_25 5 (dk_at dksX0_ways_2 9 rfl rfl)
theorem dX0_ways_59 : decode cX0_ways 59 = .ok (.iconst 1, 1) := dk_4 (dk_at dksX0_ways_2 11 rfl rfl)
theorem dX0_ways_60 : decode cX0_ways 60 = .ok (.putfield 143, 3) := dk_181 0 143 (dk_at dksX0_ways_2 12 rfl rfl)
theorem dX0_ways_63 : decode cX0_ways 63 = .ok (.iconst 0, 1) := dk_3 (dk_at dksX0_ways_2 15 rfl rfl)
theorem dX0_ways_64 : decode cX0_ways 64 = .ok (.istore 7, 2) := dk_54 7 (dk_at dksX0_ways_2 16 rfl rfl)
theorem dX0_ways_66 : decode cX0_ways 66 = .ok (.iload 7, 2) := dk_21 7 (dk_at dksX0_ways_2 18 rfl rfl)
theorem dX0_ways_68 : decode cX0_ways 68 = .ok (.aload_n 0, 1) := dk_42 (dk_at dksX0_ways_2 20 rfl rfl)
theorem dX0_ways_69 : decode cX0_ways 69 = .ok (.getfield 77, 3) := dk_180 0 77 (dk_at dksX0_ways_2 21 rfl rfl)
theorem dX0_ways_72 : decode cX0_ways 72 = .ok (.getfield 291, 3) := dk_180 1 35 (dk_at dksX0_ways_3 0 rfl rfl)
theorem dX0_ways_75 : decode cX0_ways 75 = .ok (.if_icmp .ge 91, 3) := dk_162 0 91 (dk_at dksX0_ways_3 3 rfl rfl)
theorem dX0_ways_78 : decode cX0_ways 78 = .ok (.aload 5, 2) := dk_25 5 (dk_at dksX0_ways_3 6 rfl rfl)
theorem dX0_ways_80 : decode cX0_ways 80 = .ok (.getfield 166, 3) := dk_180 0 166 (dk_at dksX0_ways_3 8 rfl rfl)
theorem dX0_ways_83 : decode cX0_ways 83 = .ok (.iconst 0, 1) := dk_3 (dk_at dksX0_ways_3 11 rfl rfl)
theorem dX0_ways_84 : decode cX0_ways 84 = .ok (.aload_n 0, 1) := dk_42 (dk_at dksX0_ways_3 12 rfl rfl)
theorem dX0_ways_85 : decode cX0_ways 85 = .ok (.getfield 77, 3) := dk_180 0 77 (dk_at dksX0_ways_3 13 rfl rfl)
theorem dX0_ways_88 : decode cX0_ways 88 = .ok (.getfield 294, 3) := dk_180 1 38 (dk_at dksX0_ways_3 16 rfl rfl)
theorem dX0_ways_91 : decode cX0_ways 91 = .ok (.iconst 2, 1) := dk_5 (dk_at dksX0_ways_3 19 rfl rfl)
theorem dX0_ways_92 : decode cX0_ways 92 = .ok (.iload 7, 2) := dk_21 7 (dk_at dksX0_ways_3 20 rfl rfl)
theorem dX0_ways_94 : decode cX0_ways 94 = .ok (.imul, 1) := dk_104 (dk_at dksX0_ways_3 22 rfl rfl)
theorem dX0_ways_95 : decode cX0_ways 95 = .ok (.iaload, 1) := dk_46 (dk_at dksX0_ways_3 23 rfl rfl)
theorem dX0_ways_96 : decode cX0_ways 96 = .ok (.iastore, 1) := dk_79 (dk_at dksX0_ways_4 0 rfl rfl)
theorem dX0_ways_97 : decode cX0_ways 97 = .ok (.aload 5, 2) := dk_25 5 (dk_at dksX0_ways_4 1 rfl rfl)
theorem dX0_ways_99 : decode cX0_ways 99 = .ok (.getfield 170, 3) := dk_180 0 170 (dk_at dksX0_ways_4 3 rfl rfl)
theorem dX0_ways_102 : decode cX0_ways 102 = .ok (.iconst 0, 1) := dk_3 (dk_at dksX0_ways_4 6 rfl rfl)
theorem dX0_ways_103 : decode cX0_ways 103 = .ok (.aload_n 0, 1) := dk_42 (dk_at dksX0_ways_4 7 rfl rfl)
theorem dX0_ways_104 : decode cX0_ways 104 = .ok (.getfield 77, 3) := dk_180 0 77 (dk_at dksX0_ways_4 8 rfl rfl)
theorem dX0_ways_107 : decode cX0_ways 107 = .ok (.getfield 294, 3) := dk_180 1 38 (dk_at dksX0_ways_4 11 rfl rfl)
theorem dX0_ways_110 : decode cX0_ways 110 = .ok (.iconst 2, 1) := dk_5 (dk_at dksX0_ways_4 14 rfl rfl)
theorem dX0_ways_111 : decode cX0_ways 111 = .ok (.iload 7, 2) := dk_21 7 (dk_at dksX0_ways_4 15 rfl rfl)
theorem dX0_ways_113 : decode cX0_ways 113 = .ok (.imul, 1) := dk_104 (dk_at dksX0_ways_4 17 rfl rfl)
theorem dX0_ways_114 : decode cX0_ways 114 = .ok (.iconst 1, 1) := dk_4 (dk_at dksX0_ways_4 18 rfl rfl)
theorem dX0_ways_115 : decode cX0_ways 115 = .ok (.iadd, 1) := dk_96 (dk_at dksX0_ways_4 19 rfl rfl)
theorem dX0_ways_116 : decode cX0_ways 116 = .ok (.iaload, 1) := dk_46 (dk_at dksX0_ways_4 20 rfl rfl)
theorem dX0_ways_117 : decode cX0_ways 117 = .ok (.iastore, 1) := dk_79 (dk_at dksX0_ways_4 21 rfl rfl)
theorem dX0_ways_118 : decode cX0_ways 118 = .ok (.aload_n 0, 1) := dk_42 (dk_at dksX0_ways_4 22 rfl rfl)
theorem dX0_ways_119 : decode cX0_ways 119 = .ok (.aload_n 0, 1) := dk_42 (dk_at dksX0_ways_4 23 rfl rfl)
theorem dX0_ways_120 : decode cX0_ways 120 = .ok (.getfield 80, 3) := dk_180 0 80 (dk_at dksX0_ways_5 0 rfl rfl)
theorem dX0_ways_123 : decode cX0_ways 123 = .ok (.iload 7, 2) := dk_21 7 (dk_at dksX0_ways_5 3 rfl rfl)
theorem dX0_ways_125 : decode cX0_ways 125 = .ok (.iconst 2, 1) := dk_5 (dk_at dksX0_ways_5 5 rfl rfl)
theorem dX0_ways_126 : decode cX0_ways 126 = .ok (.irem, 1) := dk_112 (dk_at dksX0_ways_5 6 rfl rfl)
theorem dX0_ways_127 : decode cX0_ways 127 = .ok (.iconst 1, 1) := dk_4 (dk_at dksX0_ways_5 7 rfl rfl)
theorem dX0_ways_128 : decode cX0_ways 128 = .ok (.if_icmp .ne 7, 3) := dk_160 0 7 (dk_at dksX0_ways_5 8 rfl rfl)
theorem dX0_ways_131 : decode cX0_ways 131 = .ok (.iconst 1, 1) := dk_4 (dk_at dksX0_ways_5 11 rfl rfl)
theorem dX0_ways_132 : decode cX0_ways 132 = .ok (.goto 4, 3) := dk_167 0 4 (dk_at dksX0_ways_5 12 rfl rfl)
theorem dX0_ways_135 : decode cX0_ways 135 = .ok (.iconst 0, 1) := dk_3 (dk_at dksX0_ways_5 15 rfl rfl)
theorem dX0_ways_136 : decode cX0_ways 136 = .ok (.aload 5, 2) := dk_25 5 (dk_at dksX0_ways_5 16 rfl rfl)
theorem dX0_ways_138 : decode cX0_ways 138 = .ok (.iload_n 1, 1) := dk_27 (dk_at dksX0_ways_5 18 rfl rfl)
theorem dX0_ways_139 : decode cX0_ways 139 = .ok (.iload_n 2, 1) := dk_28 (dk_at dksX0_ways_5 19 rfl rfl)
theorem dX0_ways_140 : decode cX0_ways 140 = .ok (.iload_n 3, 1) := dk_29 (dk_at dksX0_ways_5 20 rfl rfl)
theorem dX0_ways_141 : decode cX0_ways 141 = .ok (.sipush 400, 3) := dk_17 1 144 (dk_at dksX0_ways_5 21 rfl rfl)
theorem dX0_ways_144 : decode cX0_ways 144 = .ok (.invokevirtual 186, 3) := dk_182 0 186 (dk_at dksX0_ways_6 0 rfl rfl)
theorem dX0_ways_147 : decode cX0_ways 147 = .ok (.aload 4, 2) := dk_25 4 (dk_at dksX0_ways_6 3 rfl rfl)
theorem dX0_ways_149 : decode cX0_ways 149 = .ok (.iload 6, 2) := dk_21 6 (dk_at dksX0_ways_6 5 rfl rfl)
theorem dX0_ways_151 : decode cX0_ways 151 = .ok (.aload_n 0, 1) := dk_42 (dk_at dksX0_ways_6 7 rfl rfl)
theorem dX0_ways_152 : decode cX0_ways 152 = .ok (.getfield 80, 3) := dk_180 0 80 (dk_at dksX0_ways_6 8 rfl rfl)
theorem dX0_ways_155 : decode cX0_ways 155 = .ok (.invokestatic 287, 3) := dk_184 1 31 (dk_at dksX0_ways_6 11 rfl rfl)
theorem dX0_ways_158 : decode cX0_ways 158 = .ok (.istore 6, 2) := dk_54 6 (dk_at dksX0_ways_6 14 rfl rfl)
theorem dX0_ways_160 : decode cX0_ways 160 = .ok (.iinc 7 1, 3) := dk_132 7 1 (dk_at dksX0_ways_6 16 rfl rfl)
theorem dX0_ways_163 : decode cX0_ways 163 = .ok (.goto (-97), 3) := dk_167 255 159 (dk_at dksX0_ways_6 19 rfl rfl)
theorem dX0_ways_166 : decode cX0_ways 166 = .ok (.iload 6, 2) := dk_21 6 (dk_at dksX0_ways_6 22 rfl rfl)
theorem dX0_ways_168 : decode cX0_ways 168 = .ok (.ireturn, 1) := dk_172 (dk_at dksX0_ways_7 0 rfl rfl)
theorem okX0_ways_0 : XOkL xms rX0_ways bX0_ways_0 := xcP (xok_aload_n dX0_ways_0 rfl) rfl (xcP (xok_iload_n dX0_ways_1 rfl) rfl (xcC0 (xokc_list (List.forall_mem_cons.mpr ⟨xokc_V (r := (RX0, TX0, 10)) xm12 (List.mem_of_getElem? (i := 0) rfl) (by decide) rfl dX0_ways_2 q1541 q1543 qs42 q138 q1544 (by decide +kernel), fun _ h => nomatch h⟩)) rfl (xcP (xok_ifne dX0_ways_5 (by decide)) rfl (xcP (xok_iconst dX0_ways_8 rfl) rfl (xcR ⟨dX0_ways_9, rfl⟩)))))
theorem okX0_ways_10 : XOkL xms rX0_ways bX0_ways_10 := xcP (xok_sipush dX0_ways_10 rfl) rfl (xcP (xok_newarray (atype := .int) (by decide) rfl dX0_ways_13 q222) rfl (xcP (xok_astore dX0_ways_15) rfl (xcP (xok_new (r := (RX4, TX4, 4)) (List.mem_of_getElem? (i := 4) rfl) rfl (by decide) dX0_ways_17 q329 q330 q142) rfl (xcP (xok_dup dX0_ways_20) rfl (xcC0 (xokc_IN (host := "WaysAtlas") xm77 rfl rfl dX0_ways_21 (List.mem_of_getElem? (i := 15) rfl) q332 q142 q333 rfl (by decide +kernel)) rfl (xcP (xok_astore dX0_ways_24) rfl (xcP (xok_aload_n dX0_ways_26 rfl) rfl (xcP (xok_aload_n dX0_ways_27 rfl) rfl (xcP (xok_getfield (ref := "WaysAtlas") (Or.inr ⟨rfl, by decide⟩) dX0_ways_28 (Or.inl ⟨q653, (Or.inl rfl)⟩) xh1008) rfl (xcP (xok_iconst dX0_ways_31 rfl) rfl (xcP (xok_aload_n dX0_ways_32 rfl) rfl (xcP (xok_getfield (ref := "WaysAtlas") (Or.inr ⟨rfl, by decide⟩) dX0_ways_33 (Or.inl ⟨q650, (Or.inl rfl)⟩) xh1005) rfl (xcP (xok_iload_n dX0_ways_36 rfl) rfl (xcP (xok_iload_n dX0_ways_37 rfl) rfl (xcP (xok_iload_n dX0_ways_38 rfl) rfl (xcP (xok_sipush dX0_ways_39 rfl) rfl (xcC0 (xokc_list (List.forall_mem_cons.mpr ⟨xokc_V (r := (RX0, TX0, 10)) xm13 (List.mem_of_getElem? (i := 0) rfl) (by decide) rfl dX0_ways_42 q1545 q1547 qs43 q138 q1548 (by decide +kernel), fun _ h => nomatch h⟩)) rfl (xcP (xok_aload dX0_ways_45) rfl (xcP (xok_iconst dX0_ways_47 rfl) rfl (xcP (xok_aload_n dX0_ways_48 rfl) rfl (xcP (xok_getfield (ref := "WaysAtlas") (Or.inr ⟨rfl, by decide⟩) dX0_ways_49 (Or.inl ⟨q653, (Or.inl rfl)⟩) xh1008) rfl (xcC0 (xokc_S xm26 rfl dX0_ways_52 q1885 q1886 q138 q1887 (by decide +kernel)) rfl (xcP (xok_istore dX0_ways_55) rfl (xcP (xok_aload dX0_ways_57) rfl (xcP (xok_iconst dX0_ways_59 rfl) rfl (xcP (xok_putfield (ref := "WaysAtlas$Plan") (Or.inl ⟨rfl, by decide, rfl⟩) dX0_ways_60 (Or.inr ⟨⟨"WaysAtlas", (List.mem_of_getElem? (i := 96) rfl)⟩, (Or.inl rfl)⟩) (Or.inl rfl) xh16) rfl (xcP (xok_iconst dX0_ways_63 rfl) rfl (xcP (xok_istore dX0_ways_64) rfl (xcP xok_fal rfl trivial)))))))))))))))))))))))))))))
theorem okX0_ways_66 : XOkL xms rX0_ways bX0_ways_66 := xcP (xok_iload dX0_ways_66) rfl (xcP (xok_aload_n dX0_ways_68 rfl) rfl (xcP (xok_getfield (ref := "WaysAtlas") (Or.inr ⟨rfl, by decide⟩) dX0_ways_69 (Or.inl ⟨q653, (Or.inl rfl)⟩) xh1008) rfl (xcP (xok_getfield (ref := "WaysAtlas$Run") (Or.inl ⟨rfl, by decide⟩) dX0_ways_72 (Or.inr ⟨⟨"WaysAtlas", (List.mem_of_getElem? (i := 129) rfl)⟩, (Or.inl rfl)⟩) xh26) rfl (xcP (xok_icmpge dX0_ways_75 (by decide)) rfl (xcP (xok_aload dX0_ways_78) rfl (xcP (xok_getfield (ref := "WaysAtlas$Plan") (Or.inr ⟨rfl, by decide⟩) dX0_ways_80 (Or.inr ⟨⟨"WaysAtlas", (List.mem_of_getElem? (i := 102) rfl)⟩, (Or.inl rfl)⟩) xh1026) rfl (xcP (xok_iconst dX0_ways_83 rfl) rfl (xcP (xok_aload_n dX0_ways_84 rfl) rfl (xcP (xok_getfield (ref := "WaysAtlas") (Or.inr ⟨rfl, by decide⟩) dX0_ways_85 (Or.inl ⟨q653, (Or.inl rfl)⟩) xh1008) rfl (xcP (xok_getfield (ref := "WaysAtlas$Run") (Or.inr ⟨rfl, by decide⟩) dX0_ways_88 (Or.inr ⟨⟨"WaysAtlas", (List.mem_of_getElem? (i := 130) rfl)⟩, (Or.inl rfl)⟩) xh1043) rfl (xcP (xok_iconst dX0_ways_91 rfl) rfl (xcP (xok_iload dX0_ways_92) rfl (xcP (xok_imul dX0_ways_94) rfl (xcP (xok_iaload dX0_ways_95) rfl (xcP (xok_iastore dX0_ways_96) rfl (xcP (xok_aload dX0_ways_97) rfl (xcP (xok_getfield (ref := "WaysAtlas$Plan") (Or.inr ⟨rfl, by decide⟩) dX0_ways_99 (Or.inr ⟨⟨"WaysAtlas", (List.mem_of_getElem? (i := 103) rfl)⟩, (Or.inl rfl)⟩) xh1027) rfl (xcP (xok_iconst dX0_ways_102 rfl) rfl (xcP (xok_aload_n dX0_ways_103 rfl) rfl (xcP (xok_getfield (ref := "WaysAtlas") (Or.inr ⟨rfl, by decide⟩) dX0_ways_104 (Or.inl ⟨q653, (Or.inl rfl)⟩) xh1008) rfl (xcP (xok_getfield (ref := "WaysAtlas$Run") (Or.inr ⟨rfl, by decide⟩) dX0_ways_107 (Or.inr ⟨⟨"WaysAtlas", (List.mem_of_getElem? (i := 130) rfl)⟩, (Or.inl rfl)⟩) xh1043) rfl (xcP (xok_iconst dX0_ways_110 rfl) rfl (xcP (xok_iload dX0_ways_111) rfl (xcP (xok_imul dX0_ways_113) rfl (xcP (xok_iconst dX0_ways_114 rfl) rfl (xcP (xok_iadd dX0_ways_115) rfl (xcP (xok_iaload dX0_ways_116) rfl (xcP (xok_iastore dX0_ways_117) rfl (xcP (xok_aload_n dX0_ways_118 rfl) rfl (xcP (xok_aload_n dX0_ways_119 rfl) rfl (xcP (xok_getfield (ref := "WaysAtlas") (Or.inr ⟨rfl, by decide⟩) dX0_ways_120 (Or.inl ⟨q654, (Or.inl rfl)⟩) xh1009) rfl (xcP (xok_iload dX0_ways_123) rfl (xcP (xok_iconst dX0_ways_125 rfl) rfl (xcP (xok_irem dX0_ways_126) rfl (xcP (xok_iconst dX0_ways_127 rfl) rfl (xcP (xok_icmpne dX0_ways_128 (by decide)) rfl (xcP (xok_iconst dX0_ways_131 rfl) rfl (xcP (xok_goto dX0_ways_132 (by decide)) rfl trivial))))))))))))))))))))))))))))))))))))))
theorem okX0_ways_135 : XOkL xms rX0_ways bX0_ways_135 := xcP (xok_iconst dX0_ways_135 rfl) rfl (xcP xok_fal rfl trivial)
theorem okX0_ways_136 : XOkL xms rX0_ways bX0_ways_136 := xcP (xok_aload dX0_ways_136) rfl (xcP (xok_iload_n dX0_ways_138 rfl) rfl (xcP (xok_iload_n dX0_ways_139 rfl) rfl (xcP (xok_iload_n dX0_ways_140 rfl) rfl (xcP (xok_sipush dX0_ways_141 rfl) rfl (xcC0 (xokc_list (List.forall_mem_cons.mpr ⟨xokc_V (r := (RX0, TX0, 10)) xm13 (List.mem_of_getElem? (i := 0) rfl) (by decide) rfl dX0_ways_144 q1545 q1547 qs43 q138 q1548 (by decide +kernel), fun _ h => nomatch h⟩)) rfl (xcP (xok_aload dX0_ways_147) rfl (xcP (xok_iload dX0_ways_149) rfl (xcP (xok_aload_n dX0_ways_151 rfl) rfl (xcP (xok_getfield (ref := "WaysAtlas") (Or.inr ⟨rfl, by decide⟩) dX0_ways_152 (Or.inl ⟨q654, (Or.inl rfl)⟩) xh1009) rfl (xcC0 (xokc_S xm26 rfl dX0_ways_155 q1885 q1886 q138 q1887 (by decide +kernel)) rfl (xcP (xok_istore dX0_ways_158) rfl (xcP (xok_iinc dX0_ways_160 rfl) rfl (xcP (xok_goto dX0_ways_163 (by decide)) rfl trivial)))))))))))))
theorem okX0_ways_166 : XOkL xms rX0_ways bX0_ways_166 := xcP (xok_iload dX0_ways_166) rfl (xcR ⟨dX0_ways_168, rfl⟩)
theorem okM_X0_ways : XOkM xms rX0_ways := xokM0 (List.forall_mem_cons.mpr ⟨⟨rfl, okX0_ways_0⟩, List.forall_mem_cons.mpr ⟨⟨rfl, okX0_ways_10⟩, List.forall_mem_cons.mpr ⟨⟨rfl, okX0_ways_66⟩, List.forall_mem_cons.mpr ⟨⟨rfl, okX0_ways_135⟩, List.forall_mem_cons.mpr ⟨⟨rfl, okX0_ways_136⟩, List.forall_mem_cons.mpr ⟨⟨rfl, okX0_ways_166⟩, fun _ h => nomatch h⟩⟩⟩⟩⟩⟩) (xokH0 rfl (fun _ _ => rfl)) (by decide +kernel) (by decide)
