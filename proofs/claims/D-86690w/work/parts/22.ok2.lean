set_option maxRecDepth 100000
abbrev cX2_word : ByteArray := prog_21_method_8_code
def dkwX2_word_0 : List UInt8 := [42, 42, 27, 182, 0, 58, 182, 0, 62, 42, 89, 180, 0, 33, 4, 96, 181, 0, 33, 177]
abbrev dktX2_word_0 : List UInt8 := dkwX2_word_0 ++ []
theorem dksX2_word_0 : cX2_word.data.toList.drop 0 = dktX2_word_0 := by decide +kernel
theorem dX2_word_0 : decode cX2_word 0 = .ok (.aload_n 0, 1) := dk_42 (dk_at dksX2_word_0 0 rfl rfl)
theorem dX2_word_1 : decode cX2_word 1 = .ok (.aload_n 0, 1) := dk_42 (dk_at dksX2_word_0 1 rfl rfl)
theorem dX2_word_2 : decode cX2_word 2 = .ok (.iload_n 1, 1) := dk_27 (dk_at dksX2_word_0 2 rfl rfl)
theorem dX2_word_3 : decode cX2_word 3 = .ok (.invokevirtual 58, 3) := dk_182 0 58 (dk_at dksX2_word_0 3 rfl rfl)
theorem dX2_word_6 : decode cX2_word 6 = .ok (.invokevirtual 62, 3) := dk_182 0 62 (dk_at dksX2_word_0 6 rfl rfl)
theorem dX2_word_9 : decode cX2_word 9 = .ok (.aload_n 0, 1) := dk_42 (dk_at dksX2_word_0 9 rfl rfl)
theorem dX2_word_10 : decode cX2_word 10 = .ok (.dup, 1) := dk_89 (dk_at dksX2_word_0 10 rfl rfl)
theorem dX2_word_11 : decode cX2_word 11 = .ok (.getfield 33, 3) := dk_180 0 33 (dk_at dksX2_word_0 11 rfl rfl)
theorem dX2_word_14 : decode cX2_word 14 = .ok (.iconst 1, 1) := dk_4 (dk_at dksX2_word_0 14 rfl rfl)
theorem dX2_word_15 : decode cX2_word 15 = .ok (.iadd, 1) := dk_96 (dk_at dksX2_word_0 15 rfl rfl)
theorem dX2_word_16 : decode cX2_word 16 = .ok (.putfield 33, 3) := dk_181 0 33 (dk_at dksX2_word_0 16 rfl rfl)
theorem dX2_word_19 : decode cX2_word 19 = .ok (.return_, 1) := dk_177 (dk_at dksX2_word_0 19 rfl rfl)
theorem okX2_word_0 : XOkL xms rX2_word bX2_word_0 := xcP (xok_aload_n dX2_word_0 rfl) rfl (xcP (xok_aload_n dX2_word_1 rfl) rfl (xcP (xok_iload_n dX2_word_2 rfl) rfl (xcC0 (xokc_list (List.forall_mem_cons.mpr ⟨xokc_V (r := (RX2, TX2, 13)) xm41 (List.mem_of_getElem? (i := 2) rfl) (by decide) rfl dX2_word_3 q774 q776 qs7 q140 q777 (by decide +kernel), fun _ h => nomatch h⟩)) rfl (xcC0 (xokc_list (List.forall_mem_cons.mpr ⟨xokc_V (r := (RX2, TX2, 13)) xm46 (List.mem_of_getElem? (i := 2) rfl) (by decide) rfl dX2_word_6 q818 q820 qs12 q140 q821 (by decide +kernel), fun _ h => nomatch h⟩)) rfl (xcP (xok_aload_n dX2_word_9 rfl) rfl (xcP (xok_dup dX2_word_10) rfl (xcP (xok_getfield (ref := "WaysAtlas$Reader") (Or.inl ⟨rfl, by decide⟩) dX2_word_11 (Or.inl ⟨q233, (Or.inl rfl)⟩) xh5) rfl (xcP (xok_iconst dX2_word_14 rfl) rfl (xcP (xok_iadd dX2_word_15) rfl (xcP (xok_putfield (ref := "WaysAtlas$Reader") (Or.inl ⟨rfl, by decide, rfl⟩) dX2_word_16 (Or.inl ⟨q233, (Or.inl rfl)⟩) (Or.inl rfl) xh5) rfl (xcR ⟨dX2_word_19, rfl⟩)))))))))))
theorem okM_X2_word : XOkM xms rX2_word := xokM0 (List.forall_mem_cons.mpr ⟨⟨rfl, okX2_word_0⟩, fun _ h => nomatch h⟩) (xokH0 rfl (fun _ _ => rfl)) (by decide +kernel) (by decide)
abbrev cX2_need : ByteArray := prog_21_method_5_code
def dkwX2_need_0 : List UInt8 := [27, 154, 0, 16, 187, 0, 47, 89, 4, 42, 182, 0, 49, 183, 0, 52, 191, 177]
abbrev dktX2_need_0 : List UInt8 := dkwX2_need_0 ++ []
theorem dksX2_need_0 : cX2_need.data.toList.drop 0 = dktX2_need_0 := by decide +kernel
theorem dX2_need_0 : decode cX2_need 0 = .ok (.iload_n 1, 1) := dk_27 (dk_at dksX2_need_0 0 rfl rfl)
theorem dX2_need_1 : decode cX2_need 1 = .ok (.ifCond .ne 16, 3) := dk_154 0 16 (dk_at dksX2_need_0 1 rfl rfl)
theorem dX2_need_4 : decode cX2_need 4 = .ok (.new 47, 3) := dk_187 0 47 (dk_at dksX2_need_0 4 rfl rfl)
theorem dX2_need_7 : decode cX2_need 7 = .ok (.dup, 1) := dk_89 (dk_at dksX2_need_0 7 rfl rfl)
theorem dX2_need_8 : decode cX2_need 8 = .ok (.iconst 1, 1) := dk_4 (dk_at dksX2_need_0 8 rfl rfl)
theorem dX2_need_9 : decode cX2_need 9 = .ok (.aload_n 0, 1) := dk_42 (dk_at dksX2_need_0 9 rfl rfl)
theorem dX2_need_10 : decode cX2_need 10 = .ok (.invokevirtual 49, 3) := dk_182 0 49 (dk_at dksX2_need_0 10 rfl rfl)
theorem dX2_need_13 : decode cX2_need 13 = .ok (.invokespecial 52, 3) := dk_183 0 52 (dk_at dksX2_need_0 13 rfl rfl)
theorem dX2_need_16 : decode cX2_need 16 = .ok (.athrow, 1) := dk_191 (dk_at dksX2_need_0 16 rfl rfl)
theorem dX2_need_17 : decode cX2_need 17 = .ok (.return_, 1) := dk_177 (dk_at dksX2_need_0 17 rfl rfl)
theorem okX2_need_0 : XOkL xms rX2_need bX2_need_0 := xcP (xok_iload_n dX2_need_0 rfl) rfl (xcP (xok_ifne dX2_need_1 (by decide)) rfl (xcP (xok_new (r := (RX10, TX10, 8)) (List.mem_of_getElem? (i := 10) rfl) rfl (by decide) dX2_need_4 q786 q787 q154) rfl (xcP (xok_dup dX2_need_7) rfl (xcP (xok_iconst dX2_need_8 rfl) rfl (xcP (xok_aload_n dX2_need_9 rfl) rfl (xcC0 (xokc_list (List.forall_mem_cons.mpr ⟨xokc_V (r := (RX2, TX2, 13)) xm44 (List.mem_of_getElem? (i := 2) rfl) (by decide) rfl dX2_need_10 q795 q797 qs10 q140 q798 (by decide +kernel), fun _ h => nomatch h⟩)) rfl (xcC0 (xokc_I xm201 rfl rfl dX2_need_13 q799 q800 q154 q801 rfl (by decide +kernel)) rfl (xcT dX2_need_16))))))))
theorem okX2_need_17 : XOkL xms rX2_need bX2_need_17 := xcR ⟨dX2_need_17, rfl⟩
theorem okM_X2_need : XOkM xms rX2_need := xokM0 (List.forall_mem_cons.mpr ⟨⟨rfl, okX2_need_0⟩, List.forall_mem_cons.mpr ⟨⟨rfl, okX2_need_17⟩, fun _ h => nomatch h⟩⟩) (xokH0 rfl (fun _ _ => rfl)) (by decide +kernel) (by decide)
abbrev cX2_kindName : ByteArray := prog_21_method_12_code
def dkwX2_kindName_1 : List UInt8 := [167, 0, 4, 3, 27, 182, 0, 81, 28, 172]
abbrev dktX2_kindName_1 : List UInt8 := dkwX2_kindName_1 ++ []
def dkwX2_kindName_0 : List UInt8 := [42, 182, 0, 49, 60, 42, 6, 182, 0, 69, 61, 42, 28, 42, 180, 0, 73, 180, 0, 77, 161, 0, 7, 4]
abbrev dktX2_kindName_0 : List UInt8 := dkwX2_kindName_0 ++ dktX2_kindName_1
theorem dksX2_kindName_0 : cX2_kindName.data.toList.drop 0 = dktX2_kindName_0 := by decide +kernel
theorem dksX2_kindName_1 : cX2_kindName.data.toList.drop 24 = dktX2_kindName_1 := dk_seg dksX2_kindName_0 24 rfl rfl
theorem dX2_kindName_0 : decode cX2_kindName 0 = .ok (.aload_n 0, 1) := dk_42 (dk_at dksX2_kindName_0 0 rfl rfl)
theorem dX2_kindName_1 : decode cX2_kindName 1 = .ok (.invokevirtual 49, 3) := dk_182 0 49 (dk_at dksX2_kindName_0 1 rfl rfl)
theorem dX2_kindName_4 : decode cX2_kindName 4 = .ok (.istore_n 1, 1) := dk_60 (dk_at dksX2_kindName_0 4 rfl rfl)
theorem dX2_kindName_5 : decode cX2_kindName 5 = .ok (.aload_n 0, 1) := dk_42 (dk_at dksX2_kindName_0 5 rfl rfl)
theorem dX2_kindName_6 : decode cX2_kindName 6 = .ok (.iconst 3, 1) := dk_6 (dk_at dksX2_kindName_0 6 rfl rfl)
theorem dX2_kindName_7 : decode cX2_kindName 7 = .ok (.invokevirtual 69, 3) := dk_182 0 69 (dk_at dksX2_kindName_0 7 rfl rfl)
theorem dX2_kindName_10 : decode cX2_kindName 10 = .ok (.istore_n 2, 1) := dk_61 (dk_at dksX2_kindName_0 10 rfl rfl)
theorem dX2_kindName_11 : decode cX2_kindName 11 = .ok (.aload_n 0, 1) := dk_42 (dk_at dksX2_kindName_0 11 rfl rfl)
theorem dX2_kindName_12 : decode cX2_kindName 12 = .ok (.iload_n 2, 1) := dk_28 (dk_at dksX2_kindName_0 12 rfl rfl)
theorem dX2_kindName_13 : decode cX2_kindName 13 = .ok (.aload_n 0, 1) := dk_42 (dk_at dksX2_kindName_0 13 rfl rfl)
theorem dX2_kindName_14 : decode cX2_kindName 14 = .ok (.getfield 73, 3) := dk_180 0 73 (dk_at dksX2_kindName_0 14 rfl rfl)
theorem dX2_kindName_17 : decode cX2_kindName 17 = .ok (.getfield 77, 3) := dk_180 0 77 (dk_at dksX2_kindName_0 17 rfl rfl)
theorem dX2_kindName_20 : decode cX2_kindName 20 = .ok (.if_icmp .lt 7, 3) := dk_161 0 7 (dk_at dksX2_kindName_0 20 rfl rfl)
theorem dX2_kindName_23 : decode cX2_kindName 23 = .ok (.iconst 1, 1) := dk_4 (dk_at dksX2_kindName_0 23 rfl rfl)
theorem dX2_kindName_24 : decode cX2_kindName 24 = .ok (.goto 4, 3) := dk_167 0 4 (dk_at dksX2_kindName_1 0 rfl rfl)
theorem dX2_kindName_27 : decode cX2_kindName 27 = .ok (.iconst 0, 1) := dk_3 (dk_at dksX2_kindName_1 3 rfl rfl)
theorem dX2_kindName_28 : decode cX2_kindName 28 = .ok (.iload_n 1, 1) := dk_27 (dk_at dksX2_kindName_1 4 rfl rfl)
theorem dX2_kindName_29 : decode cX2_kindName 29 = .ok (.invokevirtual 81, 3) := dk_182 0 81 (dk_at dksX2_kindName_1 5 rfl rfl)
theorem dX2_kindName_32 : decode cX2_kindName 32 = .ok (.iload_n 2, 1) := dk_28 (dk_at dksX2_kindName_1 8 rfl rfl)
theorem dX2_kindName_33 : decode cX2_kindName 33 = .ok (.ireturn, 1) := dk_172 (dk_at dksX2_kindName_1 9 rfl rfl)
theorem okX2_kindName_0 : XOkL xms rX2_kindName bX2_kindName_0 := xcP (xok_aload_n dX2_kindName_0 rfl) rfl (xcC0 (xokc_list (List.forall_mem_cons.mpr ⟨xokc_V (r := (RX2, TX2, 13)) xm44 (List.mem_of_getElem? (i := 2) rfl) (by decide) rfl dX2_kindName_1 q795 q797 qs10 q140 q798 (by decide +kernel), fun _ h => nomatch h⟩)) rfl (xcP (xok_istore_n dX2_kindName_4 rfl) rfl (xcP (xok_aload_n dX2_kindName_5 rfl) rfl (xcP (xok_iconst dX2_kindName_6 rfl) rfl (xcC0 (xokc_list (List.forall_mem_cons.mpr ⟨xokc_V (r := (RX2, TX2, 13)) xm48 (List.mem_of_getElem? (i := 2) rfl) (by decide) rfl dX2_kindName_7 q826 q828 qs14 q140 q829 (by decide +kernel), fun _ h => nomatch h⟩)) rfl (xcP (xok_istore_n dX2_kindName_10 rfl) rfl (xcP (xok_aload_n dX2_kindName_11 rfl) rfl (xcP (xok_iload_n dX2_kindName_12 rfl) rfl (xcP (xok_aload_n dX2_kindName_13 rfl) rfl (xcP (xok_getfield (ref := "WaysAtlas$Reader") (Or.inr ⟨rfl, by decide⟩) dX2_kindName_14 (Or.inl ⟨q232, (Or.inl rfl)⟩) xh1015) rfl (xcP (xok_getfield (ref := "WaysAtlas$Program") (Or.inl ⟨rfl, by decide⟩) dX2_kindName_17 (Or.inr ⟨⟨"WaysAtlas", (List.mem_of_getElem? (i := 82) rfl)⟩, (Or.inl rfl)⟩) xh13) rfl (xcP (xok_icmplt dX2_kindName_20 (by decide)) rfl (xcP (xok_iconst dX2_kindName_23 rfl) rfl (xcP (xok_goto dX2_kindName_24 (by decide)) rfl trivial))))))))))))))
theorem okX2_kindName_27 : XOkL xms rX2_kindName bX2_kindName_27 := xcP (xok_iconst dX2_kindName_27 rfl) rfl (xcP xok_fal rfl trivial)
theorem okX2_kindName_28 : XOkL xms rX2_kindName bX2_kindName_28 := xcP (xok_iload_n dX2_kindName_28 rfl) rfl (xcC0 (xokc_list (List.forall_mem_cons.mpr ⟨xokc_V (r := (RX2, TX2, 13)) xm49 (List.mem_of_getElem? (i := 2) rfl) (by decide) rfl dX2_kindName_29 q830 q832 qs15 q140 q833 (by decide +kernel), fun _ h => nomatch h⟩)) rfl (xcP (xok_iload_n dX2_kindName_32 rfl) rfl (xcR ⟨dX2_kindName_33, rfl⟩)))
theorem okM_X2_kindName : XOkM xms rX2_kindName := xokM0 (List.forall_mem_cons.mpr ⟨⟨rfl, okX2_kindName_0⟩, List.forall_mem_cons.mpr ⟨⟨rfl, okX2_kindName_27⟩, List.forall_mem_cons.mpr ⟨⟨rfl, okX2_kindName_28⟩, fun _ h => nomatch h⟩⟩⟩) (xokH0 rfl (fun _ _ => rfl)) (by decide +kernel) (by decide)
abbrev cX2_take : ByteArray := prog_21_method_10_code
def dkwX2_take_1 : List UInt8 := [181, 0, 33, 42, 180, 0, 24, 180, 0, 44, 42, 180, 0, 33, 4, 100, 46, 172]
abbrev dktX2_take_1 : List UInt8 := dkwX2_take_1 ++ []
def dkwX2_take_0 : List UInt8 := [42, 42, 182, 0, 40, 27, 160, 0, 7, 4, 167, 0, 4, 3, 182, 0, 62, 42, 89, 180, 0, 33, 4, 96]
abbrev dktX2_take_0 : List UInt8 := dkwX2_take_0 ++ dktX2_take_1
theorem dksX2_take_0 : cX2_take.data.toList.drop 0 = dktX2_take_0 := by decide +kernel
theorem dksX2_take_1 : cX2_take.data.toList.drop 24 = dktX2_take_1 := dk_seg dksX2_take_0 24 rfl rfl
theorem dX2_take_0 : decode cX2_take 0 = .ok (.aload_n 0, 1) := dk_42 (dk_at dksX2_take_0 0 rfl rfl)
theorem dX2_take_1 : decode cX2_take 1 = .ok (.aload_n 0, 1) := dk_42 (dk_at dksX2_take_0 1 rfl rfl)
theorem dX2_take_2 : decode cX2_take 2 = .ok (.invokevirtual 40, 3) := dk_182 0 40 (dk_at dksX2_take_0 2 rfl rfl)
theorem dX2_take_5 : decode cX2_take 5 = .ok (.iload_n 1, 1) := dk_27 (dk_at dksX2_take_0 5 rfl rfl)
theorem dX2_take_6 : decode cX2_take 6 = .ok (.if_icmp .ne 7, 3) := dk_160 0 7 (dk_at dksX2_take_0 6 rfl rfl)
theorem dX2_take_9 : decode cX2_take 9 = .ok (.iconst 1, 1) := dk_4 (dk_at dksX2_take_0 9 rfl rfl)
theorem dX2_take_10 : decode cX2_take 10 = .ok (.goto 4, 3) := dk_167 0 4 (dk_at dksX2_take_0 10 rfl rfl)
theorem dX2_take_13 : decode cX2_take 13 = .ok (.iconst 0, 1) := dk_3 (dk_at dksX2_take_0 13 rfl rfl)
theorem dX2_take_14 : decode cX2_take 14 = .ok (.invokevirtual 62, 3) := dk_182 0 62 (dk_at dksX2_take_0 14 rfl rfl)
theorem dX2_take_17 : decode cX2_take 17 = .ok (.aload_n 0, 1) := dk_42 (dk_at dksX2_take_0 17 rfl rfl)
theorem dX2_take_18 : decode cX2_take 18 = .ok (.dup, 1) := dk_89 (dk_at dksX2_take_0 18 rfl rfl)
theorem dX2_take_19 : decode cX2_take 19 = .ok (.getfield 33, 3) := dk_180 0 33 (dk_at dksX2_take_0 19 rfl rfl)
theorem dX2_take_22 : decode cX2_take 22 = .ok (.iconst 1, 1) := dk_4 (dk_at dksX2_take_0 22 rfl rfl)
theorem dX2_take_23 : decode cX2_take 23 = .ok (.iadd, 1) := dk_96 (dk_at dksX2_take_0 23 rfl rfl)
theorem dX2_take_24 : decode cX2_take 24 = .ok (.putfield 33, 3) := dk_181 0 33 (dk_at dksX2_take_1 0 rfl rfl)
theorem dX2_take_27 : decode cX2_take 27 = .ok (.aload_n 0, 1) := dk_42 (dk_at dksX2_take_1 3 rfl rfl)
theorem dX2_take_28 : decode cX2_take 28 = .ok (.getfield 24, 3) := dk_180 0 24 (dk_at dksX2_take_1 4 rfl rfl)
theorem dX2_take_31 : decode cX2_take 31 = .ok (.getfield 44, 3) := dk_180 0 44 (dk_at dksX2_take_1 7 rfl rfl)
theorem dX2_take_34 : decode cX2_take 34 = .ok (.aload_n 0, 1) := dk_42 (dk_at dksX2_take_1 10 rfl rfl)
theorem dX2_take_35 : decode cX2_take 35 = .ok (.getfield 33, 3) := dk_180 0 33 (dk_at dksX2_take_1 11 rfl rfl)
theorem dX2_take_38 : decode cX2_take 38 = .ok (.iconst 1, 1) := dk_4 (dk_at dksX2_take_1 14 rfl rfl)
theorem dX2_take_39 : decode cX2_take 39 = .ok (.isub, 1) := dk_100 (dk_at dksX2_take_1 15 rfl rfl)
theorem dX2_take_40 : decode cX2_take 40 = .ok (.iaload, 1) := dk_46 (dk_at dksX2_take_1 16 rfl rfl)
theorem dX2_take_41 : decode cX2_take 41 = .ok (.ireturn, 1) := dk_172 (dk_at dksX2_take_1 17 rfl rfl)
theorem okX2_take_0 : XOkL xms rX2_take bX2_take_0 := xcP (xok_aload_n dX2_take_0 rfl) rfl (xcP (xok_aload_n dX2_take_1 rfl) rfl (xcC0 (xokc_list (List.forall_mem_cons.mpr ⟨xokc_V (r := (RX2, TX2, 13)) xm42 (List.mem_of_getElem? (i := 2) rfl) (by decide) rfl dX2_take_2 q778 q780 qs8 q140 q781 (by decide +kernel), fun _ h => nomatch h⟩)) rfl (xcP (xok_iload_n dX2_take_5 rfl) rfl (xcP (xok_icmpne dX2_take_6 (by decide)) rfl (xcP (xok_iconst dX2_take_9 rfl) rfl (xcP (xok_goto dX2_take_10 (by decide)) rfl trivial))))))
theorem okX2_take_13 : XOkL xms rX2_take bX2_take_13 := xcP (xok_iconst dX2_take_13 rfl) rfl (xcP xok_fal rfl trivial)
theorem okX2_take_14 : XOkL xms rX2_take bX2_take_14 := xcC0 (xokc_list (List.forall_mem_cons.mpr ⟨xokc_V (r := (RX2, TX2, 13)) xm46 (List.mem_of_getElem? (i := 2) rfl) (by decide) rfl dX2_take_14 q818 q820 qs12 q140 q821 (by decide +kernel), fun _ h => nomatch h⟩)) rfl (xcP (xok_aload_n dX2_take_17 rfl) rfl (xcP (xok_dup dX2_take_18) rfl (xcP (xok_getfield (ref := "WaysAtlas$Reader") (Or.inl ⟨rfl, by decide⟩) dX2_take_19 (Or.inl ⟨q233, (Or.inl rfl)⟩) xh5) rfl (xcP (xok_iconst dX2_take_22 rfl) rfl (xcP (xok_iadd dX2_take_23) rfl (xcP (xok_putfield (ref := "WaysAtlas$Reader") (Or.inl ⟨rfl, by decide, rfl⟩) dX2_take_24 (Or.inl ⟨q233, (Or.inl rfl)⟩) (Or.inl rfl) xh5) rfl (xcP (xok_aload_n dX2_take_27 rfl) rfl (xcP (xok_getfield (ref := "WaysAtlas$Reader") (Or.inr ⟨rfl, by decide⟩) dX2_take_28 (Or.inl ⟨q231, (Or.inl rfl)⟩) xh1014) rfl (xcP (xok_getfield (ref := "WaysAtlas$Scanner") (Or.inr ⟨rfl, by decide⟩) dX2_take_31 (Or.inr ⟨⟨"WaysAtlas", (List.mem_of_getElem? (i := 81) rfl)⟩, (Or.inl rfl)⟩) xh1013) rfl (xcP (xok_aload_n dX2_take_34 rfl) rfl (xcP (xok_getfield (ref := "WaysAtlas$Reader") (Or.inl ⟨rfl, by decide⟩) dX2_take_35 (Or.inl ⟨q233, (Or.inl rfl)⟩) xh5) rfl (xcP (xok_iconst dX2_take_38 rfl) rfl (xcP (xok_isub dX2_take_39) rfl (xcP (xok_iaload dX2_take_40) rfl (xcR ⟨dX2_take_41, rfl⟩)))))))))))))))
theorem okM_X2_take : XOkM xms rX2_take := xokM0 (List.forall_mem_cons.mpr ⟨⟨rfl, okX2_take_0⟩, List.forall_mem_cons.mpr ⟨⟨rfl, okX2_take_13⟩, List.forall_mem_cons.mpr ⟨⟨rfl, okX2_take_14⟩, fun _ h => nomatch h⟩⟩⟩) (xokH0 rfl (fun _ _ => rfl)) (by decide +kernel) (by decide)
abbrev cX2_lacks : ByteArray := prog_21_method_7_code
def dkwX2_lacks_1 : List UInt8 := [181, 0, 55, 177]
abbrev dktX2_lacks_1 : List UInt8 := dkwX2_lacks_1 ++ []
def dkwX2_lacks_0 : List UInt8 := [42, 27, 153, 0, 16, 42, 180, 0, 55, 16, 247, 160, 0, 7, 28, 167, 0, 7, 42, 180, 0, 55]
abbrev dktX2_lacks_0 : List UInt8 := dkwX2_lacks_0 ++ dktX2_lacks_1
theorem dksX2_lacks_0 : cX2_lacks.data.toList.drop 0 = dktX2_lacks_0 := by decide +kernel
theorem dksX2_lacks_1 : cX2_lacks.data.toList.drop 22 = dktX2_lacks_1 := dk_seg dksX2_lacks_0 22 rfl rfl
theorem dX2_lacks_0 : decode cX2_lacks 0 = .ok (.aload_n 0, 1) := dk_42 (dk_at dksX2_lacks_0 0 rfl rfl)
theorem dX2_lacks_1 : decode cX2_lacks 1 = .ok (.iload_n 1, 1) := dk_27 (dk_at dksX2_lacks_0 1 rfl rfl)
theorem dX2_lacks_2 : decode cX2_lacks 2 = .ok (.ifCond .eq 16, 3) := dk_153 0 16 (dk_at dksX2_lacks_0 2 rfl rfl)
theorem dX2_lacks_5 : decode cX2_lacks 5 = .ok (.aload_n 0, 1) := dk_42 (dk_at dksX2_lacks_0 5 rfl rfl)
theorem dX2_lacks_6 : decode cX2_lacks 6 = .ok (.getfield 55, 3) := dk_180 0 55 (dk_at dksX2_lacks_0 6 rfl rfl)
theorem dX2_lacks_9 : decode cX2_lacks 9 = .ok (.bipush (-9), 2) := dk_16 247 (dk_at dksX2_lacks_0 9 rfl rfl)
theorem dX2_lacks_11 : decode cX2_lacks 11 = .ok (.if_icmp .ne 7, 3) := dk_160 0 7 (dk_at dksX2_lacks_0 11 rfl rfl)
theorem dX2_lacks_14 : decode cX2_lacks 14 = .ok (.iload_n 2, 1) := dk_28 (dk_at dksX2_lacks_0 14 rfl rfl)
theorem dX2_lacks_15 : decode cX2_lacks 15 = .ok (.goto 7, 3) := dk_167 0 7 (dk_at dksX2_lacks_0 15 rfl rfl)
theorem dX2_lacks_18 : decode cX2_lacks 18 = .ok (.aload_n 0, 1) := dk_42 (dk_at dksX2_lacks_0 18 rfl rfl)
theorem dX2_lacks_19 : decode cX2_lacks 19 = .ok (.getfield 55, 3) := dk_180 0 55 (dk_at dksX2_lacks_0 19 rfl rfl)
theorem dX2_lacks_22 : decode cX2_lacks 22 = .ok (.putfield 55, 3) := dk_181 0 55 (dk_at dksX2_lacks_1 0 rfl rfl)
theorem dX2_lacks_25 : decode cX2_lacks 25 = .ok (.return_, 1) := dk_177 (dk_at dksX2_lacks_1 3 rfl rfl)
theorem okX2_lacks_0 : XOkL xms rX2_lacks bX2_lacks_0 := xcP (xok_aload_n dX2_lacks_0 rfl) rfl (xcP (xok_iload_n dX2_lacks_1 rfl) rfl (xcP (xok_ifeq dX2_lacks_2 (by decide)) rfl (xcP (xok_aload_n dX2_lacks_5 rfl) rfl (xcP (xok_getfield (ref := "WaysAtlas$Reader") (Or.inl ⟨rfl, by decide⟩) dX2_lacks_6 (Or.inl ⟨q238, (Or.inl rfl)⟩) xh9) rfl (xcP (xok_bipush dX2_lacks_9 rfl) rfl (xcP (xok_icmpne dX2_lacks_11 (by decide)) rfl (xcP (xok_iload_n dX2_lacks_14 rfl) rfl (xcP (xok_goto dX2_lacks_15 (by decide)) rfl trivial))))))))
theorem okX2_lacks_18 : XOkL xms rX2_lacks bX2_lacks_18 := xcP (xok_aload_n dX2_lacks_18 rfl) rfl (xcP (xok_getfield (ref := "WaysAtlas$Reader") (Or.inl ⟨rfl, by decide⟩) dX2_lacks_19 (Or.inl ⟨q238, (Or.inl rfl)⟩) xh9) rfl (xcP xok_fal rfl trivial))
theorem okX2_lacks_22 : XOkL xms rX2_lacks bX2_lacks_22 := xcP (xok_putfield (ref := "WaysAtlas$Reader") (Or.inl ⟨rfl, by decide, rfl⟩) dX2_lacks_22 (Or.inl ⟨q238, (Or.inl rfl)⟩) (Or.inl rfl) xh9) rfl (xcR ⟨dX2_lacks_25, rfl⟩)
theorem okM_X2_lacks : XOkM xms rX2_lacks := xokM0 (List.forall_mem_cons.mpr ⟨⟨rfl, okX2_lacks_0⟩, List.forall_mem_cons.mpr ⟨⟨rfl, okX2_lacks_18⟩, List.forall_mem_cons.mpr ⟨⟨rfl, okX2_lacks_22⟩, fun _ h => nomatch h⟩⟩⟩) (xokH0 rfl (fun _ _ => rfl)) (by decide +kernel) (by decide)
abbrev cX2_method : ByteArray := prog_21_method_14_code
def dkwX2_method_4 : List UInt8 := [182, 0, 135, 181, 0, 139, 42, 16, 125, 182, 0, 69, 87, 177]
abbrev dktX2_method_4 : List UInt8 := dkwX2_method_4 ++ []
def dkwX2_method_3 : List UInt8 := [43, 83, 42, 180, 0, 73, 89, 180, 0, 124, 4, 96, 181, 0, 124, 42, 16, 123, 182, 0, 69, 87, 43, 42]
abbrev dktX2_method_3 : List UInt8 := dkwX2_method_3 ++ dktX2_method_4
def dkwX2_method_2 : List UInt8 := [180, 0, 73, 180, 0, 124, 183, 0, 129, 76, 42, 180, 0, 73, 180, 0, 131, 42, 180, 0, 73, 180, 0, 124]
abbrev dktX2_method_2 : List UInt8 := dkwX2_method_2 ++ dktX2_method_3
def dkwX2_method_1 : List UInt8 := [167, 0, 4, 3, 182, 0, 66, 42, 89, 180, 0, 33, 4, 96, 181, 0, 33, 187, 0, 127, 89, 42]
abbrev dktX2_method_1 : List UInt8 := dkwX2_method_1 ++ dktX2_method_2
def dkwX2_method_0 : List UInt8 := [42, 42, 5, 182, 0, 58, 182, 0, 62, 42, 42, 180, 0, 73, 180, 0, 124, 16, 8, 162, 0, 7, 4]
abbrev dktX2_method_0 : List UInt8 := dkwX2_method_0 ++ dktX2_method_1
theorem dksX2_method_0 : cX2_method.data.toList.drop 0 = dktX2_method_0 := by decide +kernel
theorem dksX2_method_1 : cX2_method.data.toList.drop 23 = dktX2_method_1 := dk_seg dksX2_method_0 23 rfl rfl
theorem dksX2_method_2 : cX2_method.data.toList.drop 45 = dktX2_method_2 := dk_seg dksX2_method_1 22 rfl rfl
theorem dksX2_method_3 : cX2_method.data.toList.drop 69 = dktX2_method_3 := dk_seg dksX2_method_2 24 rfl rfl
theorem dksX2_method_4 : cX2_method.data.toList.drop 93 = dktX2_method_4 := dk_seg dksX2_method_3 24 rfl rfl
theorem dX2_method_0 : decode cX2_method 0 = .ok (.aload_n 0, 1) := dk_42 (dk_at dksX2_method_0 0 rfl rfl)
theorem dX2_method_1 : decode cX2_method 1 = .ok (.aload_n 0, 1) := dk_42 (dk_at dksX2_method_0 1 rfl rfl)
theorem dX2_method_2 : decode cX2_method 2 = .ok (.iconst 2, 1) := dk_5 (dk_at dksX2_method_0 2 rfl rfl)
theorem dX2_method_3 : decode cX2_method 3 = .ok (.invokevirtual 58, 3) := dk_182 0 58 (dk_at dksX2_method_0 3 rfl rfl)
theorem dX2_method_6 : decode cX2_method 6 = .ok (.invokevirtual 62, 3) := dk_182 0 62 (dk_at dksX2_method_0 6 rfl rfl)
theorem dX2_method_9 : decode cX2_method 9 = .ok (.aload_n 0, 1) := dk_42 (dk_at dksX2_method_0 9 rfl rfl)
theorem dX2_method_10 : decode cX2_method 10 = .ok (.aload_n 0, 1) := dk_42 (dk_at dksX2_method_0 10 rfl rfl)
theorem dX2_method_11 : decode cX2_method 11 = .ok (.getfield 73, 3) := dk_180 0 73 (dk_at dksX2_method_0 11 rfl rfl)
theorem dX2_method_14 : decode cX2_method 14 = .ok (.getfield 124, 3) := dk_180 0 124 (dk_at dksX2_method_0 14 rfl rfl)
theorem dX2_method_17 : decode cX2_method 17 = .ok (.bipush 8, 2) := dk_16 8 (dk_at dksX2_method_0 17 rfl rfl)
theorem dX2_method_19 : decode cX2_method 19 = .ok (.if_icmp .ge 7, 3) := dk_162 0 7 (dk_at dksX2_method_0 19 rfl rfl)
theorem dX2_method_22 : decode cX2_method 22 = .ok (.iconst 1, 1) := dk_4 (dk_at dksX2_method_0 22 rfl rfl)
theorem dX2_method_23 : decode cX2_method 23 = .ok (.goto 4, 3) := dk_167 0 4 (dk_at dksX2_method_1 0 rfl rfl)
theorem dX2_method_26 : decode cX2_method 26 = .ok (.iconst 0, 1) := dk_3 (dk_at dksX2_method_1 3 rfl rfl)
theorem dX2_method_27 : decode cX2_method 27 = .ok (.invokevirtual 66, 3) := dk_182 0 66 (dk_at dksX2_method_1 4 rfl rfl)
theorem dX2_method_30 : decode cX2_method 30 = .ok (.aload_n 0, 1) := dk_42 (dk_at dksX2_method_1 7 rfl rfl)
theorem dX2_method_31 : decode cX2_method 31 = .ok (.dup, 1) := dk_89 (dk_at dksX2_method_1 8 rfl rfl)
theorem dX2_method_32 : decode cX2_method 32 = .ok (.getfield 33, 3) := dk_180 0 33 (dk_at dksX2_method_1 9 rfl rfl)
theorem dX2_method_35 : decode cX2_method 35 = .ok (.iconst 1, 1) := dk_4 (dk_at dksX2_method_1 12 rfl rfl)
theorem dX2_method_36 : decode cX2_method 36 = .ok (.iadd, 1) := dk_96 (dk_at dksX2_method_1 13 rfl rfl)
theorem dX2_method_37 : decode cX2_method 37 = .ok (.putfield 33, 3) := dk_181 0 33 (dk_at dksX2_method_1 14 rfl rfl)
theorem dX2_method_40 : decode cX2_method 40 = .ok (.new 127, 3) := dk_187 0 127 (dk_at dksX2_method_1 17 rfl rfl)
theorem dX2_method_43 : decode cX2_method 43 = .ok (.dup, 1) := dk_89 (dk_at dksX2_method_1 20 rfl rfl)
theorem dX2_method_44 : decode cX2_method 44 = .ok (.aload_n 0, 1) := dk_42 (dk_at dksX2_method_1 21 rfl rfl)
theorem dX2_method_45 : decode cX2_method 45 = .ok (.getfield 73, 3) := dk_180 0 73 (dk_at dksX2_method_2 0 rfl rfl)
theorem dX2_method_48 : decode cX2_method 48 = .ok (.getfield 124, 3) := dk_180 0 124 (dk_at dksX2_method_2 3 rfl rfl)
theorem dX2_method_51 : decode cX2_method 51 = .ok (.invokespecial 129, 3) := dk_183 0 129 (dk_at dksX2_method_2 6 rfl rfl)
theorem dX2_method_54 : decode cX2_method 54 = .ok (.astore_n 1, 1) := dk_76 (dk_at dksX2_method_2 9 rfl rfl)
theorem dX2_method_55 : decode cX2_method 55 = .ok (.aload_n 0, 1) := dk_42 (dk_at dksX2_method_2 10 rfl rfl)
theorem dX2_method_56 : decode cX2_method 56 = .ok (.getfield 73, 3) := dk_180 0 73 (dk_at dksX2_method_2 11 rfl rfl)
theorem dX2_method_59 : decode cX2_method 59 = .ok (.getfield 131, 3) := dk_180 0 131 (dk_at dksX2_method_2 14 rfl rfl)
theorem dX2_method_62 : decode cX2_method 62 = .ok (.aload_n 0, 1) := dk_42 (dk_at dksX2_method_2 17 rfl rfl)
theorem dX2_method_63 : decode cX2_method 63 = .ok (.getfield 73, 3) := dk_180 0 73 (dk_at dksX2_method_2 18 rfl rfl)
theorem dX2_method_66 : decode cX2_method 66 = .ok (.getfield 124, 3) := dk_180 0 124 (dk_at dksX2_method_2 21 rfl rfl)
theorem dX2_method_69 : decode cX2_method 69 = .ok (.aload_n 1, 1) := dk_43 (dk_at dksX2_method_3 0 rfl rfl)
theorem dX2_method_70 : decode cX2_method 70 = .ok (.aastore, 1) := dk_83 (dk_at dksX2_method_3 1 rfl rfl)
theorem dX2_method_71 : decode cX2_method 71 = .ok (.aload_n 0, 1) := dk_42 (dk_at dksX2_method_3 2 rfl rfl)
theorem dX2_method_72 : decode cX2_method 72 = .ok (.getfield 73, 3) := dk_180 0 73 (dk_at dksX2_method_3 3 rfl rfl)
theorem dX2_method_75 : decode cX2_method 75 = .ok (.dup, 1) := dk_89 (dk_at dksX2_method_3 6 rfl rfl)
theorem dX2_method_76 : decode cX2_method 76 = .ok (.getfield 124, 3) := dk_180 0 124 (dk_at dksX2_method_3 7 rfl rfl)
theorem dX2_method_79 : decode cX2_method 79 = .ok (.iconst 1, 1) := dk_4 (dk_at dksX2_method_3 10 rfl rfl)
theorem dX2_method_80 : decode cX2_method 80 = .ok (.iadd, 1) := dk_96 (dk_at dksX2_method_3 11 rfl rfl)
theorem dX2_method_81 : decode cX2_method 81 = .ok (.putfield 124, 3) := dk_181 0 124 (dk_at dksX2_method_3 12 rfl rfl)
theorem dX2_method_84 : decode cX2_method 84 = .ok (.aload_n 0, 1) := dk_42 (dk_at dksX2_method_3 15 rfl rfl)
theorem dX2_method_85 : decode cX2_method 85 = .ok (.bipush 123, 2) := dk_16 123 (dk_at dksX2_method_3 16 rfl rfl)
theorem dX2_method_87 : decode cX2_method 87 = .ok (.invokevirtual 69, 3) := dk_182 0 69 (dk_at dksX2_method_3 18 rfl rfl)
theorem dX2_method_90 : decode cX2_method 90 = .ok (.pop, 1) := dk_87 (dk_at dksX2_method_3 21 rfl rfl)
theorem dX2_method_91 : decode cX2_method 91 = .ok (.aload_n 1, 1) := dk_43 (dk_at dksX2_method_3 22 rfl rfl)
theorem dX2_method_92 : decode cX2_method 92 = .ok (.aload_n 0, 1) := dk_42 (dk_at dksX2_method_3 23 rfl rfl)
theorem dX2_method_93 : decode cX2_method 93 = .ok (.invokevirtual 135, 3) := dk_182 0 135 (dk_at dksX2_method_4 0 rfl rfl)
theorem dX2_method_96 : decode cX2_method 96 = .ok (.putfield 139, 3) := dk_181 0 139 (dk_at dksX2_method_4 3 rfl rfl)
theorem dX2_method_99 : decode cX2_method 99 = .ok (.aload_n 0, 1) := dk_42 (dk_at dksX2_method_4 6 rfl rfl)
theorem dX2_method_100 : decode cX2_method 100 = .ok (.bipush 125, 2) := dk_16 125 (dk_at dksX2_method_4 7 rfl rfl)
theorem dX2_method_102 : decode cX2_method 102 = .ok (.invokevirtual 69, 3) := dk_182 0 69 (dk_at dksX2_method_4 9 rfl rfl)
theorem dX2_method_105 : decode cX2_method 105 = .ok (.pop, 1) := dk_87 (dk_at dksX2_method_4 12 rfl rfl)
theorem dX2_method_106 : decode cX2_method 106 = .ok (.return_, 1) := dk_177 (dk_at dksX2_method_4 13 rfl rfl)
theorem okX2_method_0 : XOkL xms rX2_method bX2_method_0 := xcP (xok_aload_n dX2_method_0 rfl) rfl (xcP (xok_aload_n dX2_method_1 rfl) rfl (xcP (xok_iconst dX2_method_2 rfl) rfl (xcC0 (xokc_list (List.forall_mem_cons.mpr ⟨xokc_V (r := (RX2, TX2, 13)) xm41 (List.mem_of_getElem? (i := 2) rfl) (by decide) rfl dX2_method_3 q774 q776 qs7 q140 q777 (by decide +kernel), fun _ h => nomatch h⟩)) rfl (xcC0 (xokc_list (List.forall_mem_cons.mpr ⟨xokc_V (r := (RX2, TX2, 13)) xm46 (List.mem_of_getElem? (i := 2) rfl) (by decide) rfl dX2_method_6 q818 q820 qs12 q140 q821 (by decide +kernel), fun _ h => nomatch h⟩)) rfl (xcP (xok_aload_n dX2_method_9 rfl) rfl (xcP (xok_aload_n dX2_method_10 rfl) rfl (xcP (xok_getfield (ref := "WaysAtlas$Reader") (Or.inr ⟨rfl, by decide⟩) dX2_method_11 (Or.inl ⟨q232, (Or.inl rfl)⟩) xh1015) rfl (xcP (xok_getfield (ref := "WaysAtlas$Program") (Or.inl ⟨rfl, by decide⟩) dX2_method_14 (Or.inr ⟨⟨"WaysAtlas", (List.mem_of_getElem? (i := 64) rfl)⟩, (Or.inl rfl)⟩) xh12) rfl (xcP (xok_bipush dX2_method_17 rfl) rfl (xcP (xok_icmpge dX2_method_19 (by decide)) rfl (xcP (xok_iconst dX2_method_22 rfl) rfl (xcP (xok_goto dX2_method_23 (by decide)) rfl trivial))))))))))))
theorem okX2_method_26 : XOkL xms rX2_method bX2_method_26 := xcP (xok_iconst dX2_method_26 rfl) rfl (xcP xok_fal rfl trivial)
theorem okX2_method_27 : XOkL xms rX2_method bX2_method_27 := xcC0 (xokc_list (List.forall_mem_cons.mpr ⟨xokc_V (r := (RX2, TX2, 13)) xm43 (List.mem_of_getElem? (i := 2) rfl) (by decide) rfl dX2_method_27 q782 q784 qs9 q140 q785 (by decide +kernel), fun _ h => nomatch h⟩)) rfl (xcP (xok_aload_n dX2_method_30 rfl) rfl (xcP (xok_dup dX2_method_31) rfl (xcP (xok_getfield (ref := "WaysAtlas$Reader") (Or.inl ⟨rfl, by decide⟩) dX2_method_32 (Or.inl ⟨q233, (Or.inl rfl)⟩) xh5) rfl (xcP (xok_iconst dX2_method_35 rfl) rfl (xcP (xok_iadd dX2_method_36) rfl (xcP (xok_putfield (ref := "WaysAtlas$Reader") (Or.inl ⟨rfl, by decide, rfl⟩) dX2_method_37 (Or.inl ⟨q233, (Or.inl rfl)⟩) (Or.inl rfl) xh5) rfl (xcP (xok_new (r := (RX11, TX11, 3)) (List.mem_of_getElem? (i := 11) rfl) rfl (by decide) dX2_method_40 q841 q842 q156) rfl (xcP (xok_dup dX2_method_43) rfl (xcP (xok_aload_n dX2_method_44 rfl) rfl (xcP (xok_getfield (ref := "WaysAtlas$Reader") (Or.inr ⟨rfl, by decide⟩) dX2_method_45 (Or.inl ⟨q232, (Or.inl rfl)⟩) xh1015) rfl (xcP (xok_getfield (ref := "WaysAtlas$Program") (Or.inl ⟨rfl, by decide⟩) dX2_method_48 (Or.inr ⟨⟨"WaysAtlas", (List.mem_of_getElem? (i := 64) rfl)⟩, (Or.inl rfl)⟩) xh12) rfl (xcC0 (xokc_I xm202 rfl rfl dX2_method_51 q843 q844 q156 q845 rfl (by decide +kernel)) rfl (xcP (xok_astore_n dX2_method_54 rfl) rfl (xcP (xok_aload_n dX2_method_55 rfl) rfl (xcP (xok_getfield (ref := "WaysAtlas$Reader") (Or.inr ⟨rfl, by decide⟩) dX2_method_56 (Or.inl ⟨q232, (Or.inl rfl)⟩) xh1015) rfl (xcP (xok_getfield (ref := "WaysAtlas$Program") (Or.inr ⟨rfl, by decide⟩) dX2_method_59 (Or.inr ⟨⟨"WaysAtlas", (List.mem_of_getElem? (i := 65) rfl)⟩, (Or.inl rfl)⟩) xh1020) rfl (xcP (xok_aload_n dX2_method_62 rfl) rfl (xcP (xok_getfield (ref := "WaysAtlas$Reader") (Or.inr ⟨rfl, by decide⟩) dX2_method_63 (Or.inl ⟨q232, (Or.inl rfl)⟩) xh1015) rfl (xcP (xok_getfield (ref := "WaysAtlas$Program") (Or.inl ⟨rfl, by decide⟩) dX2_method_66 (Or.inr ⟨⟨"WaysAtlas", (List.mem_of_getElem? (i := 64) rfl)⟩, (Or.inl rfl)⟩) xh12) rfl (xcP (xok_aload_n dX2_method_69 rfl) rfl (xcP (xok_aastore (E := "WaysAtlas$Method") (by decide) (by decide) rfl xfit_6 dX2_method_70) rfl (xcP (xok_aload_n dX2_method_71 rfl) rfl (xcP (xok_getfield (ref := "WaysAtlas$Reader") (Or.inr ⟨rfl, by decide⟩) dX2_method_72 (Or.inl ⟨q232, (Or.inl rfl)⟩) xh1015) rfl (xcP (xok_dup dX2_method_75) rfl (xcP (xok_getfield (ref := "WaysAtlas$Program") (Or.inl ⟨rfl, by decide⟩) dX2_method_76 (Or.inr ⟨⟨"WaysAtlas", (List.mem_of_getElem? (i := 64) rfl)⟩, (Or.inl rfl)⟩) xh12) rfl (xcP (xok_iconst dX2_method_79 rfl) rfl (xcP (xok_iadd dX2_method_80) rfl (xcP (xok_putfield (ref := "WaysAtlas$Program") (Or.inl ⟨rfl, by decide, rfl⟩) dX2_method_81 (Or.inr ⟨⟨"WaysAtlas", (List.mem_of_getElem? (i := 64) rfl)⟩, (Or.inl rfl)⟩) (Or.inl rfl) xh12) rfl (xcP (xok_aload_n dX2_method_84 rfl) rfl (xcP (xok_bipush dX2_method_85 rfl) rfl (xcC0 (xokc_list (List.forall_mem_cons.mpr ⟨xokc_V (r := (RX2, TX2, 13)) xm48 (List.mem_of_getElem? (i := 2) rfl) (by decide) rfl dX2_method_87 q826 q828 qs14 q140 q829 (by decide +kernel), fun _ h => nomatch h⟩)) rfl (xcP (xok_pop dX2_method_90) rfl (xcP (xok_aload_n dX2_method_91 rfl) rfl (xcP (xok_aload_n dX2_method_92 rfl) rfl (xcC0 (xokc_list (List.forall_mem_cons.mpr ⟨xokc_V (r := (RX2, TX2, 13)) xm51 (List.mem_of_getElem? (i := 2) rfl) (by decide) rfl dX2_method_93 q861 q863 qs17 q140 q864 (by decide +kernel), fun _ h => nomatch h⟩)) rfl (xcP (xok_putfield (ref := "WaysAtlas$Method") (Or.inr (Or.inr ⟨rfl, by decide, rfl⟩)) dX2_method_96 (Or.inr ⟨⟨"WaysAtlas", (List.mem_of_getElem? (i := 66) rfl)⟩, (Or.inl rfl)⟩) (Or.inl rfl) xh1117) rfl (xcP (xok_aload_n dX2_method_99 rfl) rfl (xcP (xok_bipush dX2_method_100 rfl) rfl (xcC0 (xokc_list (List.forall_mem_cons.mpr ⟨xokc_V (r := (RX2, TX2, 13)) xm48 (List.mem_of_getElem? (i := 2) rfl) (by decide) rfl dX2_method_102 q826 q828 qs14 q140 q829 (by decide +kernel), fun _ h => nomatch h⟩)) rfl (xcP (xok_pop dX2_method_105) rfl (xcR ⟨dX2_method_106, rfl⟩)))))))))))))))))))))))))))))))))))))))))
theorem okM_X2_method : XOkM xms rX2_method := xokM0 (List.forall_mem_cons.mpr ⟨⟨rfl, okX2_method_0⟩, List.forall_mem_cons.mpr ⟨⟨rfl, okX2_method_26⟩, List.forall_mem_cons.mpr ⟨⟨rfl, okX2_method_27⟩, fun _ h => nomatch h⟩⟩⟩) (xokH0 rfl (fun _ _ => rfl)) (by decide +kernel) (by decide)
abbrev cX2_statements : ByteArray := prog_21_method_15_code
def dkwX2_statements_2 : List UInt8 := [42, 180, 0, 11, 27, 44, 3, 44, 190, 184, 0, 150, 42, 27, 181, 0, 99, 44, 176]
abbrev dktX2_statements_2 : List UInt8 := dkwX2_statements_2 ++ []
def dkwX2_statements_1 : List UInt8 := [83, 42, 89, 180, 0, 99, 4, 96, 181, 0, 99, 167, 255, 226, 42, 180, 0, 99, 27, 100, 189, 0, 9, 77]
abbrev dktX2_statements_1 : List UInt8 := dkwX2_statements_1 ++ dktX2_statements_2
def dkwX2_statements_0 : List UInt8 := [42, 180, 0, 99, 60, 42, 182, 0, 142, 153, 0, 29, 42, 180, 0, 11, 42, 180, 0, 99, 42, 182, 0, 146]
abbrev dktX2_statements_0 : List UInt8 := dkwX2_statements_0 ++ dktX2_statements_1
theorem dksX2_statements_0 : cX2_statements.data.toList.drop 0 = dktX2_statements_0 := by decide +kernel
theorem dksX2_statements_1 : cX2_statements.data.toList.drop 24 = dktX2_statements_1 := dk_seg dksX2_statements_0 24 rfl rfl
theorem dksX2_statements_2 : cX2_statements.data.toList.drop 48 = dktX2_statements_2 := dk_seg dksX2_statements_1 24 rfl rfl
theorem dX2_statements_0 : decode cX2_statements 0 = .ok (.aload_n 0, 1) := dk_42 (dk_at dksX2_statements_0 0 rfl rfl)
theorem dX2_statements_1 : decode cX2_statements 1 = .ok (.getfield 99, 3) := dk_180 0 99 (dk_at dksX2_statements_0 1 rfl rfl)
theorem dX2_statements_4 : decode cX2_statements 4 = .ok (.istore_n 1, 1) := dk_60 (dk_at dksX2_statements_0 4 rfl rfl)
theorem dX2_statements_5 : decode cX2_statements 5 = .ok (.aload_n 0, 1) := dk_42 (dk_at dksX2_statements_0 5 rfl rfl)
theorem dX2_statements_6 : decode cX2_statements 6 = .ok (.invokevirtual 142, 3) := dk_182 0 142 (dk_at dksX2_statements_0 6 rfl rfl)
theorem dX2_statements_9 : decode cX2_statements 9 = .ok (.ifCond .eq 29, 3) := dk_153 0 29 (dk_at dksX2_statements_0 9 rfl rfl)
theorem dX2_statements_12 : decode cX2_statements 12 = .ok (.aload_n 0, 1) := dk_42 (dk_at dksX2_statements_0 12 rfl rfl)
theorem dX2_statements_13 : decode cX2_statements 13 = .ok (.getfield 11, 3) := dk_180 0 11 (dk_at dksX2_statements_0 13 rfl rfl)
theorem dX2_statements_16 : decode cX2_statements 16 = .ok (.aload_n 0, 1) := dk_42 (dk_at dksX2_statements_0 16 rfl rfl)
theorem dX2_statements_17 : decode cX2_statements 17 = .ok (.getfield 99, 3) := dk_180 0 99 (dk_at dksX2_statements_0 17 rfl rfl)
theorem dX2_statements_20 : decode cX2_statements 20 = .ok (.aload_n 0, 1) := dk_42 (dk_at dksX2_statements_0 20 rfl rfl)
theorem dX2_statements_21 : decode cX2_statements 21 = .ok (.invokevirtual 146, 3) := dk_182 0 146 (dk_at dksX2_statements_0 21 rfl rfl)
theorem dX2_statements_24 : decode cX2_statements 24 = .ok (.aastore, 1) := dk_83 (dk_at dksX2_statements_1 0 rfl rfl)
theorem dX2_statements_25 : decode cX2_statements 25 = .ok (.aload_n 0, 1) := dk_42 (dk_at dksX2_statements_1 1 rfl rfl)
theorem dX2_statements_26 : decode cX2_statements 26 = .ok (.dup, 1) := dk_89 (dk_at dksX2_statements_1 2 rfl rfl)
theorem dX2_statements_27 : decode cX2_statements 27 = .ok (.getfield 99, 3) := dk_180 0 99 (dk_at dksX2_statements_1 3 rfl rfl)
theorem dX2_statements_30 : decode cX2_statements 30 = .ok (.iconst 1, 1) := dk_4 (dk_at dksX2_statements_1 6 rfl rfl)
theorem dX2_statements_31 : decode cX2_statements 31 = .ok (.iadd, 1) := dk_96 (dk_at dksX2_statements_1 7 rfl rfl)
theorem dX2_statements_32 : decode cX2_statements 32 = .ok (.putfield 99, 3) := dk_181 0 99 (dk_at dksX2_statements_1 8 rfl rfl)
theorem dX2_statements_35 : decode cX2_statements 35 = .ok (.goto (-30), 3) := dk_167 255 226 (dk_at dksX2_statements_1 11 rfl rfl)
theorem dX2_statements_38 : decode cX2_statements 38 = .ok (.aload_n 0, 1) := dk_42 (dk_at dksX2_statements_1 14 rfl rfl)
theorem dX2_statements_39 : decode cX2_statements 39 = .ok (.getfield 99, 3) := dk_180 0 99 (dk_at dksX2_statements_1 15 rfl rfl)
theorem dX2_statements_42 : decode cX2_statements 42 = .ok (.iload_n 1, 1) := dk_27 (dk_at dksX2_statements_1 18 rfl rfl)
theorem dX2_statements_43 : decode cX2_statements 43 = .ok (.isub, 1) := dk_100 (dk_at dksX2_statements_1 19 rfl rfl)
theorem dX2_statements_44 : decode cX2_statements 44 = .ok (.anewarray 9, 3) := dk_189 0 9 (dk_at dksX2_statements_1 20 rfl rfl)
theorem dX2_statements_47 : decode cX2_statements 47 = .ok (.astore_n 2, 1) := dk_77 (dk_at dksX2_statements_1 23 rfl rfl)
theorem dX2_statements_48 : decode cX2_statements 48 = .ok (.aload_n 0, 1) := dk_42 (dk_at dksX2_statements_2 0 rfl rfl)
theorem dX2_statements_49 : decode cX2_statements 49 = .ok (.getfield 11, 3) := dk_180 0 11 (dk_at dksX2_statements_2 1 rfl rfl)
theorem dX2_statements_52 : decode cX2_statements 52 = .ok (.iload_n 1, 1) := dk_27 (dk_at dksX2_statements_2 4 rfl rfl)
theorem dX2_statements_53 : decode cX2_statements 53 = .ok (.aload_n 2, 1) := dk_44 (dk_at dksX2_statements_2 5 rfl rfl)
theorem dX2_statements_54 : decode cX2_statements 54 = .ok (.iconst 0, 1) := dk_3 (dk_at dksX2_statements_2 6 rfl rfl)
theorem dX2_statements_55 : decode cX2_statements 55 = .ok (.aload_n 2, 1) := dk_44 (dk_at dksX2_statements_2 7 rfl rfl)
theorem dX2_statements_56 : decode cX2_statements 56 = .ok (.arraylength, 1) := dk_190 (dk_at dksX2_statements_2 8 rfl rfl)
theorem dX2_statements_57 : decode cX2_statements 57 = .ok (.invokestatic 150, 3) := dk_184 0 150 (dk_at dksX2_statements_2 9 rfl rfl)
theorem dX2_statements_60 : decode cX2_statements 60 = .ok (.aload_n 0, 1) := dk_42 (dk_at dksX2_statements_2 12 rfl rfl)
theorem dX2_statements_61 : decode cX2_statements 61 = .ok (.iload_n 1, 1) := dk_27 (dk_at dksX2_statements_2 13 rfl rfl)
theorem dX2_statements_62 : decode cX2_statements 62 = .ok (.putfield 99, 3) := dk_181 0 99 (dk_at dksX2_statements_2 14 rfl rfl)
theorem dX2_statements_65 : decode cX2_statements 65 = .ok (.aload_n 2, 1) := dk_44 (dk_at dksX2_statements_2 17 rfl rfl)
theorem dX2_statements_66 : decode cX2_statements 66 = .ok (.areturn, 1) := dk_176 (dk_at dksX2_statements_2 18 rfl rfl)
theorem okX2_statements_0 : XOkL xms rX2_statements bX2_statements_0 := xcP (xok_aload_n dX2_statements_0 rfl) rfl (xcP (xok_getfield (ref := "WaysAtlas$Reader") (Or.inl ⟨rfl, by decide⟩) dX2_statements_1 (Or.inl ⟨q240, (Or.inl rfl)⟩) xh10) rfl (xcP (xok_istore_n dX2_statements_4 rfl) rfl (xcP xok_fal rfl trivial)))
theorem okX2_statements_5 : XOkL xms rX2_statements bX2_statements_5 := xcP (xok_aload_n dX2_statements_5 rfl) rfl (xcC0 (xokc_list (List.forall_mem_cons.mpr ⟨xokc_V (r := (RX2, TX2, 13)) xm52 (List.mem_of_getElem? (i := 2) rfl) (by decide) rfl dX2_statements_6 q865 q867 qs18 q140 q868 (by decide +kernel), fun _ h => nomatch h⟩)) rfl (xcP (xok_ifeq dX2_statements_9 (by decide)) rfl (xcP (xok_aload_n dX2_statements_12 rfl) rfl (xcP (xok_getfield (ref := "WaysAtlas$Reader") (Or.inr ⟨rfl, by decide⟩) dX2_statements_13 (Or.inl ⟨q239, (Or.inl rfl)⟩) xh1017) rfl (xcP (xok_aload_n dX2_statements_16 rfl) rfl (xcP (xok_getfield (ref := "WaysAtlas$Reader") (Or.inl ⟨rfl, by decide⟩) dX2_statements_17 (Or.inl ⟨q240, (Or.inl rfl)⟩) xh10) rfl (xcP (xok_aload_n dX2_statements_20 rfl) rfl (xcC0 (xokc_list (List.forall_mem_cons.mpr ⟨xokc_V (r := (RX2, TX2, 13)) xm53 (List.mem_of_getElem? (i := 2) rfl) (by decide) rfl dX2_statements_21 q870 q872 qs19 q140 q873 (by decide +kernel), fun _ h => nomatch h⟩)) rfl (xcP (xok_aastore (E := "WaysAtlas$Statement") (by decide) (by decide) rfl xfit_4 dX2_statements_24) rfl (xcP (xok_aload_n dX2_statements_25 rfl) rfl (xcP (xok_dup dX2_statements_26) rfl (xcP (xok_getfield (ref := "WaysAtlas$Reader") (Or.inl ⟨rfl, by decide⟩) dX2_statements_27 (Or.inl ⟨q240, (Or.inl rfl)⟩) xh10) rfl (xcP (xok_iconst dX2_statements_30 rfl) rfl (xcP (xok_iadd dX2_statements_31) rfl (xcP (xok_putfield (ref := "WaysAtlas$Reader") (Or.inl ⟨rfl, by decide, rfl⟩) dX2_statements_32 (Or.inl ⟨q240, (Or.inl rfl)⟩) (Or.inl rfl) xh10) rfl (xcP (xok_goto dX2_statements_35 (by decide)) rfl trivial))))))))))))))))
theorem okX2_statements_38 : XOkL xms rX2_statements bX2_statements_38 := xcP (xok_aload_n dX2_statements_38 rfl) rfl (xcP (xok_getfield (ref := "WaysAtlas$Reader") (Or.inl ⟨rfl, by decide⟩) dX2_statements_39 (Or.inl ⟨q240, (Or.inl rfl)⟩) xh10) rfl (xcP (xok_iload_n dX2_statements_42 rfl) rfl (xcP (xok_isub dX2_statements_43) rfl (xcP (xok_anewarray (by decide) (by decide) rfl dX2_statements_44 q229 (List.mem_of_getElem? (i := 4) rfl)) rfl (xcP (xok_astore_n dX2_statements_47 rfl) rfl (xcP (xok_aload_n dX2_statements_48 rfl) rfl (xcP (xok_getfield (ref := "WaysAtlas$Reader") (Or.inr ⟨rfl, by decide⟩) dX2_statements_49 (Or.inl ⟨q239, (Or.inl rfl)⟩) xh1017) rfl (xcP (xok_iload_n dX2_statements_52 rfl) rfl (xcP (xok_aload_n dX2_statements_53 rfl) rfl (xcP (xok_iconst dX2_statements_54 rfl) rfl (xcP (xok_aload_n dX2_statements_55 rfl) rfl (xcP (xok_len dX2_statements_56) rfl (xcP (xok_cpq rfl xfit_4 dX2_statements_57 q1232) rfl (xcP (xok_aload_n dX2_statements_60 rfl) rfl (xcP (xok_iload_n dX2_statements_61 rfl) rfl (xcP (xok_putfield (ref := "WaysAtlas$Reader") (Or.inl ⟨rfl, by decide, rfl⟩) dX2_statements_62 (Or.inl ⟨q240, (Or.inl rfl)⟩) (Or.inl rfl) xh10) rfl (xcP (xok_aload_n dX2_statements_65 rfl) rfl (xcR ⟨dX2_statements_66, _, rfl, Or.inr ⟨_, rfl⟩⟩))))))))))))))))))
theorem okM_X2_statements : XOkM xms rX2_statements := xokM0 (List.forall_mem_cons.mpr ⟨⟨rfl, okX2_statements_0⟩, List.forall_mem_cons.mpr ⟨⟨rfl, okX2_statements_5⟩, List.forall_mem_cons.mpr ⟨⟨rfl, okX2_statements_38⟩, fun _ h => nomatch h⟩⟩⟩) (xokH0 rfl (fun _ _ => rfl)) (by decide +kernel) (by decide)
abbrev cX2_begins : ByteArray := prog_21_method_16_code
def dkwX2_begins_3 : List UInt8 := [153, 0, 7, 4, 167, 0, 4, 3, 172]
abbrev dktX2_begins_3 : List UInt8 := dkwX2_begins_3 ++ []
def dkwX2_begins_2 : List UInt8 := [159, 0, 26, 27, 16, 7, 159, 0, 20, 27, 16, 8, 159, 0, 14, 27, 16, 10, 16, 17, 184, 0, 156]
abbrev dktX2_begins_2 : List UInt8 := dkwX2_begins_2 ++ dktX2_begins_3
def dkwX2_begins_1 : List UInt8 := [182, 0, 40, 16, 6, 159, 0, 44, 42, 182, 0, 40, 5, 160, 0, 40, 27, 6, 159, 0, 31, 27, 7]
abbrev dktX2_begins_1 : List UInt8 := dkwX2_begins_1 ++ dktX2_begins_2
def dkwX2_begins_0 : List UInt8 := [42, 180, 0, 24, 180, 0, 44, 42, 180, 0, 33, 46, 60, 42, 182, 0, 40, 8, 159, 0, 53, 42]
abbrev dktX2_begins_0 : List UInt8 := dkwX2_begins_0 ++ dktX2_begins_1
theorem dksX2_begins_0 : cX2_begins.data.toList.drop 0 = dktX2_begins_0 := by decide +kernel
theorem dksX2_begins_1 : cX2_begins.data.toList.drop 22 = dktX2_begins_1 := dk_seg dksX2_begins_0 22 rfl rfl
theorem dksX2_begins_2 : cX2_begins.data.toList.drop 45 = dktX2_begins_2 := dk_seg dksX2_begins_1 23 rfl rfl
theorem dksX2_begins_3 : cX2_begins.data.toList.drop 68 = dktX2_begins_3 := dk_seg dksX2_begins_2 23 rfl rfl
theorem dX2_begins_0 : decode cX2_begins 0 = .ok (.aload_n 0, 1) := dk_42 (dk_at dksX2_begins_0 0 rfl rfl)
theorem dX2_begins_1 : decode cX2_begins 1 = .ok (.getfield 24, 3) := dk_180 0 24 (dk_at dksX2_begins_0 1 rfl rfl)
theorem dX2_begins_4 : decode cX2_begins 4 = .ok (.getfield 44, 3) := dk_180 0 44 (dk_at dksX2_begins_0 4 rfl rfl)
theorem dX2_begins_7 : decode cX2_begins 7 = .ok (.aload_n 0, 1) := dk_42 (dk_at dksX2_begins_0 7 rfl rfl)
theorem dX2_begins_8 : decode cX2_begins 8 = .ok (.getfield 33, 3) := dk_180 0 33 (dk_at dksX2_begins_0 8 rfl rfl)
theorem dX2_begins_11 : decode cX2_begins 11 = .ok (.iaload, 1) := dk_46 (dk_at dksX2_begins_0 11 rfl rfl)
theorem dX2_begins_12 : decode cX2_begins 12 = .ok (.istore_n 1, 1) := dk_60 (dk_at dksX2_begins_0 12 rfl rfl)
theorem dX2_begins_13 : decode cX2_begins 13 = .ok (.aload_n 0, 1) := dk_42 (dk_at dksX2_begins_0 13 rfl rfl)
theorem dX2_begins_14 : decode cX2_begins 14 = .ok (.invokevirtual 40, 3) := dk_182 0 40 (dk_at dksX2_begins_0 14 rfl rfl)
theorem dX2_begins_17 : decode cX2_begins 17 = .ok (.iconst 5, 1) := dk_8 (dk_at dksX2_begins_0 17 rfl rfl)
theorem dX2_begins_18 : decode cX2_begins 18 = .ok (.if_icmp .eq 53, 3) := dk_159 0 53 (dk_at dksX2_begins_0 18 rfl rfl)
theorem dX2_begins_21 : decode cX2_begins 21 = .ok (.aload_n 0, 1) := dk_42 (dk_at dksX2_begins_0 21 rfl rfl)
theorem dX2_begins_22 : decode cX2_begins 22 = .ok (.invokevirtual 40, 3) := dk_182 0 40 (dk_at dksX2_begins_1 0 rfl rfl)
theorem dX2_begins_25 : decode cX2_begins 25 = .ok (.bipush 6, 2) := dk_16 6 (dk_at dksX2_begins_1 3 rfl rfl)
theorem dX2_begins_27 : decode cX2_begins 27 = .ok (.if_icmp .eq 44, 3) := dk_159 0 44 (dk_at dksX2_begins_1 5 rfl rfl)
theorem dX2_begins_30 : decode cX2_begins 30 = .ok (.aload_n 0, 1) := dk_42 (dk_at dksX2_begins_1 8 rfl rfl)
theorem dX2_begins_31 : decode cX2_begins 31 = .ok (.invokevirtual 40, 3) := dk_182 0 40 (dk_at dksX2_begins_1 9 rfl rfl)
theorem dX2_begins_34 : decode cX2_begins 34 = .ok (.iconst 2, 1) := dk_5 (dk_at dksX2_begins_1 12 rfl rfl)
theorem dX2_begins_35 : decode cX2_begins 35 = .ok (.if_icmp .ne 40, 3) := dk_160 0 40 (dk_at dksX2_begins_1 13 rfl rfl)
theorem dX2_begins_38 : decode cX2_begins 38 = .ok (.iload_n 1, 1) := dk_27 (dk_at dksX2_begins_1 16 rfl rfl)
theorem dX2_begins_39 : decode cX2_begins 39 = .ok (.iconst 3, 1) := dk_6 (dk_at dksX2_begins_1 17 rfl rfl)
theorem dX2_begins_40 : decode cX2_begins 40 = .ok (.if_icmp .eq 31, 3) := dk_159 0 31 (dk_at dksX2_begins_1 18 rfl rfl)
theorem dX2_begins_43 : decode cX2_begins 43 = .ok (.iload_n 1, 1) := dk_27 (dk_at dksX2_begins_1 21 rfl rfl)
theorem dX2_begins_44 : decode cX2_begins 44 = .ok (.iconst 4, 1) := dk_7 (dk_at dksX2_begins_1 22 rfl rfl)
theorem dX2_begins_45 : decode cX2_begins 45 = .ok (.if_icmp .eq 26, 3) := dk_159 0 26 (dk_at dksX2_begins_2 0 rfl rfl)
theorem dX2_begins_48 : decode cX2_begins 48 = .ok (.iload_n 1, 1) := dk_27 (dk_at dksX2_begins_2 3 rfl rfl)
theorem dX2_begins_49 : decode cX2_begins 49 = .ok (.bipush 7, 2) := dk_16 7 (dk_at dksX2_begins_2 4 rfl rfl)
theorem dX2_begins_51 : decode cX2_begins 51 = .ok (.if_icmp .eq 20, 3) := dk_159 0 20 (dk_at dksX2_begins_2 6 rfl rfl)
theorem dX2_begins_54 : decode cX2_begins 54 = .ok (.iload_n 1, 1) := dk_27 (dk_at dksX2_begins_2 9 rfl rfl)
theorem dX2_begins_55 : decode cX2_begins 55 = .ok (.bipush 8, 2) := dk_16 8 (dk_at dksX2_begins_2 10 rfl rfl)
theorem dX2_begins_57 : decode cX2_begins 57 = .ok (.if_icmp .eq 14, 3) := dk_159 0 14 (dk_at dksX2_begins_2 12 rfl rfl)
theorem dX2_begins_60 : decode cX2_begins 60 = .ok (.iload_n 1, 1) := dk_27 (dk_at dksX2_begins_2 15 rfl rfl)
theorem dX2_begins_61 : decode cX2_begins 61 = .ok (.bipush 10, 2) := dk_16 10 (dk_at dksX2_begins_2 16 rfl rfl)
theorem dX2_begins_63 : decode cX2_begins 63 = .ok (.bipush 17, 2) := dk_16 17 (dk_at dksX2_begins_2 18 rfl rfl)
theorem dX2_begins_65 : decode cX2_begins 65 = .ok (.invokestatic 156, 3) := dk_184 0 156 (dk_at dksX2_begins_2 20 rfl rfl)
theorem dX2_begins_68 : decode cX2_begins 68 = .ok (.ifCond .eq 7, 3) := dk_153 0 7 (dk_at dksX2_begins_3 0 rfl rfl)
theorem dX2_begins_71 : decode cX2_begins 71 = .ok (.iconst 1, 1) := dk_4 (dk_at dksX2_begins_3 3 rfl rfl)
theorem dX2_begins_72 : decode cX2_begins 72 = .ok (.goto 4, 3) := dk_167 0 4 (dk_at dksX2_begins_3 4 rfl rfl)
theorem dX2_begins_75 : decode cX2_begins 75 = .ok (.iconst 0, 1) := dk_3 (dk_at dksX2_begins_3 7 rfl rfl)
theorem dX2_begins_76 : decode cX2_begins 76 = .ok (.ireturn, 1) := dk_172 (dk_at dksX2_begins_3 8 rfl rfl)
theorem okX2_begins_0 : XOkL xms rX2_begins bX2_begins_0 := xcP (xok_aload_n dX2_begins_0 rfl) rfl (xcP (xok_getfield (ref := "WaysAtlas$Reader") (Or.inr ⟨rfl, by decide⟩) dX2_begins_1 (Or.inl ⟨q231, (Or.inl rfl)⟩) xh1014) rfl (xcP (xok_getfield (ref := "WaysAtlas$Scanner") (Or.inr ⟨rfl, by decide⟩) dX2_begins_4 (Or.inr ⟨⟨"WaysAtlas", (List.mem_of_getElem? (i := 81) rfl)⟩, (Or.inl rfl)⟩) xh1013) rfl (xcP (xok_aload_n dX2_begins_7 rfl) rfl (xcP (xok_getfield (ref := "WaysAtlas$Reader") (Or.inl ⟨rfl, by decide⟩) dX2_begins_8 (Or.inl ⟨q233, (Or.inl rfl)⟩) xh5) rfl (xcP (xok_iaload dX2_begins_11) rfl (xcP (xok_istore_n dX2_begins_12 rfl) rfl (xcP (xok_aload_n dX2_begins_13 rfl) rfl (xcC0 (xokc_list (List.forall_mem_cons.mpr ⟨xokc_V (r := (RX2, TX2, 13)) xm42 (List.mem_of_getElem? (i := 2) rfl) (by decide) rfl dX2_begins_14 q778 q780 qs8 q140 q781 (by decide +kernel), fun _ h => nomatch h⟩)) rfl (xcP (xok_iconst dX2_begins_17 rfl) rfl (xcP (xok_icmpeq dX2_begins_18 (by decide)) rfl (xcP (xok_aload_n dX2_begins_21 rfl) rfl (xcC0 (xokc_list (List.forall_mem_cons.mpr ⟨xokc_V (r := (RX2, TX2, 13)) xm42 (List.mem_of_getElem? (i := 2) rfl) (by decide) rfl dX2_begins_22 q778 q780 qs8 q140 q781 (by decide +kernel), fun _ h => nomatch h⟩)) rfl (xcP (xok_bipush dX2_begins_25 rfl) rfl (xcP (xok_icmpeq dX2_begins_27 (by decide)) rfl (xcP (xok_aload_n dX2_begins_30 rfl) rfl (xcC0 (xokc_list (List.forall_mem_cons.mpr ⟨xokc_V (r := (RX2, TX2, 13)) xm42 (List.mem_of_getElem? (i := 2) rfl) (by decide) rfl dX2_begins_31 q778 q780 qs8 q140 q781 (by decide +kernel), fun _ h => nomatch h⟩)) rfl (xcP (xok_iconst dX2_begins_34 rfl) rfl (xcP (xok_icmpne dX2_begins_35 (by decide)) rfl (xcP (xok_iload_n dX2_begins_38 rfl) rfl (xcP (xok_iconst dX2_begins_39 rfl) rfl (xcP (xok_icmpeq dX2_begins_40 (by decide)) rfl (xcP (xok_iload_n dX2_begins_43 rfl) rfl (xcP (xok_iconst dX2_begins_44 rfl) rfl (xcP (xok_icmpeq dX2_begins_45 (by decide)) rfl (xcP (xok_iload_n dX2_begins_48 rfl) rfl (xcP (xok_bipush dX2_begins_49 rfl) rfl (xcP (xok_icmpeq dX2_begins_51 (by decide)) rfl (xcP (xok_iload_n dX2_begins_54 rfl) rfl (xcP (xok_bipush dX2_begins_55 rfl) rfl (xcP (xok_icmpeq dX2_begins_57 (by decide)) rfl (xcP (xok_iload_n dX2_begins_60 rfl) rfl (xcP (xok_bipush dX2_begins_61 rfl) rfl (xcP (xok_bipush dX2_begins_63 rfl) rfl (xcC0 (xokc_SN (host := "WaysAtlas") xm3 rfl dX2_begins_65 (List.mem_of_getElem? (i := 10) rfl) q681 q138 q682 (by decide +kernel)) rfl (xcP (xok_ifeq dX2_begins_68 (by decide)) rfl (xcP xok_fal rfl trivial))))))))))))))))))))))))))))))))))))
theorem okX2_begins_71 : XOkL xms rX2_begins bX2_begins_71 := xcP (xok_iconst dX2_begins_71 rfl) rfl (xcP (xok_goto dX2_begins_72 (by decide)) rfl trivial)
theorem okX2_begins_75 : XOkL xms rX2_begins bX2_begins_75 := xcP (xok_iconst dX2_begins_75 rfl) rfl (xcP xok_fal rfl trivial)
theorem okX2_begins_76 : XOkL xms rX2_begins bX2_begins_76 := xcR ⟨dX2_begins_76, rfl⟩
theorem okM_X2_begins : XOkM xms rX2_begins := xokM0 (List.forall_mem_cons.mpr ⟨⟨rfl, okX2_begins_0⟩, List.forall_mem_cons.mpr ⟨⟨rfl, okX2_begins_71⟩, List.forall_mem_cons.mpr ⟨⟨rfl, okX2_begins_75⟩, List.forall_mem_cons.mpr ⟨⟨rfl, okX2_begins_76⟩, fun _ h => nomatch h⟩⟩⟩⟩) (xokH0 rfl (fun _ _ => rfl)) (by decide +kernel) (by decide)
abbrev cX2_statement : ByteArray := prog_21_method_18_code
def dkwX2_statement_3 : List UInt8 := [182, 0, 167, 167, 0, 8, 42, 27, 182, 0, 170, 77, 42, 180, 0, 73, 180, 0, 173, 27, 44, 83, 44, 176]
abbrev dktX2_statement_3 : List UInt8 := dkwX2_statement_3 ++ []
def dkwX2_statement_2 : List UInt8 := [8, 160, 0, 11, 42, 27, 182, 0, 163, 167, 0, 25, 42, 182, 0, 40, 16, 6, 160, 0, 11, 42, 27]
abbrev dktX2_statement_2 : List UInt8 := dkwX2_statement_2 ++ dktX2_statement_3
def dkwX2_statement_1 : List UInt8 := [180, 0, 73, 180, 0, 160, 60, 42, 180, 0, 73, 89, 180, 0, 160, 4, 96, 181, 0, 160, 42, 182, 0, 40]
abbrev dktX2_statement_1 : List UInt8 := dkwX2_statement_1 ++ dktX2_statement_2
def dkwX2_statement_0 : List UInt8 := [42, 42, 180, 0, 73, 180, 0, 160, 16, 80, 162, 0, 7, 4, 167, 0, 4, 3, 182, 0, 66, 42]
abbrev dktX2_statement_0 : List UInt8 := dkwX2_statement_0 ++ dktX2_statement_1
theorem dksX2_statement_0 : cX2_statement.data.toList.drop 0 = dktX2_statement_0 := by decide +kernel
theorem dksX2_statement_1 : cX2_statement.data.toList.drop 22 = dktX2_statement_1 := dk_seg dksX2_statement_0 22 rfl rfl
theorem dksX2_statement_2 : cX2_statement.data.toList.drop 46 = dktX2_statement_2 := dk_seg dksX2_statement_1 24 rfl rfl
theorem dksX2_statement_3 : cX2_statement.data.toList.drop 69 = dktX2_statement_3 := dk_seg dksX2_statement_2 23 rfl rfl
theorem dX2_statement_0 : decode cX2_statement 0 = .ok (.aload_n 0, 1) := dk_42 (dk_at dksX2_statement_0 0 rfl rfl)
theorem dX2_statement_1 : decode cX2_statement 1 = .ok (.aload_n 0, 1) := dk_42 (dk_at dksX2_statement_0 1 rfl rfl)
theorem dX2_statement_2 : decode cX2_statement 2 = .ok (.getfield 73, 3) := dk_180 0 73 (dk_at dksX2_statement_0 2 rfl rfl)
theorem dX2_statement_5 : decode cX2_statement 5 = .ok (.getfield 160, 3) := dk_180 0 160 (dk_at dksX2_statement_0 5 rfl rfl)
theorem dX2_statement_8 : decode cX2_statement 8 = .ok (.bipush 80, 2) := dk_16 80 (dk_at dksX2_statement_0 8 rfl rfl)
theorem dX2_statement_10 : decode cX2_statement 10 = .ok (.if_icmp .ge 7, 3) := dk_162 0 7 (dk_at dksX2_statement_0 10 rfl rfl)
theorem dX2_statement_13 : decode cX2_statement 13 = .ok (.iconst 1, 1) := dk_4 (dk_at dksX2_statement_0 13 rfl rfl)
theorem dX2_statement_14 : decode cX2_statement 14 = .ok (.goto 4, 3) := dk_167 0 4 (dk_at dksX2_statement_0 14 rfl rfl)
theorem dX2_statement_17 : decode cX2_statement 17 = .ok (.iconst 0, 1) := dk_3 (dk_at dksX2_statement_0 17 rfl rfl)
theorem dX2_statement_18 : decode cX2_statement 18 = .ok (.invokevirtual 66, 3) := dk_182 0 66 (dk_at dksX2_statement_0 18 rfl rfl)
theorem dX2_statement_21 : decode cX2_statement 21 = .ok (.aload_n 0, 1) := dk_42 (dk_at dksX2_statement_0 21 rfl rfl)
theorem dX2_statement_22 : decode cX2_statement 22 = .ok (.getfield 73, 3) := dk_180 0 73 (dk_at dksX2_statement_1 0 rfl rfl)
theorem dX2_statement_25 : decode cX2_statement 25 = .ok (.getfield 160, 3) := dk_180 0 160 (dk_at dksX2_statement_1 3 rfl rfl)
theorem dX2_statement_28 : decode cX2_statement 28 = .ok (.istore_n 1, 1) := dk_60 (dk_at dksX2_statement_1 6 rfl rfl)
theorem dX2_statement_29 : decode cX2_statement 29 = .ok (.aload_n 0, 1) := dk_42 (dk_at dksX2_statement_1 7 rfl rfl)
theorem dX2_statement_30 : decode cX2_statement 30 = .ok (.getfield 73, 3) := dk_180 0 73 (dk_at dksX2_statement_1 8 rfl rfl)
theorem dX2_statement_33 : decode cX2_statement 33 = .ok (.dup, 1) := dk_89 (dk_at dksX2_statement_1 11 rfl rfl)
theorem dX2_statement_34 : decode cX2_statement 34 = .ok (.getfield 160, 3) := dk_180 0 160 (dk_at dksX2_statement_1 12 rfl rfl)
theorem dX2_statement_37 : decode cX2_statement 37 = .ok (.iconst 1, 1) := dk_4 (dk_at dksX2_statement_1 15 rfl rfl)
theorem dX2_statement_38 : decode cX2_statement 38 = .ok (.iadd, 1) := dk_96 (dk_at dksX2_statement_1 16 rfl rfl)
theorem dX2_statement_39 : decode cX2_statement 39 = .ok (.putfield 160, 3) := dk_181 0 160 (dk_at dksX2_statement_1 17 rfl rfl)
theorem dX2_statement_42 : decode cX2_statement 42 = .ok (.aload_n 0, 1) := dk_42 (dk_at dksX2_statement_1 20 rfl rfl)
theorem dX2_statement_43 : decode cX2_statement 43 = .ok (.invokevirtual 40, 3) := dk_182 0 40 (dk_at dksX2_statement_1 21 rfl rfl)
theorem dX2_statement_46 : decode cX2_statement 46 = .ok (.iconst 5, 1) := dk_8 (dk_at dksX2_statement_2 0 rfl rfl)
theorem dX2_statement_47 : decode cX2_statement 47 = .ok (.if_icmp .ne 11, 3) := dk_160 0 11 (dk_at dksX2_statement_2 1 rfl rfl)
theorem dX2_statement_50 : decode cX2_statement 50 = .ok (.aload_n 0, 1) := dk_42 (dk_at dksX2_statement_2 4 rfl rfl)
theorem dX2_statement_51 : decode cX2_statement 51 = .ok (.iload_n 1, 1) := dk_27 (dk_at dksX2_statement_2 5 rfl rfl)
theorem dX2_statement_52 : decode cX2_statement 52 = .ok (.invokevirtual 163, 3) := dk_182 0 163 (dk_at dksX2_statement_2 6 rfl rfl)
theorem dX2_statement_55 : decode cX2_statement 55 = .ok (.goto 25, 3) := dk_167 0 25 (dk_at dksX2_statement_2 9 rfl rfl)
theorem dX2_statement_58 : decode cX2_statement 58 = .ok (.aload_n 0, 1) := dk_42 (dk_at dksX2_statement_2 12 rfl rfl)
theorem dX2_statement_59 : decode cX2_statement 59 = .ok (.invokevirtual 40, 3) := dk_182 0 40 (dk_at dksX2_statement_2 13 rfl rfl)
theorem dX2_statement_62 : decode cX2_statement 62 = .ok (.bipush 6, 2) := dk_16 6 (dk_at dksX2_statement_2 16 rfl rfl)
theorem dX2_statement_64 : decode cX2_statement 64 = .ok (.if_icmp .ne 11, 3) := dk_160 0 11 (dk_at dksX2_statement_2 18 rfl rfl)
theorem dX2_statement_67 : decode cX2_statement 67 = .ok (.aload_n 0, 1) := dk_42 (dk_at dksX2_statement_2 21 rfl rfl)
theorem dX2_statement_68 : decode cX2_statement 68 = .ok (.iload_n 1, 1) := dk_27 (dk_at dksX2_statement_2 22 rfl rfl)
theorem dX2_statement_69 : decode cX2_statement 69 = .ok (.invokevirtual 167, 3) := dk_182 0 167 (dk_at dksX2_statement_3 0 rfl rfl)
theorem dX2_statement_72 : decode cX2_statement 72 = .ok (.goto 8, 3) := dk_167 0 8 (dk_at dksX2_statement_3 3 rfl rfl)
theorem dX2_statement_75 : decode cX2_statement 75 = .ok (.aload_n 0, 1) := dk_42 (dk_at dksX2_statement_3 6 rfl rfl)
theorem dX2_statement_76 : decode cX2_statement 76 = .ok (.iload_n 1, 1) := dk_27 (dk_at dksX2_statement_3 7 rfl rfl)
theorem dX2_statement_77 : decode cX2_statement 77 = .ok (.invokevirtual 170, 3) := dk_182 0 170 (dk_at dksX2_statement_3 8 rfl rfl)
theorem dX2_statement_80 : decode cX2_statement 80 = .ok (.astore_n 2, 1) := dk_77 (dk_at dksX2_statement_3 11 rfl rfl)
theorem dX2_statement_81 : decode cX2_statement 81 = .ok (.aload_n 0, 1) := dk_42 (dk_at dksX2_statement_3 12 rfl rfl)
theorem dX2_statement_82 : decode cX2_statement 82 = .ok (.getfield 73, 3) := dk_180 0 73 (dk_at dksX2_statement_3 13 rfl rfl)
theorem dX2_statement_85 : decode cX2_statement 85 = .ok (.getfield 173, 3) := dk_180 0 173 (dk_at dksX2_statement_3 16 rfl rfl)
theorem dX2_statement_88 : decode cX2_statement 88 = .ok (.iload_n 1, 1) := dk_27 (dk_at dksX2_statement_3 19 rfl rfl)
theorem dX2_statement_89 : decode cX2_statement 89 = .ok (.aload_n 2, 1) := dk_44 (dk_at dksX2_statement_3 20 rfl rfl)
theorem dX2_statement_90 : decode cX2_statement 90 = .ok (.aastore, 1) := dk_83 (dk_at dksX2_statement_3 21 rfl rfl)
theorem dX2_statement_91 : decode cX2_statement 91 = .ok (.aload_n 2, 1) := dk_44 (dk_at dksX2_statement_3 22 rfl rfl)
theorem dX2_statement_92 : decode cX2_statement 92 = .ok (.areturn, 1) := dk_176 (dk_at dksX2_statement_3 23 rfl rfl)
theorem okX2_statement_0 : XOkL xms rX2_statement bX2_statement_0 := xcP (xok_aload_n dX2_statement_0 rfl) rfl (xcP (xok_aload_n dX2_statement_1 rfl) rfl (xcP (xok_getfield (ref := "WaysAtlas$Reader") (Or.inr ⟨rfl, by decide⟩) dX2_statement_2 (Or.inl ⟨q232, (Or.inl rfl)⟩) xh1015) rfl (xcP (xok_getfield (ref := "WaysAtlas$Program") (Or.inl ⟨rfl, by decide⟩) dX2_statement_5 (Or.inr ⟨⟨"WaysAtlas", (List.mem_of_getElem? (i := 67) rfl)⟩, (Or.inl rfl)⟩) xh14) rfl (xcP (xok_bipush dX2_statement_8 rfl) rfl (xcP (xok_icmpge dX2_statement_10 (by decide)) rfl (xcP (xok_iconst dX2_statement_13 rfl) rfl (xcP (xok_goto dX2_statement_14 (by decide)) rfl trivial)))))))
theorem okX2_statement_17 : XOkL xms rX2_statement bX2_statement_17 := xcP (xok_iconst dX2_statement_17 rfl) rfl (xcP xok_fal rfl trivial)
theorem okX2_statement_18 : XOkL xms rX2_statement bX2_statement_18 := xcC0 (xokc_list (List.forall_mem_cons.mpr ⟨xokc_V (r := (RX2, TX2, 13)) xm43 (List.mem_of_getElem? (i := 2) rfl) (by decide) rfl dX2_statement_18 q782 q784 qs9 q140 q785 (by decide +kernel), fun _ h => nomatch h⟩)) rfl (xcP (xok_aload_n dX2_statement_21 rfl) rfl (xcP (xok_getfield (ref := "WaysAtlas$Reader") (Or.inr ⟨rfl, by decide⟩) dX2_statement_22 (Or.inl ⟨q232, (Or.inl rfl)⟩) xh1015) rfl (xcP (xok_getfield (ref := "WaysAtlas$Program") (Or.inl ⟨rfl, by decide⟩) dX2_statement_25 (Or.inr ⟨⟨"WaysAtlas", (List.mem_of_getElem? (i := 67) rfl)⟩, (Or.inl rfl)⟩) xh14) rfl (xcP (xok_istore_n dX2_statement_28 rfl) rfl (xcP (xok_aload_n dX2_statement_29 rfl) rfl (xcP (xok_getfield (ref := "WaysAtlas$Reader") (Or.inr ⟨rfl, by decide⟩) dX2_statement_30 (Or.inl ⟨q232, (Or.inl rfl)⟩) xh1015) rfl (xcP (xok_dup dX2_statement_33) rfl (xcP (xok_getfield (ref := "WaysAtlas$Program") (Or.inl ⟨rfl, by decide⟩) dX2_statement_34 (Or.inr ⟨⟨"WaysAtlas", (List.mem_of_getElem? (i := 67) rfl)⟩, (Or.inl rfl)⟩) xh14) rfl (xcP (xok_iconst dX2_statement_37 rfl) rfl (xcP (xok_iadd dX2_statement_38) rfl (xcP (xok_putfield (ref := "WaysAtlas$Program") (Or.inl ⟨rfl, by decide, rfl⟩) dX2_statement_39 (Or.inr ⟨⟨"WaysAtlas", (List.mem_of_getElem? (i := 67) rfl)⟩, (Or.inl rfl)⟩) (Or.inl rfl) xh14) rfl (xcP (xok_aload_n dX2_statement_42 rfl) rfl (xcC0 (xokc_list (List.forall_mem_cons.mpr ⟨xokc_V (r := (RX2, TX2, 13)) xm42 (List.mem_of_getElem? (i := 2) rfl) (by decide) rfl dX2_statement_43 q778 q780 qs8 q140 q781 (by decide +kernel), fun _ h => nomatch h⟩)) rfl (xcP (xok_iconst dX2_statement_46 rfl) rfl (xcP (xok_icmpne dX2_statement_47 (by decide)) rfl (xcP (xok_aload_n dX2_statement_50 rfl) rfl (xcP (xok_iload_n dX2_statement_51 rfl) rfl (xcC0 (xokc_list (List.forall_mem_cons.mpr ⟨xokc_V (r := (RX2, TX2, 13)) xm54 (List.mem_of_getElem? (i := 2) rfl) (by decide) rfl dX2_statement_52 q874 q876 qs20 q140 q877 (by decide +kernel), fun _ h => nomatch h⟩)) rfl (xcP (xok_goto dX2_statement_55 (by decide)) rfl trivial)))))))))))))))))))
theorem okX2_statement_58 : XOkL xms rX2_statement bX2_statement_58 := xcP (xok_aload_n dX2_statement_58 rfl) rfl (xcC0 (xokc_list (List.forall_mem_cons.mpr ⟨xokc_V (r := (RX2, TX2, 13)) xm42 (List.mem_of_getElem? (i := 2) rfl) (by decide) rfl dX2_statement_59 q778 q780 qs8 q140 q781 (by decide +kernel), fun _ h => nomatch h⟩)) rfl (xcP (xok_bipush dX2_statement_62 rfl) rfl (xcP (xok_icmpne dX2_statement_64 (by decide)) rfl (xcP (xok_aload_n dX2_statement_67 rfl) rfl (xcP (xok_iload_n dX2_statement_68 rfl) rfl (xcC0 (xokc_list (List.forall_mem_cons.mpr ⟨xokc_V (r := (RX2, TX2, 13)) xm61 (List.mem_of_getElem? (i := 2) rfl) (by decide) rfl dX2_statement_69 q1018 q1020 qs27 q140 q1021 (by decide +kernel), fun _ h => nomatch h⟩)) rfl (xcP (xok_goto dX2_statement_72 (by decide)) rfl trivial)))))))
theorem okX2_statement_75 : XOkL xms rX2_statement bX2_statement_75 := xcP (xok_aload_n dX2_statement_75 rfl) rfl (xcP (xok_iload_n dX2_statement_76 rfl) rfl (xcC0 (xokc_list (List.forall_mem_cons.mpr ⟨xokc_V (r := (RX2, TX2, 13)) xm63 (List.mem_of_getElem? (i := 2) rfl) (by decide) rfl dX2_statement_77 q1068 q1070 qs29 q140 q1071 (by decide +kernel), fun _ h => nomatch h⟩)) rfl (xcP xok_fal rfl trivial)))
theorem okX2_statement_80 : XOkL xms rX2_statement bX2_statement_80 := xcP (xok_astore_n dX2_statement_80 rfl) rfl (xcP (xok_aload_n dX2_statement_81 rfl) rfl (xcP (xok_getfield (ref := "WaysAtlas$Reader") (Or.inr ⟨rfl, by decide⟩) dX2_statement_82 (Or.inl ⟨q232, (Or.inl rfl)⟩) xh1015) rfl (xcP (xok_getfield (ref := "WaysAtlas$Program") (Or.inr ⟨rfl, by decide⟩) dX2_statement_85 (Or.inr ⟨⟨"WaysAtlas", (List.mem_of_getElem? (i := 68) rfl)⟩, (Or.inl rfl)⟩) xh1022) rfl (xcP (xok_iload_n dX2_statement_88 rfl) rfl (xcP (xok_aload_n dX2_statement_89 rfl) rfl (xcP (xok_aastore (E := "WaysAtlas$Statement") (by decide) (by decide) rfl xfit_4 dX2_statement_90) rfl (xcP (xok_aload_n dX2_statement_91 rfl) rfl (xcR ⟨dX2_statement_92, _, rfl, Or.inl ⟨_, rfl⟩⟩))))))))
theorem okM_X2_statement : XOkM xms rX2_statement := xokM0 (List.forall_mem_cons.mpr ⟨⟨rfl, okX2_statement_0⟩, List.forall_mem_cons.mpr ⟨⟨rfl, okX2_statement_17⟩, List.forall_mem_cons.mpr ⟨⟨rfl, okX2_statement_18⟩, List.forall_mem_cons.mpr ⟨⟨rfl, okX2_statement_58⟩, List.forall_mem_cons.mpr ⟨⟨rfl, okX2_statement_75⟩, List.forall_mem_cons.mpr ⟨⟨rfl, okX2_statement_80⟩, fun _ h => nomatch h⟩⟩⟩⟩⟩⟩) (xokH0 rfl (fun _ _ => rfl)) (by decide +kernel) (by decide)
abbrev cX2_ofVar : ByteArray := prog_21_method_19_code
def dkwX2_ofVar_2 : List UInt8 := [45, 183, 0, 188, 176]
abbrev dktX2_ofVar_2 : List UInt8 := dkwX2_ofVar_2 ++ []
def dkwX2_ofVar_1 : List UInt8 := [27, 28, 182, 0, 178, 176, 42, 182, 0, 182, 78, 42, 16, 59, 182, 0, 69, 87, 187, 0, 186, 89, 27, 28]
abbrev dktX2_ofVar_1 : List UInt8 := dkwX2_ofVar_1 ++ dktX2_ofVar_2
def dkwX2_ofVar_0 : List UInt8 := [42, 8, 16, 6, 182, 0, 175, 61, 42, 16, 61, 182, 0, 69, 87, 42, 7, 182, 0, 58, 153, 0, 10, 42]
abbrev dktX2_ofVar_0 : List UInt8 := dkwX2_ofVar_0 ++ dktX2_ofVar_1
theorem dksX2_ofVar_0 : cX2_ofVar.data.toList.drop 0 = dktX2_ofVar_0 := by decide +kernel
theorem dksX2_ofVar_1 : cX2_ofVar.data.toList.drop 24 = dktX2_ofVar_1 := dk_seg dksX2_ofVar_0 24 rfl rfl
theorem dksX2_ofVar_2 : cX2_ofVar.data.toList.drop 48 = dktX2_ofVar_2 := dk_seg dksX2_ofVar_1 24 rfl rfl
theorem dX2_ofVar_0 : decode cX2_ofVar 0 = .ok (.aload_n 0, 1) := dk_42 (dk_at dksX2_ofVar_0 0 rfl rfl)
theorem dX2_ofVar_1 : decode cX2_ofVar 1 = .ok (.iconst 5, 1) := dk_8 (dk_at dksX2_ofVar_0 1 rfl rfl)
theorem dX2_ofVar_2 : decode cX2_ofVar 2 = .ok (.bipush 6, 2) := dk_16 6 (dk_at dksX2_ofVar_0 2 rfl rfl)
theorem dX2_ofVar_4 : decode cX2_ofVar 4 = .ok (.invokevirtual 175, 3) := dk_182 0 175 (dk_at dksX2_ofVar_0 4 rfl rfl)
theorem dX2_ofVar_7 : decode cX2_ofVar 7 = .ok (.istore_n 2, 1) := dk_61 (dk_at dksX2_ofVar_0 7 rfl rfl)
theorem dX2_ofVar_8 : decode cX2_ofVar 8 = .ok (.aload_n 0, 1) := dk_42 (dk_at dksX2_ofVar_0 8 rfl rfl)
theorem dX2_ofVar_9 : decode cX2_ofVar 9 = .ok (.bipush 61, 2) := dk_16 61 (dk_at dksX2_ofVar_0 9 rfl rfl)
theorem dX2_ofVar_11 : decode cX2_ofVar 11 = .ok (.invokevirtual 69, 3) := dk_182 0 69 (dk_at dksX2_ofVar_0 11 rfl rfl)
theorem dX2_ofVar_14 : decode cX2_ofVar 14 = .ok (.pop, 1) := dk_87 (dk_at dksX2_ofVar_0 14 rfl rfl)
theorem dX2_ofVar_15 : decode cX2_ofVar 15 = .ok (.aload_n 0, 1) := dk_42 (dk_at dksX2_ofVar_0 15 rfl rfl)
theorem dX2_ofVar_16 : decode cX2_ofVar 16 = .ok (.iconst 4, 1) := dk_7 (dk_at dksX2_ofVar_0 16 rfl rfl)
theorem dX2_ofVar_17 : decode cX2_ofVar 17 = .ok (.invokevirtual 58, 3) := dk_182 0 58 (dk_at dksX2_ofVar_0 17 rfl rfl)
theorem dX2_ofVar_20 : decode cX2_ofVar 20 = .ok (.ifCond .eq 10, 3) := dk_153 0 10 (dk_at dksX2_ofVar_0 20 rfl rfl)
theorem dX2_ofVar_23 : decode cX2_ofVar 23 = .ok (.aload_n 0, 1) := dk_42 (dk_at dksX2_ofVar_0 23 rfl rfl)
theorem dX2_ofVar_24 : decode cX2_ofVar 24 = .ok (.iload_n 1, 1) := dk_27 (dk_at dksX2_ofVar_1 0 rfl rfl)
theorem dX2_ofVar_25 : decode cX2_ofVar 25 = .ok (.iload_n 2, 1) := dk_28 (dk_at dksX2_ofVar_1 1 rfl rfl)
theorem dX2_ofVar_26 : decode cX2_ofVar 26 = .ok (.invokevirtual 178, 3) := dk_182 0 178 (dk_at dksX2_ofVar_1 2 rfl rfl)
theorem dX2_ofVar_29 : decode cX2_ofVar 29 = .ok (.areturn, 1) := dk_176 (dk_at dksX2_ofVar_1 5 rfl rfl)
theorem dX2_ofVar_30 : decode cX2_ofVar 30 = .ok (.aload_n 0, 1) := dk_42 (dk_at dksX2_ofVar_1 6 rfl rfl)
theorem dX2_ofVar_31 : decode cX2_ofVar 31 = .ok (.invokevirtual 182, 3) := dk_182 0 182 (dk_at dksX2_ofVar_1 7 rfl rfl)
theorem dX2_ofVar_34 : decode cX2_ofVar 34 = .ok (.astore_n 3, 1) := dk_78 (dk_at dksX2_ofVar_1 10 rfl rfl)
theorem dX2_ofVar_35 : decode cX2_ofVar 35 = .ok (.aload_n 0, 1) := dk_42 (dk_at dksX2_ofVar_1 11 rfl rfl)
theorem dX2_ofVar_36 : decode cX2_ofVar 36 = .ok (.bipush 59, 2) := dk_16 59 (dk_at dksX2_ofVar_1 12 rfl rfl)
theorem dX2_ofVar_38 : decode cX2_ofVar 38 = .ok (.invokevirtual 69, 3) := dk_182 0 69 (dk_at dksX2_ofVar_1 14 rfl rfl)
theorem dX2_ofVar_41 : decode cX2_ofVar 41 = .ok (.pop, 1) := dk_87 (dk_at dksX2_ofVar_1 17 rfl rfl)
theorem dX2_ofVar_42 : decode cX2_ofVar 42 = .ok (.new 186, 3) := dk_187 0 186 (dk_at dksX2_ofVar_1 18 rfl rfl)
theorem dX2_ofVar_45 : decode cX2_ofVar 45 = .ok (.dup, 1) := dk_89 (dk_at dksX2_ofVar_1 21 rfl rfl)
theorem dX2_ofVar_46 : decode cX2_ofVar 46 = .ok (.iload_n 1, 1) := dk_27 (dk_at dksX2_ofVar_1 22 rfl rfl)
theorem dX2_ofVar_47 : decode cX2_ofVar 47 = .ok (.iload_n 2, 1) := dk_28 (dk_at dksX2_ofVar_1 23 rfl rfl)
theorem dX2_ofVar_48 : decode cX2_ofVar 48 = .ok (.aload_n 3, 1) := dk_45 (dk_at dksX2_ofVar_2 0 rfl rfl)
theorem dX2_ofVar_49 : decode cX2_ofVar 49 = .ok (.invokespecial 188, 3) := dk_183 0 188 (dk_at dksX2_ofVar_2 1 rfl rfl)
theorem dX2_ofVar_52 : decode cX2_ofVar 52 = .ok (.areturn, 1) := dk_176 (dk_at dksX2_ofVar_2 4 rfl rfl)
theorem okX2_ofVar_0 : XOkL xms rX2_ofVar bX2_ofVar_0 := xcP (xok_aload_n dX2_ofVar_0 rfl) rfl (xcP (xok_iconst dX2_ofVar_1 rfl) rfl (xcP (xok_bipush dX2_ofVar_2 rfl) rfl (xcC0 (xokc_list (List.forall_mem_cons.mpr ⟨xokc_V (r := (RX2, TX2, 13)) xm55 (List.mem_of_getElem? (i := 2) rfl) (by decide) rfl dX2_ofVar_4 q878 q880 qs21 q140 q881 (by decide +kernel), fun _ h => nomatch h⟩)) rfl (xcP (xok_istore_n dX2_ofVar_7 rfl) rfl (xcP (xok_aload_n dX2_ofVar_8 rfl) rfl (xcP (xok_bipush dX2_ofVar_9 rfl) rfl (xcC0 (xokc_list (List.forall_mem_cons.mpr ⟨xokc_V (r := (RX2, TX2, 13)) xm48 (List.mem_of_getElem? (i := 2) rfl) (by decide) rfl dX2_ofVar_11 q826 q828 qs14 q140 q829 (by decide +kernel), fun _ h => nomatch h⟩)) rfl (xcP (xok_pop dX2_ofVar_14) rfl (xcP (xok_aload_n dX2_ofVar_15 rfl) rfl (xcP (xok_iconst dX2_ofVar_16 rfl) rfl (xcC0 (xokc_list (List.forall_mem_cons.mpr ⟨xokc_V (r := (RX2, TX2, 13)) xm41 (List.mem_of_getElem? (i := 2) rfl) (by decide) rfl dX2_ofVar_17 q774 q776 qs7 q140 q777 (by decide +kernel), fun _ h => nomatch h⟩)) rfl (xcP (xok_ifeq dX2_ofVar_20 (by decide)) rfl (xcP (xok_aload_n dX2_ofVar_23 rfl) rfl (xcP (xok_iload_n dX2_ofVar_24 rfl) rfl (xcP (xok_iload_n dX2_ofVar_25 rfl) rfl (xcC0 (xokc_list (List.forall_mem_cons.mpr ⟨xokc_V (r := (RX2, TX2, 13)) xm56 (List.mem_of_getElem? (i := 2) rfl) (by decide) rfl dX2_ofVar_26 q882 q884 qs22 q140 q885 (by decide +kernel), fun _ h => nomatch h⟩)) rfl (xcR ⟨dX2_ofVar_29, _, rfl, Or.inl ⟨_, rfl⟩⟩)))))))))))))))))
theorem okX2_ofVar_30 : XOkL xms rX2_ofVar bX2_ofVar_30 := xcP (xok_aload_n dX2_ofVar_30 rfl) rfl (xcC0 (xokc_list (List.forall_mem_cons.mpr ⟨xokc_V (r := (RX2, TX2, 13)) xm57 (List.mem_of_getElem? (i := 2) rfl) (by decide) rfl dX2_ofVar_31 q886 q888 qs23 q140 q889 (by decide +kernel), fun _ h => nomatch h⟩)) rfl (xcP (xok_astore_n dX2_ofVar_34 rfl) rfl (xcP (xok_aload_n dX2_ofVar_35 rfl) rfl (xcP (xok_bipush dX2_ofVar_36 rfl) rfl (xcC0 (xokc_list (List.forall_mem_cons.mpr ⟨xokc_V (r := (RX2, TX2, 13)) xm48 (List.mem_of_getElem? (i := 2) rfl) (by decide) rfl dX2_ofVar_38 q826 q828 qs14 q140 q829 (by decide +kernel), fun _ h => nomatch h⟩)) rfl (xcP (xok_pop dX2_ofVar_41) rfl (xcP (xok_new (r := (RX20, TX20, 3)) (List.mem_of_getElem? (i := 17) rfl) rfl (by decide) dX2_ofVar_42 q1001 q1002 q165) rfl (xcP (xok_dup dX2_ofVar_45) rfl (xcP (xok_iload_n dX2_ofVar_46 rfl) rfl (xcP (xok_iload_n dX2_ofVar_47 rfl) rfl (xcP (xok_aload_n dX2_ofVar_48 rfl) rfl (xcC0 (xokc_I xm224 rfl rfl dX2_ofVar_49 q1003 q1004 q165 q1005 rfl (by decide +kernel)) rfl (xcR ⟨dX2_ofVar_52, _, rfl, Or.inl ⟨_, rfl⟩⟩)))))))))))))
theorem okM_X2_ofVar : XOkM xms rX2_ofVar := xokM0 (List.forall_mem_cons.mpr ⟨⟨rfl, okX2_ofVar_0⟩, List.forall_mem_cons.mpr ⟨⟨rfl, okX2_ofVar_30⟩, fun _ h => nomatch h⟩⟩) (xokH0 rfl (fun _ _ => rfl)) (by decide +kernel) (by decide)
abbrev cX2_name : ByteArray := prog_21_method_11_code
def dkwX2_name_2 : List UInt8 := [182, 0, 69, 172]
abbrev dktX2_name_2 : List UInt8 := dkwX2_name_2 ++ []
def dkwX2_name_1 : List UInt8 := [180, 0, 44, 42, 180, 0, 33, 46, 28, 162, 0, 7, 4, 167, 0, 4, 3, 182, 0, 66, 42, 27]
abbrev dktX2_name_1 : List UInt8 := dkwX2_name_1 ++ dktX2_name_2
def dkwX2_name_0 : List UInt8 := [42, 42, 182, 0, 40, 27, 160, 0, 7, 4, 167, 0, 4, 3, 182, 0, 62, 42, 42, 180, 0, 24]
abbrev dktX2_name_0 : List UInt8 := dkwX2_name_0 ++ dktX2_name_1
theorem dksX2_name_0 : cX2_name.data.toList.drop 0 = dktX2_name_0 := by decide +kernel
theorem dksX2_name_1 : cX2_name.data.toList.drop 22 = dktX2_name_1 := dk_seg dksX2_name_0 22 rfl rfl
theorem dksX2_name_2 : cX2_name.data.toList.drop 44 = dktX2_name_2 := dk_seg dksX2_name_1 22 rfl rfl
theorem dX2_name_0 : decode cX2_name 0 = .ok (.aload_n 0, 1) := dk_42 (dk_at dksX2_name_0 0 rfl rfl)
theorem dX2_name_1 : decode cX2_name 1 = .ok (.aload_n 0, 1) := dk_42 (dk_at dksX2_name_0 1 rfl rfl)
theorem dX2_name_2 : decode cX2_name 2 = .ok (.invokevirtual 40, 3) := dk_182 0 40 (dk_at dksX2_name_0 2 rfl rfl)
theorem dX2_name_5 : decode cX2_name 5 = .ok (.iload_n 1, 1) := dk_27 (dk_at dksX2_name_0 5 rfl rfl)
theorem dX2_name_6 : decode cX2_name 6 = .ok (.if_icmp .ne 7, 3) := dk_160 0 7 (dk_at dksX2_name_0 6 rfl rfl)
theorem dX2_name_9 : decode cX2_name 9 = .ok (.iconst 1, 1) := dk_4 (dk_at dksX2_name_0 9 rfl rfl)
theorem dX2_name_10 : decode cX2_name 10 = .ok (.goto 4, 3) := dk_167 0 4 (dk_at dksX2_name_0 10 rfl rfl)
theorem dX2_name_13 : decode cX2_name 13 = .ok (.iconst 0, 1) := dk_3 (dk_at dksX2_name_0 13 rfl rfl)
theorem dX2_name_14 : decode cX2_name 14 = .ok (.invokevirtual 62, 3) := dk_182 0 62 (dk_at dksX2_name_0 14 rfl rfl)
theorem dX2_name_17 : decode cX2_name 17 = .ok (.aload_n 0, 1) := dk_42 (dk_at dksX2_name_0 17 rfl rfl)
theorem dX2_name_18 : decode cX2_name 18 = .ok (.aload_n 0, 1) := dk_42 (dk_at dksX2_name_0 18 rfl rfl)
theorem dX2_name_19 : decode cX2_name 19 = .ok (.getfield 24, 3) := dk_180 0 24 (dk_at dksX2_name_0 19 rfl rfl)
theorem dX2_name_22 : decode cX2_name 22 = .ok (.getfield 44, 3) := dk_180 0 44 (dk_at dksX2_name_1 0 rfl rfl)
theorem dX2_name_25 : decode cX2_name 25 = .ok (.aload_n 0, 1) := dk_42 (dk_at dksX2_name_1 3 rfl rfl)
theorem dX2_name_26 : decode cX2_name 26 = .ok (.getfield 33, 3) := dk_180 0 33 (dk_at dksX2_name_1 4 rfl rfl)
theorem dX2_name_29 : decode cX2_name 29 = .ok (.iaload, 1) := dk_46 (dk_at dksX2_name_1 7 rfl rfl)
theorem dX2_name_30 : decode cX2_name 30 = .ok (.iload_n 2, 1) := dk_28 (dk_at dksX2_name_1 8 rfl rfl)
theorem dX2_name_31 : decode cX2_name 31 = .ok (.if_icmp .ge 7, 3) := dk_162 0 7 (dk_at dksX2_name_1 9 rfl rfl)
theorem dX2_name_34 : decode cX2_name 34 = .ok (.iconst 1, 1) := dk_4 (dk_at dksX2_name_1 12 rfl rfl)
theorem dX2_name_35 : decode cX2_name 35 = .ok (.goto 4, 3) := dk_167 0 4 (dk_at dksX2_name_1 13 rfl rfl)
theorem dX2_name_38 : decode cX2_name 38 = .ok (.iconst 0, 1) := dk_3 (dk_at dksX2_name_1 16 rfl rfl)
theorem dX2_name_39 : decode cX2_name 39 = .ok (.invokevirtual 66, 3) := dk_182 0 66 (dk_at dksX2_name_1 17 rfl rfl)
theorem dX2_name_42 : decode cX2_name 42 = .ok (.aload_n 0, 1) := dk_42 (dk_at dksX2_name_1 20 rfl rfl)
theorem dX2_name_43 : decode cX2_name 43 = .ok (.iload_n 1, 1) := dk_27 (dk_at dksX2_name_1 21 rfl rfl)
theorem dX2_name_44 : decode cX2_name 44 = .ok (.invokevirtual 69, 3) := dk_182 0 69 (dk_at dksX2_name_2 0 rfl rfl)
theorem dX2_name_47 : decode cX2_name 47 = .ok (.ireturn, 1) := dk_172 (dk_at dksX2_name_2 3 rfl rfl)
theorem okX2_name_0 : XOkL xms rX2_name bX2_name_0 := xcP (xok_aload_n dX2_name_0 rfl) rfl (xcP (xok_aload_n dX2_name_1 rfl) rfl (xcC0 (xokc_list (List.forall_mem_cons.mpr ⟨xokc_V (r := (RX2, TX2, 13)) xm42 (List.mem_of_getElem? (i := 2) rfl) (by decide) rfl dX2_name_2 q778 q780 qs8 q140 q781 (by decide +kernel), fun _ h => nomatch h⟩)) rfl (xcP (xok_iload_n dX2_name_5 rfl) rfl (xcP (xok_icmpne dX2_name_6 (by decide)) rfl (xcP (xok_iconst dX2_name_9 rfl) rfl (xcP (xok_goto dX2_name_10 (by decide)) rfl trivial))))))
theorem okX2_name_13 : XOkL xms rX2_name bX2_name_13 := xcP (xok_iconst dX2_name_13 rfl) rfl (xcP xok_fal rfl trivial)
theorem okX2_name_14 : XOkL xms rX2_name bX2_name_14 := xcC0 (xokc_list (List.forall_mem_cons.mpr ⟨xokc_V (r := (RX2, TX2, 13)) xm46 (List.mem_of_getElem? (i := 2) rfl) (by decide) rfl dX2_name_14 q818 q820 qs12 q140 q821 (by decide +kernel), fun _ h => nomatch h⟩)) rfl (xcP (xok_aload_n dX2_name_17 rfl) rfl (xcP (xok_aload_n dX2_name_18 rfl) rfl (xcP (xok_getfield (ref := "WaysAtlas$Reader") (Or.inr ⟨rfl, by decide⟩) dX2_name_19 (Or.inl ⟨q231, (Or.inl rfl)⟩) xh1014) rfl (xcP (xok_getfield (ref := "WaysAtlas$Scanner") (Or.inr ⟨rfl, by decide⟩) dX2_name_22 (Or.inr ⟨⟨"WaysAtlas", (List.mem_of_getElem? (i := 81) rfl)⟩, (Or.inl rfl)⟩) xh1013) rfl (xcP (xok_aload_n dX2_name_25 rfl) rfl (xcP (xok_getfield (ref := "WaysAtlas$Reader") (Or.inl ⟨rfl, by decide⟩) dX2_name_26 (Or.inl ⟨q233, (Or.inl rfl)⟩) xh5) rfl (xcP (xok_iaload dX2_name_29) rfl (xcP (xok_iload_n dX2_name_30 rfl) rfl (xcP (xok_icmpge dX2_name_31 (by decide)) rfl (xcP (xok_iconst dX2_name_34 rfl) rfl (xcP (xok_goto dX2_name_35 (by decide)) rfl trivial)))))))))))
theorem okX2_name_38 : XOkL xms rX2_name bX2_name_38 := xcP (xok_iconst dX2_name_38 rfl) rfl (xcP xok_fal rfl trivial)
theorem okX2_name_39 : XOkL xms rX2_name bX2_name_39 := xcC0 (xokc_list (List.forall_mem_cons.mpr ⟨xokc_V (r := (RX2, TX2, 13)) xm43 (List.mem_of_getElem? (i := 2) rfl) (by decide) rfl dX2_name_39 q782 q784 qs9 q140 q785 (by decide +kernel), fun _ h => nomatch h⟩)) rfl (xcP (xok_aload_n dX2_name_42 rfl) rfl (xcP (xok_iload_n dX2_name_43 rfl) rfl (xcC0 (xokc_list (List.forall_mem_cons.mpr ⟨xokc_V (r := (RX2, TX2, 13)) xm48 (List.mem_of_getElem? (i := 2) rfl) (by decide) rfl dX2_name_44 q826 q828 qs14 q140 q829 (by decide +kernel), fun _ h => nomatch h⟩)) rfl (xcR ⟨dX2_name_47, rfl⟩))))
theorem okM_X2_name : XOkM xms rX2_name := xokM0 (List.forall_mem_cons.mpr ⟨⟨rfl, okX2_name_0⟩, List.forall_mem_cons.mpr ⟨⟨rfl, okX2_name_13⟩, List.forall_mem_cons.mpr ⟨⟨rfl, okX2_name_14⟩, List.forall_mem_cons.mpr ⟨⟨rfl, okX2_name_38⟩, List.forall_mem_cons.mpr ⟨⟨rfl, okX2_name_39⟩, fun _ h => nomatch h⟩⟩⟩⟩⟩) (xokH0 rfl (fun _ _ => rfl)) (by decide +kernel) (by decide)
abbrev cX2_call : ByteArray := prog_21_method_21_code
def dkwX2_call_4 : List UInt8 := [182, 0, 69, 87, 187, 0, 212, 89, 27, 28, 29, 25, 4, 25, 5, 183, 0, 214, 176]
abbrev dktX2_call_4 : List UInt8 := dkwX2_call_4 ++ []
def dkwX2_call_3 : List UInt8 := [16, 44, 182, 0, 69, 87, 42, 182, 0, 182, 58, 5, 42, 16, 41, 182, 0, 69, 87, 42, 16, 59]
abbrev dktX2_call_3 : List UInt8 := dkwX2_call_3 ++ dktX2_call_4
def dkwX2_call_2 : List UInt8 := [89, 180, 0, 102, 4, 96, 181, 0, 102, 42, 16, 40, 182, 0, 69, 87, 42, 182, 0, 182, 58, 4, 42]
abbrev dktX2_call_2 : List UInt8 := dkwX2_call_2 ++ dktX2_call_3
def dkwX2_call_1 : List UInt8 := [180, 0, 17, 42, 180, 0, 102, 42, 7, 182, 0, 69, 79, 42, 180, 0, 17, 42, 180, 0, 102, 46, 62, 42]
abbrev dktX2_call_1 : List UInt8 := dkwX2_call_1 ++ dktX2_call_2
def dkwX2_call_0 : List UInt8 := [42, 89, 180, 0, 33, 4, 96, 181, 0, 33, 42, 180, 0, 21, 42, 180, 0, 102, 42, 182, 0, 49, 79, 42]
abbrev dktX2_call_0 : List UInt8 := dkwX2_call_0 ++ dktX2_call_1
theorem dksX2_call_0 : cX2_call.data.toList.drop 0 = dktX2_call_0 := by decide +kernel
theorem dksX2_call_1 : cX2_call.data.toList.drop 24 = dktX2_call_1 := dk_seg dksX2_call_0 24 rfl rfl
theorem dksX2_call_2 : cX2_call.data.toList.drop 48 = dktX2_call_2 := dk_seg dksX2_call_1 24 rfl rfl
theorem dksX2_call_3 : cX2_call.data.toList.drop 71 = dktX2_call_3 := dk_seg dksX2_call_2 23 rfl rfl
theorem dksX2_call_4 : cX2_call.data.toList.drop 93 = dktX2_call_4 := dk_seg dksX2_call_3 22 rfl rfl
theorem dX2_call_0 : decode cX2_call 0 = .ok (.aload_n 0, 1) := dk_42 (dk_at dksX2_call_0 0 rfl rfl)
theorem dX2_call_1 : decode cX2_call 1 = .ok (.dup, 1) := dk_89 (dk_at dksX2_call_0 1 rfl rfl)
theorem dX2_call_2 : decode cX2_call 2 = .ok (.getfield 33, 3) := dk_180 0 33 (dk_at dksX2_call_0 2 rfl rfl)
theorem dX2_call_5 : decode cX2_call 5 = .ok (.iconst 1, 1) := dk_4 (dk_at dksX2_call_0 5 rfl rfl)
theorem dX2_call_6 : decode cX2_call 6 = .ok (.iadd, 1) := dk_96 (dk_at dksX2_call_0 6 rfl rfl)
theorem dX2_call_7 : decode cX2_call 7 = .ok (.putfield 33, 3) := dk_181 0 33 (dk_at dksX2_call_0 7 rfl rfl)
theorem dX2_call_10 : decode cX2_call 10 = .ok (.aload_n 0, 1) := dk_42 (dk_at dksX2_call_0 10 rfl rfl)
theorem dX2_call_11 : decode cX2_call 11 = .ok (.getfield 21, 3) := dk_180 0 21 (dk_at dksX2_call_0 11 rfl rfl)
theorem dX2_call_14 : decode cX2_call 14 = .ok (.aload_n 0, 1) := dk_42 (dk_at dksX2_call_0 14 rfl rfl)
theorem dX2_call_15 : decode cX2_call 15 = .ok (.getfield 102, 3) := dk_180 0 102 (dk_at dksX2_call_0 15 rfl rfl)
theorem dX2_call_18 : decode cX2_call 18 = .ok (.aload_n 0, 1) := dk_42 (dk_at dksX2_call_0 18 rfl rfl)
theorem dX2_call_19 : decode cX2_call 19 = .ok (.invokevirtual 49, 3) := dk_182 0 49 (dk_at dksX2_call_0 19 rfl rfl)
theorem dX2_call_22 : decode cX2_call 22 = .ok (.iastore, 1) := dk_79 (dk_at dksX2_call_0 22 rfl rfl)
theorem dX2_call_23 : decode cX2_call 23 = .ok (.aload_n 0, 1) := dk_42 (dk_at dksX2_call_0 23 rfl rfl)
theorem dX2_call_24 : decode cX2_call 24 = .ok (.getfield 17, 3) := dk_180 0 17 (dk_at dksX2_call_1 0 rfl rfl)
theorem dX2_call_27 : decode cX2_call 27 = .ok (.aload_n 0, 1) := dk_42 (dk_at dksX2_call_1 3 rfl rfl)
theorem dX2_call_28 : decode cX2_call 28 = .ok (.getfield 102, 3) := dk_180 0 102 (dk_at dksX2_call_1 4 rfl rfl)
theorem dX2_call_31 : decode cX2_call 31 = .ok (.aload_n 0, 1) := dk_42 (dk_at dksX2_call_1 7 rfl rfl)
theorem dX2_call_32 : decode cX2_call 32 = .ok (.iconst 4, 1) := dk_7 (dk_at dksX2_call_1 8 rfl rfl)
theorem dX2_call_33 : decode cX2_call 33 = .ok (.invokevirtual 69, 3) := dk_182 0 69 (dk_at dksX2_call_1 9 rfl rfl)
theorem dX2_call_36 : decode cX2_call 36 = .ok (.iastore, 1) := dk_79 (dk_at dksX2_call_1 12 rfl rfl)
theorem dX2_call_37 : decode cX2_call 37 = .ok (.aload_n 0, 1) := dk_42 (dk_at dksX2_call_1 13 rfl rfl)
theorem dX2_call_38 : decode cX2_call 38 = .ok (.getfield 17, 3) := dk_180 0 17 (dk_at dksX2_call_1 14 rfl rfl)
theorem dX2_call_41 : decode cX2_call 41 = .ok (.aload_n 0, 1) := dk_42 (dk_at dksX2_call_1 17 rfl rfl)
theorem dX2_call_42 : decode cX2_call 42 = .ok (.getfield 102, 3) := dk_180 0 102 (dk_at dksX2_call_1 18 rfl rfl)
theorem dX2_call_45 : decode cX2_call 45 = .ok (.iaload, 1) := dk_46 (dk_at dksX2_call_1 21 rfl rfl)
theorem dX2_call_46 : decode cX2_call 46 = .ok (.istore_n 3, 1) := dk_62 (dk_at dksX2_call_1 22 rfl rfl)
theorem dX2_call_47 : decode cX2_call 47 = .ok (.aload_n 0, 1) := dk_42 (dk_at dksX2_call_1 23 rfl rfl)
theorem dX2_call_48 : decode cX2_call 48 = .ok (.dup, 1) := dk_89 (dk_at dksX2_call_2 0 rfl rfl)
theorem dX2_call_49 : decode cX2_call 49 = .ok (.getfield 102, 3) := dk_180 0 102 (dk_at dksX2_call_2 1 rfl rfl)
theorem dX2_call_52 : decode cX2_call 52 = .ok (.iconst 1, 1) := dk_4 (dk_at dksX2_call_2 4 rfl rfl)
theorem dX2_call_53 : decode cX2_call 53 = .ok (.iadd, 1) := dk_96 (dk_at dksX2_call_2 5 rfl rfl)
theorem dX2_call_54 : decode cX2_call 54 = .ok (.putfield 102, 3) := dk_181 0 102 (dk_at dksX2_call_2 6 rfl rfl)
theorem dX2_call_57 : decode cX2_call 57 = .ok (.aload_n 0, 1) := dk_42 (dk_at dksX2_call_2 9 rfl rfl)
theorem dX2_call_58 : decode cX2_call 58 = .ok (.bipush 40, 2) := dk_16 40 (dk_at dksX2_call_2 10 rfl rfl)
theorem dX2_call_60 : decode cX2_call 60 = .ok (.invokevirtual 69, 3) := dk_182 0 69 (dk_at dksX2_call_2 12 rfl rfl)
theorem dX2_call_63 : decode cX2_call 63 = .ok (.pop, 1) := dk_87 (dk_at dksX2_call_2 15 rfl rfl)
theorem dX2_call_64 : decode cX2_call 64 = .ok (.aload_n 0, 1) := dk_42 (dk_at dksX2_call_2 16 rfl rfl)
theorem dX2_call_65 : decode cX2_call 65 = .ok (.invokevirtual 182, 3) := dk_182 0 182 (dk_at dksX2_call_2 17 rfl rfl)
theorem dX2_call_68 : decode cX2_call 68 = .ok (.astore 4, 2) := dk_58 4 (dk_at dksX2_call_2 20 rfl rfl)
theorem dX2_call_70 : decode cX2_call 70 = .ok (.aload_n 0, 1) := dk_42 (dk_at dksX2_call_2 22 rfl rfl)
theorem dX2_call_71 : decode cX2_call 71 = .ok (.bipush 44, 2) := dk_16 44 (dk_at dksX2_call_3 0 rfl rfl)
theorem dX2_call_73 : decode cX2_call 73 = .ok (.invokevirtual 69, 3) := dk_182 0 69 (dk_at dksX2_call_3 2 rfl rfl)
theorem dX2_call_76 : decode cX2_call 76 = .ok (.pop, 1) := dk_87 (dk_at dksX2_call_3 5 rfl rfl)
theorem dX2_call_77 : decode cX2_call 77 = .ok (.aload_n 0, 1) := dk_42 (dk_at dksX2_call_3 6 rfl rfl)
theorem dX2_call_78 : decode cX2_call 78 = .ok (.invokevirtual 182, 3) := dk_182 0 182 (dk_at dksX2_call_3 7 rfl rfl)
theorem dX2_call_81 : decode cX2_call 81 = .ok (.astore 5, 2) := dk_58 5 (dk_at dksX2_call_3 10 rfl rfl)
theorem dX2_call_83 : decode cX2_call 83 = .ok (.aload_n 0, 1) := dk_42 (dk_at dksX2_call_3 12 rfl rfl)
theorem dX2_call_84 : decode cX2_call 84 = .ok (.bipush 41, 2) := dk_16 41 (dk_at dksX2_call_3 13 rfl rfl)
theorem dX2_call_86 : decode cX2_call 86 = .ok (.invokevirtual 69, 3) := dk_182 0 69 (dk_at dksX2_call_3 15 rfl rfl)
theorem dX2_call_89 : decode cX2_call 89 = .ok (.pop, 1) := dk_87 (dk_at dksX2_call_3 18 rfl rfl)
theorem dX2_call_90 : decode cX2_call 90 = .ok (.aload_n 0, 1) := dk_42 (dk_at dksX2_call_3 19 rfl rfl)
theorem dX2_call_91 : decode cX2_call 91 = .ok (.bipush 59, 2) := dk_16 59 (dk_at dksX2_call_3 20 rfl rfl)
theorem dX2_call_93 : decode cX2_call 93 = .ok (.invokevirtual 69, 3) := dk_182 0 69 (dk_at dksX2_call_4 0 rfl rfl)
theorem dX2_call_96 : decode cX2_call 96 = .ok (.pop, 1) := dk_87 (dk_at dksX2_call_4 3 rfl rfl)
theorem dX2_call_97 : decode cX2_call 97 = .ok (.new 212, 3) := dk_187 0 212 (dk_at dksX2_call_4 4 rfl rfl)
theorem dX2_call_100 : decode cX2_call 100 = .ok (.dup, 1) := dk_89 (dk_at dksX2_call_4 7 rfl rfl)
theorem dX2_call_101 : decode cX2_call 101 = .ok (.iload_n 1, 1) := dk_27 (dk_at dksX2_call_4 8 rfl rfl)
theorem dX2_call_102 : decode cX2_call 102 = .ok (.iload_n 2, 1) := dk_28 (dk_at dksX2_call_4 9 rfl rfl)
theorem dX2_call_103 : decode cX2_call 103 = .ok (.iload_n 3, 1) := dk_29 (dk_at dksX2_call_4 10 rfl rfl)
theorem dX2_call_104 : decode cX2_call 104 = .ok (.aload 4, 2) := dk_25 4 (dk_at dksX2_call_4 11 rfl rfl)
theorem dX2_call_106 : decode cX2_call 106 = .ok (.aload 5, 2) := dk_25 5 (dk_at dksX2_call_4 13 rfl rfl)
theorem dX2_call_108 : decode cX2_call 108 = .ok (.invokespecial 214, 3) := dk_183 0 214 (dk_at dksX2_call_4 15 rfl rfl)
theorem dX2_call_111 : decode cX2_call 111 = .ok (.areturn, 1) := dk_176 (dk_at dksX2_call_4 18 rfl rfl)
theorem okX2_call_0 : XOkL xms rX2_call bX2_call_0 := xcP (xok_aload_n dX2_call_0 rfl) rfl (xcP (xok_dup dX2_call_1) rfl (xcP (xok_getfield (ref := "WaysAtlas$Reader") (Or.inl ⟨rfl, by decide⟩) dX2_call_2 (Or.inl ⟨q233, (Or.inl rfl)⟩) xh5) rfl (xcP (xok_iconst dX2_call_5 rfl) rfl (xcP (xok_iadd dX2_call_6) rfl (xcP (xok_putfield (ref := "WaysAtlas$Reader") (Or.inl ⟨rfl, by decide, rfl⟩) dX2_call_7 (Or.inl ⟨q233, (Or.inl rfl)⟩) (Or.inl rfl) xh5) rfl (xcP (xok_aload_n dX2_call_10 rfl) rfl (xcP (xok_getfield (ref := "WaysAtlas$Reader") (Or.inr ⟨rfl, by decide⟩) dX2_call_11 (Or.inl ⟨q242, (Or.inl rfl)⟩) xh1019) rfl (xcP (xok_aload_n dX2_call_14 rfl) rfl (xcP (xok_getfield (ref := "WaysAtlas$Reader") (Or.inl ⟨rfl, by decide⟩) dX2_call_15 (Or.inl ⟨q243, (Or.inl rfl)⟩) xh11) rfl (xcP (xok_aload_n dX2_call_18 rfl) rfl (xcC0 (xokc_list (List.forall_mem_cons.mpr ⟨xokc_V (r := (RX2, TX2, 13)) xm44 (List.mem_of_getElem? (i := 2) rfl) (by decide) rfl dX2_call_19 q795 q797 qs10 q140 q798 (by decide +kernel), fun _ h => nomatch h⟩)) rfl (xcP (xok_iastore dX2_call_22) rfl (xcP (xok_aload_n dX2_call_23 rfl) rfl (xcP (xok_getfield (ref := "WaysAtlas$Reader") (Or.inr ⟨rfl, by decide⟩) dX2_call_24 (Or.inl ⟨q241, (Or.inl rfl)⟩) xh1018) rfl (xcP (xok_aload_n dX2_call_27 rfl) rfl (xcP (xok_getfield (ref := "WaysAtlas$Reader") (Or.inl ⟨rfl, by decide⟩) dX2_call_28 (Or.inl ⟨q243, (Or.inl rfl)⟩) xh11) rfl (xcP (xok_aload_n dX2_call_31 rfl) rfl (xcP (xok_iconst dX2_call_32 rfl) rfl (xcC0 (xokc_list (List.forall_mem_cons.mpr ⟨xokc_V (r := (RX2, TX2, 13)) xm48 (List.mem_of_getElem? (i := 2) rfl) (by decide) rfl dX2_call_33 q826 q828 qs14 q140 q829 (by decide +kernel), fun _ h => nomatch h⟩)) rfl (xcP (xok_iastore dX2_call_36) rfl (xcP (xok_aload_n dX2_call_37 rfl) rfl (xcP (xok_getfield (ref := "WaysAtlas$Reader") (Or.inr ⟨rfl, by decide⟩) dX2_call_38 (Or.inl ⟨q241, (Or.inl rfl)⟩) xh1018) rfl (xcP (xok_aload_n dX2_call_41 rfl) rfl (xcP (xok_getfield (ref := "WaysAtlas$Reader") (Or.inl ⟨rfl, by decide⟩) dX2_call_42 (Or.inl ⟨q243, (Or.inl rfl)⟩) xh11) rfl (xcP (xok_iaload dX2_call_45) rfl (xcP (xok_istore_n dX2_call_46 rfl) rfl (xcP (xok_aload_n dX2_call_47 rfl) rfl (xcP (xok_dup dX2_call_48) rfl (xcP (xok_getfield (ref := "WaysAtlas$Reader") (Or.inl ⟨rfl, by decide⟩) dX2_call_49 (Or.inl ⟨q243, (Or.inl rfl)⟩) xh11) rfl (xcP (xok_iconst dX2_call_52 rfl) rfl (xcP (xok_iadd dX2_call_53) rfl (xcP (xok_putfield (ref := "WaysAtlas$Reader") (Or.inl ⟨rfl, by decide, rfl⟩) dX2_call_54 (Or.inl ⟨q243, (Or.inl rfl)⟩) (Or.inl rfl) xh11) rfl (xcP (xok_aload_n dX2_call_57 rfl) rfl (xcP (xok_bipush dX2_call_58 rfl) rfl (xcC0 (xokc_list (List.forall_mem_cons.mpr ⟨xokc_V (r := (RX2, TX2, 13)) xm48 (List.mem_of_getElem? (i := 2) rfl) (by decide) rfl dX2_call_60 q826 q828 qs14 q140 q829 (by decide +kernel), fun _ h => nomatch h⟩)) rfl (xcP (xok_pop dX2_call_63) rfl (xcP (xok_aload_n dX2_call_64 rfl) rfl (xcC0 (xokc_list (List.forall_mem_cons.mpr ⟨xokc_V (r := (RX2, TX2, 13)) xm57 (List.mem_of_getElem? (i := 2) rfl) (by decide) rfl dX2_call_65 q886 q888 qs23 q140 q889 (by decide +kernel), fun _ h => nomatch h⟩)) rfl (xcP (xok_astore dX2_call_68) rfl (xcP (xok_aload_n dX2_call_70 rfl) rfl (xcP (xok_bipush dX2_call_71 rfl) rfl (xcC0 (xokc_list (List.forall_mem_cons.mpr ⟨xokc_V (r := (RX2, TX2, 13)) xm48 (List.mem_of_getElem? (i := 2) rfl) (by decide) rfl dX2_call_73 q826 q828 qs14 q140 q829 (by decide +kernel), fun _ h => nomatch h⟩)) rfl (xcP (xok_pop dX2_call_76) rfl (xcP (xok_aload_n dX2_call_77 rfl) rfl (xcC0 (xokc_list (List.forall_mem_cons.mpr ⟨xokc_V (r := (RX2, TX2, 13)) xm57 (List.mem_of_getElem? (i := 2) rfl) (by decide) rfl dX2_call_78 q886 q888 qs23 q140 q889 (by decide +kernel), fun _ h => nomatch h⟩)) rfl (xcP (xok_astore dX2_call_81) rfl (xcP (xok_aload_n dX2_call_83 rfl) rfl (xcP (xok_bipush dX2_call_84 rfl) rfl (xcC0 (xokc_list (List.forall_mem_cons.mpr ⟨xokc_V (r := (RX2, TX2, 13)) xm48 (List.mem_of_getElem? (i := 2) rfl) (by decide) rfl dX2_call_86 q826 q828 qs14 q140 q829 (by decide +kernel), fun _ h => nomatch h⟩)) rfl (xcP (xok_pop dX2_call_89) rfl (xcP (xok_aload_n dX2_call_90 rfl) rfl (xcP (xok_bipush dX2_call_91 rfl) rfl (xcC0 (xokc_list (List.forall_mem_cons.mpr ⟨xokc_V (r := (RX2, TX2, 13)) xm48 (List.mem_of_getElem? (i := 2) rfl) (by decide) rfl dX2_call_93 q826 q828 qs14 q140 q829 (by decide +kernel), fun _ h => nomatch h⟩)) rfl (xcP (xok_pop dX2_call_96) rfl (xcP (xok_new (r := (RX18, TX18, 5)) (List.mem_of_getElem? (i := 16) rfl) rfl (by decide) dX2_call_97 q955 q956 q163) rfl (xcP (xok_dup dX2_call_100) rfl (xcP (xok_iload_n dX2_call_101 rfl) rfl (xcP (xok_iload_n dX2_call_102 rfl) rfl (xcP (xok_iload_n dX2_call_103 rfl) rfl (xcP (xok_aload dX2_call_104) rfl (xcP (xok_aload dX2_call_106) rfl (xcC0 (xokc_I xm217 rfl rfl dX2_call_108 q957 q958 q163 q959 rfl (by decide +kernel)) rfl (xcR ⟨dX2_call_111, _, rfl, Or.inl ⟨_, rfl⟩⟩)))))))))))))))))))))))))))))))))))))))))))))))))))))))))))))))
theorem okM_X2_call : XOkM xms rX2_call := xokM0 (List.forall_mem_cons.mpr ⟨⟨rfl, okX2_call_0⟩, fun _ h => nomatch h⟩) (xokH0 rfl (fun _ _ => rfl)) (by decide +kernel) (by decide)
abbrev cX2_sum : ByteArray := prog_21_method_25_code
def dkwX2_sum_2 : List UInt8 := [183, 1, 32, 76, 167, 255, 209, 43, 176]
abbrev dktX2_sum_2 : List UInt8 := dkwX2_sum_2 ++ []
def dkwX2_sum_1 : List UInt8 := [182, 0, 40, 61, 42, 89, 180, 0, 33, 4, 96, 181, 0, 33, 187, 1, 30, 89, 28, 43, 42, 182, 1, 27]
abbrev dktX2_sum_1 : List UInt8 := dkwX2_sum_1 ++ dktX2_sum_2
def dkwX2_sum_0 : List UInt8 := [42, 182, 1, 27, 76, 42, 182, 0, 40, 16, 43, 159, 0, 12, 42, 182, 0, 40, 16, 45, 160, 0, 35, 42]
abbrev dktX2_sum_0 : List UInt8 := dkwX2_sum_0 ++ dktX2_sum_1
theorem dksX2_sum_0 : cX2_sum.data.toList.drop 0 = dktX2_sum_0 := by decide +kernel
theorem dksX2_sum_1 : cX2_sum.data.toList.drop 24 = dktX2_sum_1 := dk_seg dksX2_sum_0 24 rfl rfl
theorem dksX2_sum_2 : cX2_sum.data.toList.drop 48 = dktX2_sum_2 := dk_seg dksX2_sum_1 24 rfl rfl
theorem dX2_sum_0 : decode cX2_sum 0 = .ok (.aload_n 0, 1) := dk_42 (dk_at dksX2_sum_0 0 rfl rfl)
theorem dX2_sum_1 : decode cX2_sum 1 = .ok (.invokevirtual 283, 3) := dk_182 1 27 (dk_at dksX2_sum_0 1 rfl rfl)
theorem dX2_sum_4 : decode cX2_sum 4 = .ok (.astore_n 1, 1) := dk_76 (dk_at dksX2_sum_0 4 rfl rfl)
theorem dX2_sum_5 : decode cX2_sum 5 = .ok (.aload_n 0, 1) := dk_42 (dk_at dksX2_sum_0 5 rfl rfl)
theorem dX2_sum_6 : decode cX2_sum 6 = .ok (.invokevirtual 40, 3) := dk_182 0 40 (dk_at dksX2_sum_0 6 rfl rfl)
theorem dX2_sum_9 : decode cX2_sum 9 = .ok (.bipush 43, 2) := dk_16 43 (dk_at dksX2_sum_0 9 rfl rfl)
theorem dX2_sum_11 : decode cX2_sum 11 = .ok (.if_icmp .eq 12, 3) := dk_159 0 12 (dk_at dksX2_sum_0 11 rfl rfl)
theorem dX2_sum_14 : decode cX2_sum 14 = .ok (.aload_n 0, 1) := dk_42 (dk_at dksX2_sum_0 14 rfl rfl)
theorem dX2_sum_15 : decode cX2_sum 15 = .ok (.invokevirtual 40, 3) := dk_182 0 40 (dk_at dksX2_sum_0 15 rfl rfl)
theorem dX2_sum_18 : decode cX2_sum 18 = .ok (.bipush 45, 2) := dk_16 45 (dk_at dksX2_sum_0 18 rfl rfl)
theorem dX2_sum_20 : decode cX2_sum 20 = .ok (.if_icmp .ne 35, 3) := dk_160 0 35 (dk_at dksX2_sum_0 20 rfl rfl)
theorem dX2_sum_23 : decode cX2_sum 23 = .ok (.aload_n 0, 1) := dk_42 (dk_at dksX2_sum_0 23 rfl rfl)
theorem dX2_sum_24 : decode cX2_sum 24 = .ok (.invokevirtual 40, 3) := dk_182 0 40 (dk_at dksX2_sum_1 0 rfl rfl)
theorem dX2_sum_27 : decode cX2_sum 27 = .ok (.istore_n 2, 1) := dk_61 (dk_at dksX2_sum_1 3 rfl rfl)
theorem dX2_sum_28 : decode cX2_sum 28 = .ok (.aload_n 0, 1) := dk_42 (dk_at dksX2_sum_1 4 rfl rfl)
theorem dX2_sum_29 : decode cX2_sum 29 = .ok (.dup, 1) := dk_89 (dk_at dksX2_sum_1 5 rfl rfl)
theorem dX2_sum_30 : decode cX2_sum 30 = .ok (.getfield 33, 3) := dk_180 0 33 (dk_at dksX2_sum_1 6 rfl rfl)
theorem dX2_sum_33 : decode cX2_sum 33 = .ok (.iconst 1, 1) := dk_4 (dk_at dksX2_sum_1 9 rfl rfl)
theorem dX2_sum_34 : decode cX2_sum 34 = .ok (.iadd, 1) := dk_96 (dk_at dksX2_sum_1 10 rfl rfl)
theorem dX2_sum_35 : decode cX2_sum 35 = .ok (.putfield 33, 3) := dk_181 0 33 (dk_at dksX2_sum_1 11 rfl rfl)
theorem dX2_sum_38 : decode cX2_sum 38 = .ok (.new 286, 3) := dk_187 1 30 (dk_at dksX2_sum_1 14 rfl rfl)
theorem dX2_sum_41 : decode cX2_sum 41 = .ok (.dup, 1) := dk_89 (dk_at dksX2_sum_1 17 rfl rfl)
theorem dX2_sum_42 : decode cX2_sum 42 = .ok (.iload_n 2, 1) := dk_28 (dk_at dksX2_sum_1 18 rfl rfl)
theorem dX2_sum_43 : decode cX2_sum 43 = .ok (.aload_n 1, 1) := dk_43 (dk_at dksX2_sum_1 19 rfl rfl)
theorem dX2_sum_44 : decode cX2_sum 44 = .ok (.aload_n 0, 1) := dk_42 (dk_at dksX2_sum_1 20 rfl rfl)
theorem dX2_sum_45 : decode cX2_sum 45 = .ok (.invokevirtual 283, 3) := dk_182 1 27 (dk_at dksX2_sum_1 21 rfl rfl)
theorem dX2_sum_48 : decode cX2_sum 48 = .ok (.invokespecial 288, 3) := dk_183 1 32 (dk_at dksX2_sum_2 0 rfl rfl)
theorem dX2_sum_51 : decode cX2_sum 51 = .ok (.astore_n 1, 1) := dk_76 (dk_at dksX2_sum_2 3 rfl rfl)
theorem dX2_sum_52 : decode cX2_sum 52 = .ok (.goto (-47), 3) := dk_167 255 209 (dk_at dksX2_sum_2 4 rfl rfl)
theorem dX2_sum_55 : decode cX2_sum 55 = .ok (.aload_n 1, 1) := dk_43 (dk_at dksX2_sum_2 7 rfl rfl)
theorem dX2_sum_56 : decode cX2_sum 56 = .ok (.areturn, 1) := dk_176 (dk_at dksX2_sum_2 8 rfl rfl)
theorem okX2_sum_0 : XOkL xms rX2_sum bX2_sum_0 := xcP (xok_aload_n dX2_sum_0 rfl) rfl (xcC0 (xokc_list (List.forall_mem_cons.mpr ⟨xokc_V (r := (RX2, TX2, 13)) xm58 (List.mem_of_getElem? (i := 2) rfl) (by decide) rfl dX2_sum_1 q890 q892 qs24 q140 q893 (by decide +kernel), fun _ h => nomatch h⟩)) rfl (xcP (xok_astore_n dX2_sum_4 rfl) rfl (xcP xok_fal rfl trivial)))
theorem okX2_sum_5 : XOkL xms rX2_sum bX2_sum_5 := xcP (xok_aload_n dX2_sum_5 rfl) rfl (xcC0 (xokc_list (List.forall_mem_cons.mpr ⟨xokc_V (r := (RX2, TX2, 13)) xm42 (List.mem_of_getElem? (i := 2) rfl) (by decide) rfl dX2_sum_6 q778 q780 qs8 q140 q781 (by decide +kernel), fun _ h => nomatch h⟩)) rfl (xcP (xok_bipush dX2_sum_9 rfl) rfl (xcP (xok_icmpeq dX2_sum_11 (by decide)) rfl (xcP (xok_aload_n dX2_sum_14 rfl) rfl (xcC0 (xokc_list (List.forall_mem_cons.mpr ⟨xokc_V (r := (RX2, TX2, 13)) xm42 (List.mem_of_getElem? (i := 2) rfl) (by decide) rfl dX2_sum_15 q778 q780 qs8 q140 q781 (by decide +kernel), fun _ h => nomatch h⟩)) rfl (xcP (xok_bipush dX2_sum_18 rfl) rfl (xcP (xok_icmpne dX2_sum_20 (by decide)) rfl (xcP xok_fal rfl trivial))))))))
theorem okX2_sum_23 : XOkL xms rX2_sum bX2_sum_23 := xcP (xok_aload_n dX2_sum_23 rfl) rfl (xcC0 (xokc_list (List.forall_mem_cons.mpr ⟨xokc_V (r := (RX2, TX2, 13)) xm42 (List.mem_of_getElem? (i := 2) rfl) (by decide) rfl dX2_sum_24 q778 q780 qs8 q140 q781 (by decide +kernel), fun _ h => nomatch h⟩)) rfl (xcP (xok_istore_n dX2_sum_27 rfl) rfl (xcP (xok_aload_n dX2_sum_28 rfl) rfl (xcP (xok_dup dX2_sum_29) rfl (xcP (xok_getfield (ref := "WaysAtlas$Reader") (Or.inl ⟨rfl, by decide⟩) dX2_sum_30 (Or.inl ⟨q233, (Or.inl rfl)⟩) xh5) rfl (xcP (xok_iconst dX2_sum_33 rfl) rfl (xcP (xok_iadd dX2_sum_34) rfl (xcP (xok_putfield (ref := "WaysAtlas$Reader") (Or.inl ⟨rfl, by decide, rfl⟩) dX2_sum_35 (Or.inl ⟨q233, (Or.inl rfl)⟩) (Or.inl rfl) xh5) rfl (xcP (xok_new (r := (RX13, TX13, 3)) (List.mem_of_getElem? (i := 12) rfl) rfl (by decide) dX2_sum_38 q902 q903 q158) rfl (xcP (xok_dup dX2_sum_41) rfl (xcP (xok_iload_n dX2_sum_42 rfl) rfl (xcP (xok_aload_n dX2_sum_43 rfl) rfl (xcP (xok_aload_n dX2_sum_44 rfl) rfl (xcC0 (xokc_list (List.forall_mem_cons.mpr ⟨xokc_V (r := (RX2, TX2, 13)) xm58 (List.mem_of_getElem? (i := 2) rfl) (by decide) rfl dX2_sum_45 q890 q892 qs24 q140 q893 (by decide +kernel), fun _ h => nomatch h⟩)) rfl (xcC0 (xokc_I xm204 rfl rfl dX2_sum_48 q904 q905 q158 q906 rfl (by decide +kernel)) rfl (xcP (xok_astore_n dX2_sum_51 rfl) rfl (xcP (xok_goto dX2_sum_52 (by decide)) rfl trivial)))))))))))))))))
theorem okX2_sum_55 : XOkL xms rX2_sum bX2_sum_55 := xcP (xok_aload_n dX2_sum_55 rfl) rfl (xcR ⟨dX2_sum_56, _, rfl, Or.inl ⟨_, rfl⟩⟩)
theorem okM_X2_sum : XOkM xms rX2_sum := xokM0 (List.forall_mem_cons.mpr ⟨⟨rfl, okX2_sum_0⟩, List.forall_mem_cons.mpr ⟨⟨rfl, okX2_sum_5⟩, List.forall_mem_cons.mpr ⟨⟨rfl, okX2_sum_23⟩, List.forall_mem_cons.mpr ⟨⟨rfl, okX2_sum_55⟩, fun _ h => nomatch h⟩⟩⟩⟩) (xokH0 rfl (fun _ _ => rfl)) (by decide +kernel) (by decide)
abbrev cX2_term : ByteArray := prog_21_method_26_code
def dkwX2_term_2 : List UInt8 := [187, 1, 30, 89, 28, 43, 42, 182, 1, 35, 183, 1, 32, 76, 167, 255, 200, 43, 176]
abbrev dktX2_term_2 : List UInt8 := dkwX2_term_2 ++ []
def dkwX2_term_1 : List UInt8 := [182, 0, 40, 16, 37, 160, 0, 35, 42, 182, 0, 40, 61, 42, 89, 180, 0, 33, 4, 96, 181, 0, 33]
abbrev dktX2_term_1 : List UInt8 := dkwX2_term_1 ++ dktX2_term_2
def dkwX2_term_0 : List UInt8 := [42, 182, 1, 35, 76, 42, 182, 0, 40, 16, 42, 159, 0, 21, 42, 182, 0, 40, 16, 47, 159, 0, 12, 42]
abbrev dktX2_term_0 : List UInt8 := dkwX2_term_0 ++ dktX2_term_1
theorem dksX2_term_0 : cX2_term.data.toList.drop 0 = dktX2_term_0 := by decide +kernel
theorem dksX2_term_1 : cX2_term.data.toList.drop 24 = dktX2_term_1 := dk_seg dksX2_term_0 24 rfl rfl
theorem dksX2_term_2 : cX2_term.data.toList.drop 47 = dktX2_term_2 := dk_seg dksX2_term_1 23 rfl rfl
theorem dX2_term_0 : decode cX2_term 0 = .ok (.aload_n 0, 1) := dk_42 (dk_at dksX2_term_0 0 rfl rfl)
theorem dX2_term_1 : decode cX2_term 1 = .ok (.invokevirtual 291, 3) := dk_182 1 35 (dk_at dksX2_term_0 1 rfl rfl)
theorem dX2_term_4 : decode cX2_term 4 = .ok (.astore_n 1, 1) := dk_76 (dk_at dksX2_term_0 4 rfl rfl)
theorem dX2_term_5 : decode cX2_term 5 = .ok (.aload_n 0, 1) := dk_42 (dk_at dksX2_term_0 5 rfl rfl)
theorem dX2_term_6 : decode cX2_term 6 = .ok (.invokevirtual 40, 3) := dk_182 0 40 (dk_at dksX2_term_0 6 rfl rfl)
theorem dX2_term_9 : decode cX2_term 9 = .ok (.bipush 42, 2) := dk_16 42 (dk_at dksX2_term_0 9 rfl rfl)
theorem dX2_term_11 : decode cX2_term 11 = .ok (.if_icmp .eq 21, 3) := dk_159 0 21 (dk_at dksX2_term_0 11 rfl rfl)
theorem dX2_term_14 : decode cX2_term 14 = .ok (.aload_n 0, 1) := dk_42 (dk_at dksX2_term_0 14 rfl rfl)
theorem dX2_term_15 : decode cX2_term 15 = .ok (.invokevirtual 40, 3) := dk_182 0 40 (dk_at dksX2_term_0 15 rfl rfl)
theorem dX2_term_18 : decode cX2_term 18 = .ok (.bipush 47, 2) := dk_16 47 (dk_at dksX2_term_0 18 rfl rfl)
theorem dX2_term_20 : decode cX2_term 20 = .ok (.if_icmp .eq 12, 3) := dk_159 0 12 (dk_at dksX2_term_0 20 rfl rfl)
theorem dX2_term_23 : decode cX2_term 23 = .ok (.aload_n 0, 1) := dk_42 (dk_at dksX2_term_0 23 rfl rfl)
theorem dX2_term_24 : decode cX2_term 24 = .ok (.invokevirtual 40, 3) := dk_182 0 40 (dk_at dksX2_term_1 0 rfl rfl)
theorem dX2_term_27 : decode cX2_term 27 = .ok (.bipush 37, 2) := dk_16 37 (dk_at dksX2_term_1 3 rfl rfl)
theorem dX2_term_29 : decode cX2_term 29 = .ok (.if_icmp .ne 35, 3) := dk_160 0 35 (dk_at dksX2_term_1 5 rfl rfl)
theorem dX2_term_32 : decode cX2_term 32 = .ok (.aload_n 0, 1) := dk_42 (dk_at dksX2_term_1 8 rfl rfl)
theorem dX2_term_33 : decode cX2_term 33 = .ok (.invokevirtual 40, 3) := dk_182 0 40 (dk_at dksX2_term_1 9 rfl rfl)
theorem dX2_term_36 : decode cX2_term 36 = .ok (.istore_n 2, 1) := dk_61 (dk_at dksX2_term_1 12 rfl rfl)
theorem dX2_term_37 : decode cX2_term 37 = .ok (.aload_n 0, 1) := dk_42 (dk_at dksX2_term_1 13 rfl rfl)
theorem dX2_term_38 : decode cX2_term 38 = .ok (.dup, 1) := dk_89 (dk_at dksX2_term_1 14 rfl rfl)
theorem dX2_term_39 : decode cX2_term 39 = .ok (.getfield 33, 3) := dk_180 0 33 (dk_at dksX2_term_1 15 rfl rfl)
theorem dX2_term_42 : decode cX2_term 42 = .ok (.iconst 1, 1) := dk_4 (dk_at dksX2_term_1 18 rfl rfl)
theorem dX2_term_43 : decode cX2_term 43 = .ok (.iadd, 1) := dk_96 (dk_at dksX2_term_1 19 rfl rfl)
theorem dX2_term_44 : decode cX2_term 44 = .ok (.putfield 33, 3) := dk_181 0 33 (dk_at dksX2_term_1 20 rfl rfl)
theorem dX2_term_47 : decode cX2_term 47 = .ok (.new 286, 3) := dk_187 1 30 (dk_at dksX2_term_2 0 rfl rfl)
theorem dX2_term_50 : decode cX2_term 50 = .ok (.dup, 1) := dk_89 (dk_at dksX2_term_2 3 rfl rfl)
theorem dX2_term_51 : decode cX2_term 51 = .ok (.iload_n 2, 1) := dk_28 (dk_at dksX2_term_2 4 rfl rfl)
theorem dX2_term_52 : decode cX2_term 52 = .ok (.aload_n 1, 1) := dk_43 (dk_at dksX2_term_2 5 rfl rfl)
theorem dX2_term_53 : decode cX2_term 53 = .ok (.aload_n 0, 1) := dk_42 (dk_at dksX2_term_2 6 rfl rfl)
theorem dX2_term_54 : decode cX2_term 54 = .ok (.invokevirtual 291, 3) := dk_182 1 35 (dk_at dksX2_term_2 7 rfl rfl)
theorem dX2_term_57 : decode cX2_term 57 = .ok (.invokespecial 288, 3) := dk_183 1 32 (dk_at dksX2_term_2 10 rfl rfl)
theorem dX2_term_60 : decode cX2_term 60 = .ok (.astore_n 1, 1) := dk_76 (dk_at dksX2_term_2 13 rfl rfl)
theorem dX2_term_61 : decode cX2_term 61 = .ok (.goto (-56), 3) := dk_167 255 200 (dk_at dksX2_term_2 14 rfl rfl)
theorem dX2_term_64 : decode cX2_term 64 = .ok (.aload_n 1, 1) := dk_43 (dk_at dksX2_term_2 17 rfl rfl)
theorem dX2_term_65 : decode cX2_term 65 = .ok (.areturn, 1) := dk_176 (dk_at dksX2_term_2 18 rfl rfl)
theorem okX2_term_0 : XOkL xms rX2_term bX2_term_0 := xcP (xok_aload_n dX2_term_0 rfl) rfl (xcC0 (xokc_list (List.forall_mem_cons.mpr ⟨xokc_V (r := (RX2, TX2, 13)) xm59 (List.mem_of_getElem? (i := 2) rfl) (by decide) rfl dX2_term_1 q894 q896 qs25 q140 q897 (by decide +kernel), fun _ h => nomatch h⟩)) rfl (xcP (xok_astore_n dX2_term_4 rfl) rfl (xcP xok_fal rfl trivial)))
theorem okX2_term_5 : XOkL xms rX2_term bX2_term_5 := xcP (xok_aload_n dX2_term_5 rfl) rfl (xcC0 (xokc_list (List.forall_mem_cons.mpr ⟨xokc_V (r := (RX2, TX2, 13)) xm42 (List.mem_of_getElem? (i := 2) rfl) (by decide) rfl dX2_term_6 q778 q780 qs8 q140 q781 (by decide +kernel), fun _ h => nomatch h⟩)) rfl (xcP (xok_bipush dX2_term_9 rfl) rfl (xcP (xok_icmpeq dX2_term_11 (by decide)) rfl (xcP (xok_aload_n dX2_term_14 rfl) rfl (xcC0 (xokc_list (List.forall_mem_cons.mpr ⟨xokc_V (r := (RX2, TX2, 13)) xm42 (List.mem_of_getElem? (i := 2) rfl) (by decide) rfl dX2_term_15 q778 q780 qs8 q140 q781 (by decide +kernel), fun _ h => nomatch h⟩)) rfl (xcP (xok_bipush dX2_term_18 rfl) rfl (xcP (xok_icmpeq dX2_term_20 (by decide)) rfl (xcP (xok_aload_n dX2_term_23 rfl) rfl (xcC0 (xokc_list (List.forall_mem_cons.mpr ⟨xokc_V (r := (RX2, TX2, 13)) xm42 (List.mem_of_getElem? (i := 2) rfl) (by decide) rfl dX2_term_24 q778 q780 qs8 q140 q781 (by decide +kernel), fun _ h => nomatch h⟩)) rfl (xcP (xok_bipush dX2_term_27 rfl) rfl (xcP (xok_icmpne dX2_term_29 (by decide)) rfl (xcP xok_fal rfl trivial))))))))))))
theorem okX2_term_32 : XOkL xms rX2_term bX2_term_32 := xcP (xok_aload_n dX2_term_32 rfl) rfl (xcC0 (xokc_list (List.forall_mem_cons.mpr ⟨xokc_V (r := (RX2, TX2, 13)) xm42 (List.mem_of_getElem? (i := 2) rfl) (by decide) rfl dX2_term_33 q778 q780 qs8 q140 q781 (by decide +kernel), fun _ h => nomatch h⟩)) rfl (xcP (xok_istore_n dX2_term_36 rfl) rfl (xcP (xok_aload_n dX2_term_37 rfl) rfl (xcP (xok_dup dX2_term_38) rfl (xcP (xok_getfield (ref := "WaysAtlas$Reader") (Or.inl ⟨rfl, by decide⟩) dX2_term_39 (Or.inl ⟨q233, (Or.inl rfl)⟩) xh5) rfl (xcP (xok_iconst dX2_term_42 rfl) rfl (xcP (xok_iadd dX2_term_43) rfl (xcP (xok_putfield (ref := "WaysAtlas$Reader") (Or.inl ⟨rfl, by decide, rfl⟩) dX2_term_44 (Or.inl ⟨q233, (Or.inl rfl)⟩) (Or.inl rfl) xh5) rfl (xcP (xok_new (r := (RX13, TX13, 3)) (List.mem_of_getElem? (i := 12) rfl) rfl (by decide) dX2_term_47 q902 q903 q158) rfl (xcP (xok_dup dX2_term_50) rfl (xcP (xok_iload_n dX2_term_51 rfl) rfl (xcP (xok_aload_n dX2_term_52 rfl) rfl (xcP (xok_aload_n dX2_term_53 rfl) rfl (xcC0 (xokc_list (List.forall_mem_cons.mpr ⟨xokc_V (r := (RX2, TX2, 13)) xm59 (List.mem_of_getElem? (i := 2) rfl) (by decide) rfl dX2_term_54 q894 q896 qs25 q140 q897 (by decide +kernel), fun _ h => nomatch h⟩)) rfl (xcC0 (xokc_I xm204 rfl rfl dX2_term_57 q904 q905 q158 q906 rfl (by decide +kernel)) rfl (xcP (xok_astore_n dX2_term_60 rfl) rfl (xcP (xok_goto dX2_term_61 (by decide)) rfl trivial)))))))))))))))))
theorem okX2_term_64 : XOkL xms rX2_term bX2_term_64 := xcP (xok_aload_n dX2_term_64 rfl) rfl (xcR ⟨dX2_term_65, _, rfl, Or.inl ⟨_, rfl⟩⟩)
theorem okM_X2_term : XOkM xms rX2_term := xokM0 (List.forall_mem_cons.mpr ⟨⟨rfl, okX2_term_0⟩, List.forall_mem_cons.mpr ⟨⟨rfl, okX2_term_5⟩, List.forall_mem_cons.mpr ⟨⟨rfl, okX2_term_32⟩, List.forall_mem_cons.mpr ⟨⟨rfl, okX2_term_64⟩, fun _ h => nomatch h⟩⟩⟩⟩) (xokH0 rfl (fun _ _ => rfl)) (by decide +kernel) (by decide)
abbrev cX2_factor : ByteArray := prog_21_method_28_code
def dkwX2_factor_10 : List UInt8 := [176]
abbrev dktX2_factor_10 : List UInt8 := dkwX2_factor_10 ++ []
def dkwX2_factor_9 : List UInt8 := [6, 182, 0, 175, 60, 42, 89, 180, 0, 89, 4, 100, 181, 0, 89, 187, 0, 193, 89, 27, 1, 183, 0, 195]
abbrev dktX2_factor_9 : List UInt8 := dkwX2_factor_9 ++ dktX2_factor_10
def dkwX2_factor_8 : List UInt8 := [89, 27, 44, 183, 0, 195, 176, 42, 42, 16, 20, 182, 0, 58, 182, 0, 62, 42, 182, 1, 38, 42, 16, 6]
abbrev dktX2_factor_8 : List UInt8 := dkwX2_factor_8 ++ dktX2_factor_9
def dkwX2_factor_7 : List UInt8 := [182, 0, 182, 77, 42, 16, 93, 182, 0, 69, 87, 42, 89, 180, 0, 89, 4, 100, 181, 0, 89, 187, 0, 193]
abbrev dktX2_factor_7 : List UInt8 := dkwX2_factor_7 ++ dktX2_factor_8
def dkwX2_factor_6 : List UInt8 := [42, 42, 182, 0, 40, 16, 91, 160, 0, 7, 4, 167, 0, 4, 3, 182, 0, 62, 42, 182, 1, 38, 42]
abbrev dktX2_factor_6 : List UInt8 := dkwX2_factor_6 ++ dktX2_factor_7
def dkwX2_factor_5 : List UInt8 := [176, 187, 1, 44, 89, 42, 8, 16, 6, 182, 0, 175, 183, 1, 46, 176, 42, 16, 6, 6, 182, 0, 175, 60]
abbrev dktX2_factor_5 : List UInt8 := dkwX2_factor_5 ++ dktX2_factor_6
def dkwX2_factor_4 : List UInt8 := [89, 180, 0, 89, 4, 100, 181, 0, 89, 43, 176, 187, 1, 41, 89, 42, 16, 7, 182, 0, 69, 183, 1, 43]
abbrev dktX2_factor_4 : List UInt8 := dkwX2_factor_4 ++ dktX2_factor_5
def dkwX2_factor_3 : List UInt8 := [4, 100, 181, 0, 89, 43, 176, 42, 182, 1, 38, 42, 182, 0, 182, 76, 42, 16, 41, 182, 0, 69, 87, 42]
abbrev dktX2_factor_3 : List UInt8 := dkwX2_factor_3 ++ dktX2_factor_4
def dkwX2_factor_2 : List UInt8 := [42, 182, 1, 38, 187, 1, 30, 89, 16, 45, 1, 42, 182, 1, 35, 183, 1, 32, 76, 42, 89, 180, 0, 89]
abbrev dktX2_factor_2 : List UInt8 := dkwX2_factor_2 ++ dktX2_factor_3
def dkwX2_factor_1 : List UInt8 := [171, 0, 0, 0, 0, 0, 0, 202, 0, 0, 0, 5, 0, 0, 0, 5, 0, 0, 0, 125, 0, 0, 0, 6, 0, 0, 0, 140, 0, 0, 0, 7, 0, 0, 0, 111, 0, 0, 0, 40, 0, 0, 0, 83, 0, 0, 0, 45, 0, 0, 0, 52]
abbrev dktX2_factor_1 : List UInt8 := dkwX2_factor_1 ++ dktX2_factor_2
def dkwX2_factor_0 : List UInt8 := [42, 182, 0, 40]
abbrev dktX2_factor_0 : List UInt8 := dkwX2_factor_0 ++ dktX2_factor_1
theorem dksX2_factor_0 : cX2_factor.data.toList.drop 0 = dktX2_factor_0 := by decide +kernel
theorem dksX2_factor_1 : cX2_factor.data.toList.drop 4 = dktX2_factor_1 := dk_seg dksX2_factor_0 4 rfl rfl
theorem dksX2_factor_2 : cX2_factor.data.toList.drop 56 = dktX2_factor_2 := dk_seg dksX2_factor_1 52 rfl rfl
theorem dksX2_factor_3 : cX2_factor.data.toList.drop 80 = dktX2_factor_3 := dk_seg dksX2_factor_2 24 rfl rfl
theorem dksX2_factor_4 : cX2_factor.data.toList.drop 104 = dktX2_factor_4 := dk_seg dksX2_factor_3 24 rfl rfl
theorem dksX2_factor_5 : cX2_factor.data.toList.drop 128 = dktX2_factor_5 := dk_seg dksX2_factor_4 24 rfl rfl
theorem dksX2_factor_6 : cX2_factor.data.toList.drop 152 = dktX2_factor_6 := dk_seg dksX2_factor_5 24 rfl rfl
theorem dksX2_factor_7 : cX2_factor.data.toList.drop 175 = dktX2_factor_7 := dk_seg dksX2_factor_6 23 rfl rfl
theorem dksX2_factor_8 : cX2_factor.data.toList.drop 199 = dktX2_factor_8 := dk_seg dksX2_factor_7 24 rfl rfl
theorem dksX2_factor_9 : cX2_factor.data.toList.drop 223 = dktX2_factor_9 := dk_seg dksX2_factor_8 24 rfl rfl
theorem dksX2_factor_10 : cX2_factor.data.toList.drop 247 = dktX2_factor_10 := dk_seg dksX2_factor_9 24 rfl rfl
theorem dX2_factor_0 : decode cX2_factor 0 = .ok (.aload_n 0, 1) := dk_42 (dk_at dksX2_factor_0 0 rfl rfl)
theorem dX2_factor_1 : decode cX2_factor 1 = .ok (.invokevirtual 40, 3) := dk_182 0 40 (dk_at dksX2_factor_0 1 rfl rfl)
theorem dX2_factor_4 : decode cX2_factor 4 = .ok (.lookupswitch 202 #[(5, 125), (6, 140), (7, 111), (40, 83), (45, 52)], 52) := by decide +kernel
theorem dX2_factor_56 : decode cX2_factor 56 = .ok (.aload_n 0, 1) := dk_42 (dk_at dksX2_factor_2 0 rfl rfl)
theorem dX2_factor_57 : decode cX2_factor 57 = .ok (.invokevirtual 294, 3) := dk_182 1 38 (dk_at dksX2_factor_2 1 rfl rfl)
theorem dX2_factor_60 : decode cX2_factor 60 = .ok (.new 286, 3) := dk_187 1 30 (dk_at dksX2_factor_2 4 rfl rfl)
theorem dX2_factor_63 : decode cX2_factor 63 = .ok (.dup, 1) := dk_89 (dk_at dksX2_factor_2 7 rfl rfl)
theorem dX2_factor_64 : decode cX2_factor 64 = .ok (.bipush 45, 2) := dk_16 45 (dk_at dksX2_factor_2 8 rfl rfl)
theorem dX2_factor_66 : decode cX2_factor 66 = .ok (.aconst_null, 1) := dk_1 (dk_at dksX2_factor_2 10 rfl rfl)
theorem dX2_factor_67 : decode cX2_factor 67 = .ok (.aload_n 0, 1) := dk_42 (dk_at dksX2_factor_2 11 rfl rfl)
theorem dX2_factor_68 : decode cX2_factor 68 = .ok (.invokevirtual 291, 3) := dk_182 1 35 (dk_at dksX2_factor_2 12 rfl rfl)
theorem dX2_factor_71 : decode cX2_factor 71 = .ok (.invokespecial 288, 3) := dk_183 1 32 (dk_at dksX2_factor_2 15 rfl rfl)
theorem dX2_factor_74 : decode cX2_factor 74 = .ok (.astore_n 1, 1) := dk_76 (dk_at dksX2_factor_2 18 rfl rfl)
theorem dX2_factor_75 : decode cX2_factor 75 = .ok (.aload_n 0, 1) := dk_42 (dk_at dksX2_factor_2 19 rfl rfl)
theorem dX2_factor_76 : decode cX2_factor 76 = .ok (.dup, 1) := dk_89 (dk_at dksX2_factor_2 20 rfl rfl)
theorem dX2_factor_77 : decode cX2_factor 77 = .ok (.getfield 89, 3) := dk_180 0 89 (dk_at dksX2_factor_2 21 rfl rfl)
theorem dX2_factor_80 : decode cX2_factor 80 = .ok (.iconst 1, 1) := dk_4 (dk_at dksX2_factor_3 0 rfl rfl)
theorem dX2_factor_81 : decode cX2_factor 81 = .ok (.isub, 1) := dk_100 (dk_at dksX2_factor_3 1 rfl rfl)
theorem dX2_factor_82 : decode cX2_factor 82 = .ok (.putfield 89, 3) := dk_181 0 89 (dk_at dksX2_factor_3 2 rfl rfl)
theorem dX2_factor_85 : decode cX2_factor 85 = .ok (.aload_n 1, 1) := dk_43 (dk_at dksX2_factor_3 5 rfl rfl)
theorem dX2_factor_86 : decode cX2_factor 86 = .ok (.areturn, 1) := dk_176 (dk_at dksX2_factor_3 6 rfl rfl)
theorem dX2_factor_87 : decode cX2_factor 87 = .ok (.aload_n 0, 1) := dk_42 (dk_at dksX2_factor_3 7 rfl rfl)
theorem dX2_factor_88 : decode cX2_factor 88 = .ok (.invokevirtual 294, 3) := dk_182 1 38 (dk_at dksX2_factor_3 8 rfl rfl)
theorem dX2_factor_91 : decode cX2_factor 91 = .ok (.aload_n 0, 1) := dk_42 (dk_at dksX2_factor_3 11 rfl rfl)
theorem dX2_factor_92 : decode cX2_factor 92 = .ok (.invokevirtual 182, 3) := dk_182 0 182 (dk_at dksX2_factor_3 12 rfl rfl)
theorem dX2_factor_95 : decode cX2_factor 95 = .ok (.astore_n 1, 1) := dk_76 (dk_at dksX2_factor_3 15 rfl rfl)
theorem dX2_factor_96 : decode cX2_factor 96 = .ok (.aload_n 0, 1) := dk_42 (dk_at dksX2_factor_3 16 rfl rfl)
theorem dX2_factor_97 : decode cX2_factor 97 = .ok (.bipush 41, 2) := dk_16 41 (dk_at dksX2_factor_3 17 rfl rfl)
theorem dX2_factor_99 : decode cX2_factor 99 = .ok (.invokevirtual 69, 3) := dk_182 0 69 (dk_at dksX2_factor_3 19 rfl rfl)
theorem dX2_factor_102 : decode cX2_factor 102 = .ok (.pop, 1) := dk_87 (dk_at dksX2_factor_3 22 rfl rfl)
theorem dX2_factor_103 : decode cX2_factor 103 = .ok (.aload_n 0, 1) := dk_42 (dk_at dksX2_factor_3 23 rfl rfl)
theorem dX2_factor_104 : decode cX2_factor 104 = .ok (.dup, 1) := dk_89 (dk_at dksX2_factor_4 0 rfl rfl)
theorem dX2_factor_105 : decode cX2_factor 105 = .ok (.getfield 89, 3) := dk_180 0 89 (dk_at dksX2_factor_4 1 rfl rfl)
theorem dX2_factor_108 : decode cX2_factor 108 = .ok (.iconst 1, 1) := dk_4 (dk_at dksX2_factor_4 4 rfl rfl)
theorem dX2_factor_109 : decode cX2_factor 109 = .ok (.isub, 1) := dk_100 (dk_at dksX2_factor_4 5 rfl rfl)
theorem dX2_factor_110 : decode cX2_factor 110 = .ok (.putfield 89, 3) := dk_181 0 89 (dk_at dksX2_factor_4 6 rfl rfl)
theorem dX2_factor_113 : decode cX2_factor 113 = .ok (.aload_n 1, 1) := dk_43 (dk_at dksX2_factor_4 9 rfl rfl)
theorem dX2_factor_114 : decode cX2_factor 114 = .ok (.areturn, 1) := dk_176 (dk_at dksX2_factor_4 10 rfl rfl)
theorem dX2_factor_115 : decode cX2_factor 115 = .ok (.new 297, 3) := dk_187 1 41 (dk_at dksX2_factor_4 11 rfl rfl)
theorem dX2_factor_118 : decode cX2_factor 118 = .ok (.dup, 1) := dk_89 (dk_at dksX2_factor_4 14 rfl rfl)
theorem dX2_factor_119 : decode cX2_factor 119 = .ok (.aload_n 0, 1) := dk_42 (dk_at dksX2_factor_4 15 rfl rfl)
theorem dX2_factor_120 : decode cX2_factor 120 = .ok (.bipush 7, 2) := dk_16 7 (dk_at dksX2_factor_4 16 rfl rfl)
theorem dX2_factor_122 : decode cX2_factor 122 = .ok (.invokevirtual 69, 3) := dk_182 0 69 (dk_at dksX2_factor_4 18 rfl rfl)
theorem dX2_factor_125 : decode cX2_factor 125 = .ok (.invokespecial 299, 3) := dk_183 1 43 (dk_at dksX2_factor_4 21 rfl rfl)
theorem dX2_factor_128 : decode cX2_factor 128 = .ok (.areturn, 1) := dk_176 (dk_at dksX2_factor_5 0 rfl rfl)
theorem dX2_factor_129 : decode cX2_factor 129 = .ok (.new 300, 3) := dk_187 1 44 (dk_at dksX2_factor_5 1 rfl rfl)
theorem dX2_factor_132 : decode cX2_factor 132 = .ok (.dup, 1) := dk_89 (dk_at dksX2_factor_5 4 rfl rfl)
theorem dX2_factor_133 : decode cX2_factor 133 = .ok (.aload_n 0, 1) := dk_42 (dk_at dksX2_factor_5 5 rfl rfl)
theorem dX2_factor_134 : decode cX2_factor 134 = .ok (.iconst 5, 1) := dk_8 (dk_at dksX2_factor_5 6 rfl rfl)
theorem dX2_factor_135 : decode cX2_factor 135 = .ok (.bipush 6, 2) := dk_16 6 (dk_at dksX2_factor_5 7 rfl rfl)
theorem dX2_factor_137 : decode cX2_factor 137 = .ok (.invokevirtual 175, 3) := dk_182 0 175 (dk_at dksX2_factor_5 9 rfl rfl)
theorem dX2_factor_140 : decode cX2_factor 140 = .ok (.invokespecial 302, 3) := dk_183 1 46 (dk_at dksX2_factor_5 12 rfl rfl)
theorem dX2_factor_143 : decode cX2_factor 143 = .ok (.areturn, 1) := dk_176 (dk_at dksX2_factor_5 15 rfl rfl)
theorem dX2_factor_144 : decode cX2_factor 144 = .ok (.aload_n 0, 1) := dk_42 (dk_at dksX2_factor_5 16 rfl rfl)
theorem dX2_factor_145 : decode cX2_factor 145 = .ok (.bipush 6, 2) := dk_16 6 (dk_at dksX2_factor_5 17 rfl rfl)
theorem dX2_factor_147 : decode cX2_factor 147 = .ok (.iconst 3, 1) := dk_6 (dk_at dksX2_factor_5 19 rfl rfl)
theorem dX2_factor_148 : decode cX2_factor 148 = .ok (.invokevirtual 175, 3) := dk_182 0 175 (dk_at dksX2_factor_5 20 rfl rfl)
theorem dX2_factor_151 : decode cX2_factor 151 = .ok (.istore_n 1, 1) := dk_60 (dk_at dksX2_factor_5 23 rfl rfl)
theorem dX2_factor_152 : decode cX2_factor 152 = .ok (.aload_n 0, 1) := dk_42 (dk_at dksX2_factor_6 0 rfl rfl)
theorem dX2_factor_153 : decode cX2_factor 153 = .ok (.aload_n 0, 1) := dk_42 (dk_at dksX2_factor_6 1 rfl rfl)
theorem dX2_factor_154 : decode cX2_factor 154 = .ok (.invokevirtual 40, 3) := dk_182 0 40 (dk_at dksX2_factor_6 2 rfl rfl)
theorem dX2_factor_157 : decode cX2_factor 157 = .ok (.bipush 91, 2) := dk_16 91 (dk_at dksX2_factor_6 5 rfl rfl)
theorem dX2_factor_159 : decode cX2_factor 159 = .ok (.if_icmp .ne 7, 3) := dk_160 0 7 (dk_at dksX2_factor_6 7 rfl rfl)
theorem dX2_factor_162 : decode cX2_factor 162 = .ok (.iconst 1, 1) := dk_4 (dk_at dksX2_factor_6 10 rfl rfl)
theorem dX2_factor_163 : decode cX2_factor 163 = .ok (.goto 4, 3) := dk_167 0 4 (dk_at dksX2_factor_6 11 rfl rfl)
theorem dX2_factor_166 : decode cX2_factor 166 = .ok (.iconst 0, 1) := dk_3 (dk_at dksX2_factor_6 14 rfl rfl)
theorem dX2_factor_167 : decode cX2_factor 167 = .ok (.invokevirtual 62, 3) := dk_182 0 62 (dk_at dksX2_factor_6 15 rfl rfl)
theorem dX2_factor_170 : decode cX2_factor 170 = .ok (.aload_n 0, 1) := dk_42 (dk_at dksX2_factor_6 18 rfl rfl)
theorem dX2_factor_171 : decode cX2_factor 171 = .ok (.invokevirtual 294, 3) := dk_182 1 38 (dk_at dksX2_factor_6 19 rfl rfl)
theorem dX2_factor_174 : decode cX2_factor 174 = .ok (.aload_n 0, 1) := dk_42 (dk_at dksX2_factor_6 22 rfl rfl)
theorem dX2_factor_175 : decode cX2_factor 175 = .ok (.invokevirtual 182, 3) := dk_182 0 182 (dk_at dksX2_factor_7 0 rfl rfl)
theorem dX2_factor_178 : decode cX2_factor 178 = .ok (.astore_n 2, 1) := dk_77 (dk_at dksX2_factor_7 3 rfl rfl)
theorem dX2_factor_179 : decode cX2_factor 179 = .ok (.aload_n 0, 1) := dk_42 (dk_at dksX2_factor_7 4 rfl rfl)
theorem dX2_factor_180 : decode cX2_factor 180 = .ok (.bipush 93, 2) := dk_16 93 (dk_at dksX2_factor_7 5 rfl rfl)
theorem dX2_factor_182 : decode cX2_factor 182 = .ok (.invokevirtual 69, 3) := dk_182 0 69 (dk_at dksX2_factor_7 7 rfl rfl)
theorem dX2_factor_185 : decode cX2_factor 185 = .ok (.pop, 1) := dk_87 (dk_at dksX2_factor_7 10 rfl rfl)
theorem dX2_factor_186 : decode cX2_factor 186 = .ok (.aload_n 0, 1) := dk_42 (dk_at dksX2_factor_7 11 rfl rfl)
theorem dX2_factor_187 : decode cX2_factor 187 = .ok (.dup, 1) := dk_89 (dk_at dksX2_factor_7 12 rfl rfl)
theorem dX2_factor_188 : decode cX2_factor 188 = .ok (.getfield 89, 3) := dk_180 0 89 (dk_at dksX2_factor_7 13 rfl rfl)
theorem dX2_factor_191 : decode cX2_factor 191 = .ok (.iconst 1, 1) := dk_4 (dk_at dksX2_factor_7 16 rfl rfl)
theorem dX2_factor_192 : decode cX2_factor 192 = .ok (.isub, 1) := dk_100 (dk_at dksX2_factor_7 17 rfl rfl)
theorem dX2_factor_193 : decode cX2_factor 193 = .ok (.putfield 89, 3) := dk_181 0 89 (dk_at dksX2_factor_7 18 rfl rfl)
theorem dX2_factor_196 : decode cX2_factor 196 = .ok (.new 193, 3) := dk_187 0 193 (dk_at dksX2_factor_7 21 rfl rfl)
theorem dX2_factor_199 : decode cX2_factor 199 = .ok (.dup, 1) := dk_89 (dk_at dksX2_factor_8 0 rfl rfl)
theorem dX2_factor_200 : decode cX2_factor 200 = .ok (.iload_n 1, 1) := dk_27 (dk_at dksX2_factor_8 1 rfl rfl)
theorem dX2_factor_201 : decode cX2_factor 201 = .ok (.aload_n 2, 1) := dk_44 (dk_at dksX2_factor_8 2 rfl rfl)
theorem dX2_factor_202 : decode cX2_factor 202 = .ok (.invokespecial 195, 3) := dk_183 0 195 (dk_at dksX2_factor_8 3 rfl rfl)
theorem dX2_factor_205 : decode cX2_factor 205 = .ok (.areturn, 1) := dk_176 (dk_at dksX2_factor_8 6 rfl rfl)
theorem dX2_factor_206 : decode cX2_factor 206 = .ok (.aload_n 0, 1) := dk_42 (dk_at dksX2_factor_8 7 rfl rfl)
theorem dX2_factor_207 : decode cX2_factor 207 = .ok (.aload_n 0, 1) := dk_42 (dk_at dksX2_factor_8 8 rfl rfl)
theorem dX2_factor_208 : decode cX2_factor 208 = .ok (.bipush 20, 2) := dk_16 20 (dk_at dksX2_factor_8 9 rfl rfl)
theorem dX2_factor_210 : decode cX2_factor 210 = .ok (.invokevirtual 58, 3) := dk_182 0 58 (dk_at dksX2_factor_8 11 rfl rfl)
theorem dX2_factor_213 : decode cX2_factor 213 = .ok (.invokevirtual 62, 3) := dk_182 0 62 (dk_at dksX2_factor_8 14 rfl rfl)
theorem dX2_factor_216 : decode cX2_factor 216 = .ok (.aload_n 0, 1) := dk_42 (dk_at dksX2_factor_8 17 rfl rfl)
theorem dX2_factor_217 : decode cX2_factor 217 = .ok (.invokevirtual 294, 3) := dk_182 1 38 (dk_at dksX2_factor_8 18 rfl rfl)
theorem dX2_factor_220 : decode cX2_factor 220 = .ok (.aload_n 0, 1) := dk_42 (dk_at dksX2_factor_8 21 rfl rfl)
theorem dX2_factor_221 : decode cX2_factor 221 = .ok (.bipush 6, 2) := dk_16 6 (dk_at dksX2_factor_8 22 rfl rfl)
theorem dX2_factor_223 : decode cX2_factor 223 = .ok (.iconst 3, 1) := dk_6 (dk_at dksX2_factor_9 0 rfl rfl)
theorem dX2_factor_224 : decode cX2_factor 224 = .ok (.invokevirtual 175, 3) := dk_182 0 175 (dk_at dksX2_factor_9 1 rfl rfl)
theorem dX2_factor_227 : decode cX2_factor 227 = .ok (.istore_n 1, 1) := dk_60 (dk_at dksX2_factor_9 4 rfl rfl)
theorem dX2_factor_228 : decode cX2_factor 228 = .ok (.aload_n 0, 1) := dk_42 (dk_at dksX2_factor_9 5 rfl rfl)
theorem dX2_factor_229 : decode cX2_factor 229 = .ok (.dup, 1) := dk_89 (dk_at dksX2_factor_9 6 rfl rfl)
theorem dX2_factor_230 : decode cX2_factor 230 = .ok (.getfield 89, 3) := dk_180 0 89 (dk_at dksX2_factor_9 7 rfl rfl)
theorem dX2_factor_233 : decode cX2_factor 233 = .ok (.iconst 1, 1) := dk_4 (dk_at dksX2_factor_9 10 rfl rfl)
theorem dX2_factor_234 : decode cX2_factor 234 = .ok (.isub, 1) := dk_100 (dk_at dksX2_factor_9 11 rfl rfl)
theorem dX2_factor_235 : decode cX2_factor 235 = .ok (.putfield 89, 3) := dk_181 0 89 (dk_at dksX2_factor_9 12 rfl rfl)
theorem dX2_factor_238 : decode cX2_factor 238 = .ok (.new 193, 3) := dk_187 0 193 (dk_at dksX2_factor_9 15 rfl rfl)
theorem dX2_factor_241 : decode cX2_factor 241 = .ok (.dup, 1) := dk_89 (dk_at dksX2_factor_9 18 rfl rfl)
theorem dX2_factor_242 : decode cX2_factor 242 = .ok (.iload_n 1, 1) := dk_27 (dk_at dksX2_factor_9 19 rfl rfl)
theorem dX2_factor_243 : decode cX2_factor 243 = .ok (.aconst_null, 1) := dk_1 (dk_at dksX2_factor_9 20 rfl rfl)
theorem dX2_factor_244 : decode cX2_factor 244 = .ok (.invokespecial 195, 3) := dk_183 0 195 (dk_at dksX2_factor_9 21 rfl rfl)
theorem dX2_factor_247 : decode cX2_factor 247 = .ok (.areturn, 1) := dk_176 (dk_at dksX2_factor_10 0 rfl rfl)
theorem okX2_factor_0 : XOkL xms rX2_factor bX2_factor_0 := xcP (xok_aload_n dX2_factor_0 rfl) rfl (xcC0 (xokc_list (List.forall_mem_cons.mpr ⟨xokc_V (r := (RX2, TX2, 13)) xm42 (List.mem_of_getElem? (i := 2) rfl) (by decide) rfl dX2_factor_1 q778 q780 qs8 q140 q781 (by decide +kernel), fun _ h => nomatch h⟩)) rfl (xcP (xok_lsw dX2_factor_4 (by decide) (by decide) (by decide)) rfl trivial))
theorem okX2_factor_56 : XOkL xms rX2_factor bX2_factor_56 := xcP (xok_aload_n dX2_factor_56 rfl) rfl (xcC0 (xokc_list (List.forall_mem_cons.mpr ⟨xokc_V (r := (RX2, TX2, 13)) xm60 (List.mem_of_getElem? (i := 2) rfl) (by decide) rfl dX2_factor_57 q898 q900 qs26 q140 q901 (by decide +kernel), fun _ h => nomatch h⟩)) rfl (xcP (xok_new (r := (RX13, TX13, 3)) (List.mem_of_getElem? (i := 12) rfl) rfl (by decide) dX2_factor_60 q902 q903 q158) rfl (xcP (xok_dup dX2_factor_63) rfl (xcP (xok_bipush dX2_factor_64 rfl) rfl (xcP (xok_null dX2_factor_66) rfl (xcP (xok_aload_n dX2_factor_67 rfl) rfl (xcC0 (xokc_list (List.forall_mem_cons.mpr ⟨xokc_V (r := (RX2, TX2, 13)) xm59 (List.mem_of_getElem? (i := 2) rfl) (by decide) rfl dX2_factor_68 q894 q896 qs25 q140 q897 (by decide +kernel), fun _ h => nomatch h⟩)) rfl (xcC0 (xokc_I xm204 rfl rfl dX2_factor_71 q904 q905 q158 q906 rfl (by decide +kernel)) rfl (xcP (xok_astore_n dX2_factor_74 rfl) rfl (xcP (xok_aload_n dX2_factor_75 rfl) rfl (xcP (xok_dup dX2_factor_76) rfl (xcP (xok_getfield (ref := "WaysAtlas$Reader") (Or.inl ⟨rfl, by decide⟩) dX2_factor_77 (Or.inl ⟨q235, (Or.inl rfl)⟩) xh7) rfl (xcP (xok_iconst dX2_factor_80 rfl) rfl (xcP (xok_isub dX2_factor_81) rfl (xcP (xok_putfield (ref := "WaysAtlas$Reader") (Or.inl ⟨rfl, by decide, rfl⟩) dX2_factor_82 (Or.inl ⟨q235, (Or.inl rfl)⟩) (Or.inl rfl) xh7) rfl (xcP (xok_aload_n dX2_factor_85 rfl) rfl (xcR ⟨dX2_factor_86, _, rfl, Or.inl ⟨_, rfl⟩⟩)))))))))))))))))
theorem okX2_factor_87 : XOkL xms rX2_factor bX2_factor_87 := xcP (xok_aload_n dX2_factor_87 rfl) rfl (xcC0 (xokc_list (List.forall_mem_cons.mpr ⟨xokc_V (r := (RX2, TX2, 13)) xm60 (List.mem_of_getElem? (i := 2) rfl) (by decide) rfl dX2_factor_88 q898 q900 qs26 q140 q901 (by decide +kernel), fun _ h => nomatch h⟩)) rfl (xcP (xok_aload_n dX2_factor_91 rfl) rfl (xcC0 (xokc_list (List.forall_mem_cons.mpr ⟨xokc_V (r := (RX2, TX2, 13)) xm57 (List.mem_of_getElem? (i := 2) rfl) (by decide) rfl dX2_factor_92 q886 q888 qs23 q140 q889 (by decide +kernel), fun _ h => nomatch h⟩)) rfl (xcP (xok_astore_n dX2_factor_95 rfl) rfl (xcP (xok_aload_n dX2_factor_96 rfl) rfl (xcP (xok_bipush dX2_factor_97 rfl) rfl (xcC0 (xokc_list (List.forall_mem_cons.mpr ⟨xokc_V (r := (RX2, TX2, 13)) xm48 (List.mem_of_getElem? (i := 2) rfl) (by decide) rfl dX2_factor_99 q826 q828 qs14 q140 q829 (by decide +kernel), fun _ h => nomatch h⟩)) rfl (xcP (xok_pop dX2_factor_102) rfl (xcP (xok_aload_n dX2_factor_103 rfl) rfl (xcP (xok_dup dX2_factor_104) rfl (xcP (xok_getfield (ref := "WaysAtlas$Reader") (Or.inl ⟨rfl, by decide⟩) dX2_factor_105 (Or.inl ⟨q235, (Or.inl rfl)⟩) xh7) rfl (xcP (xok_iconst dX2_factor_108 rfl) rfl (xcP (xok_isub dX2_factor_109) rfl (xcP (xok_putfield (ref := "WaysAtlas$Reader") (Or.inl ⟨rfl, by decide, rfl⟩) dX2_factor_110 (Or.inl ⟨q235, (Or.inl rfl)⟩) (Or.inl rfl) xh7) rfl (xcP (xok_aload_n dX2_factor_113 rfl) rfl (xcR ⟨dX2_factor_114, _, rfl, Or.inl ⟨_, rfl⟩⟩))))))))))))))))
theorem okX2_factor_115 : XOkL xms rX2_factor bX2_factor_115 := xcP (xok_new (r := (RX14, TX14, 1)) (List.mem_of_getElem? (i := 13) rfl) rfl (by decide) dX2_factor_115 q921 q922 q159) rfl (xcP (xok_dup dX2_factor_118) rfl (xcP (xok_aload_n dX2_factor_119 rfl) rfl (xcP (xok_bipush dX2_factor_120 rfl) rfl (xcC0 (xokc_list (List.forall_mem_cons.mpr ⟨xokc_V (r := (RX2, TX2, 13)) xm48 (List.mem_of_getElem? (i := 2) rfl) (by decide) rfl dX2_factor_122 q826 q828 qs14 q140 q829 (by decide +kernel), fun _ h => nomatch h⟩)) rfl (xcC0 (xokc_I xm206 rfl rfl dX2_factor_125 q923 q924 q159 q925 rfl (by decide +kernel)) rfl (xcR ⟨dX2_factor_128, _, rfl, Or.inl ⟨_, rfl⟩⟩))))))
theorem okX2_factor_129 : XOkL xms rX2_factor bX2_factor_129 := xcP (xok_new (r := (RX15, TX15, 1)) (List.mem_of_getElem? (i := 14) rfl) rfl (by decide) dX2_factor_129 q931 q932 q160) rfl (xcP (xok_dup dX2_factor_132) rfl (xcP (xok_aload_n dX2_factor_133 rfl) rfl (xcP (xok_iconst dX2_factor_134 rfl) rfl (xcP (xok_bipush dX2_factor_135 rfl) rfl (xcC0 (xokc_list (List.forall_mem_cons.mpr ⟨xokc_V (r := (RX2, TX2, 13)) xm55 (List.mem_of_getElem? (i := 2) rfl) (by decide) rfl dX2_factor_137 q878 q880 qs21 q140 q881 (by decide +kernel), fun _ h => nomatch h⟩)) rfl (xcC0 (xokc_I xm208 rfl rfl dX2_factor_140 q933 q934 q160 q935 rfl (by decide +kernel)) rfl (xcR ⟨dX2_factor_143, _, rfl, Or.inl ⟨_, rfl⟩⟩)))))))
theorem okX2_factor_144 : XOkL xms rX2_factor bX2_factor_144 := xcP (xok_aload_n dX2_factor_144 rfl) rfl (xcP (xok_bipush dX2_factor_145 rfl) rfl (xcP (xok_iconst dX2_factor_147 rfl) rfl (xcC0 (xokc_list (List.forall_mem_cons.mpr ⟨xokc_V (r := (RX2, TX2, 13)) xm55 (List.mem_of_getElem? (i := 2) rfl) (by decide) rfl dX2_factor_148 q878 q880 qs21 q140 q881 (by decide +kernel), fun _ h => nomatch h⟩)) rfl (xcP (xok_istore_n dX2_factor_151 rfl) rfl (xcP (xok_aload_n dX2_factor_152 rfl) rfl (xcP (xok_aload_n dX2_factor_153 rfl) rfl (xcC0 (xokc_list (List.forall_mem_cons.mpr ⟨xokc_V (r := (RX2, TX2, 13)) xm42 (List.mem_of_getElem? (i := 2) rfl) (by decide) rfl dX2_factor_154 q778 q780 qs8 q140 q781 (by decide +kernel), fun _ h => nomatch h⟩)) rfl (xcP (xok_bipush dX2_factor_157 rfl) rfl (xcP (xok_icmpne dX2_factor_159 (by decide)) rfl (xcP (xok_iconst dX2_factor_162 rfl) rfl (xcP (xok_goto dX2_factor_163 (by decide)) rfl trivial)))))))))))
theorem okX2_factor_166 : XOkL xms rX2_factor bX2_factor_166 := xcP (xok_iconst dX2_factor_166 rfl) rfl (xcP xok_fal rfl trivial)
theorem okX2_factor_167 : XOkL xms rX2_factor bX2_factor_167 := xcC0 (xokc_list (List.forall_mem_cons.mpr ⟨xokc_V (r := (RX2, TX2, 13)) xm46 (List.mem_of_getElem? (i := 2) rfl) (by decide) rfl dX2_factor_167 q818 q820 qs12 q140 q821 (by decide +kernel), fun _ h => nomatch h⟩)) rfl (xcP (xok_aload_n dX2_factor_170 rfl) rfl (xcC0 (xokc_list (List.forall_mem_cons.mpr ⟨xokc_V (r := (RX2, TX2, 13)) xm60 (List.mem_of_getElem? (i := 2) rfl) (by decide) rfl dX2_factor_171 q898 q900 qs26 q140 q901 (by decide +kernel), fun _ h => nomatch h⟩)) rfl (xcP (xok_aload_n dX2_factor_174 rfl) rfl (xcC0 (xokc_list (List.forall_mem_cons.mpr ⟨xokc_V (r := (RX2, TX2, 13)) xm57 (List.mem_of_getElem? (i := 2) rfl) (by decide) rfl dX2_factor_175 q886 q888 qs23 q140 q889 (by decide +kernel), fun _ h => nomatch h⟩)) rfl (xcP (xok_astore_n dX2_factor_178 rfl) rfl (xcP (xok_aload_n dX2_factor_179 rfl) rfl (xcP (xok_bipush dX2_factor_180 rfl) rfl (xcC0 (xokc_list (List.forall_mem_cons.mpr ⟨xokc_V (r := (RX2, TX2, 13)) xm48 (List.mem_of_getElem? (i := 2) rfl) (by decide) rfl dX2_factor_182 q826 q828 qs14 q140 q829 (by decide +kernel), fun _ h => nomatch h⟩)) rfl (xcP (xok_pop dX2_factor_185) rfl (xcP (xok_aload_n dX2_factor_186 rfl) rfl (xcP (xok_dup dX2_factor_187) rfl (xcP (xok_getfield (ref := "WaysAtlas$Reader") (Or.inl ⟨rfl, by decide⟩) dX2_factor_188 (Or.inl ⟨q235, (Or.inl rfl)⟩) xh7) rfl (xcP (xok_iconst dX2_factor_191 rfl) rfl (xcP (xok_isub dX2_factor_192) rfl (xcP (xok_putfield (ref := "WaysAtlas$Reader") (Or.inl ⟨rfl, by decide, rfl⟩) dX2_factor_193 (Or.inl ⟨q235, (Or.inl rfl)⟩) (Or.inl rfl) xh7) rfl (xcP (xok_new (r := (RX16, TX16, 2)) (List.mem_of_getElem? (i := 15) rfl) rfl (by decide) dX2_factor_196 q941 q942 q161) rfl (xcP (xok_dup dX2_factor_199) rfl (xcP (xok_iload_n dX2_factor_200 rfl) rfl (xcP (xok_aload_n dX2_factor_201 rfl) rfl (xcC0 (xokc_I xm210 rfl rfl dX2_factor_202 q943 q944 q161 q945 rfl (by decide +kernel)) rfl (xcR ⟨dX2_factor_205, _, rfl, Or.inl ⟨_, rfl⟩⟩)))))))))))))))))))))
theorem okX2_factor_206 : XOkL xms rX2_factor bX2_factor_206 := xcP (xok_aload_n dX2_factor_206 rfl) rfl (xcP (xok_aload_n dX2_factor_207 rfl) rfl (xcP (xok_bipush dX2_factor_208 rfl) rfl (xcC0 (xokc_list (List.forall_mem_cons.mpr ⟨xokc_V (r := (RX2, TX2, 13)) xm41 (List.mem_of_getElem? (i := 2) rfl) (by decide) rfl dX2_factor_210 q774 q776 qs7 q140 q777 (by decide +kernel), fun _ h => nomatch h⟩)) rfl (xcC0 (xokc_list (List.forall_mem_cons.mpr ⟨xokc_V (r := (RX2, TX2, 13)) xm46 (List.mem_of_getElem? (i := 2) rfl) (by decide) rfl dX2_factor_213 q818 q820 qs12 q140 q821 (by decide +kernel), fun _ h => nomatch h⟩)) rfl (xcP (xok_aload_n dX2_factor_216 rfl) rfl (xcC0 (xokc_list (List.forall_mem_cons.mpr ⟨xokc_V (r := (RX2, TX2, 13)) xm60 (List.mem_of_getElem? (i := 2) rfl) (by decide) rfl dX2_factor_217 q898 q900 qs26 q140 q901 (by decide +kernel), fun _ h => nomatch h⟩)) rfl (xcP (xok_aload_n dX2_factor_220 rfl) rfl (xcP (xok_bipush dX2_factor_221 rfl) rfl (xcP (xok_iconst dX2_factor_223 rfl) rfl (xcC0 (xokc_list (List.forall_mem_cons.mpr ⟨xokc_V (r := (RX2, TX2, 13)) xm55 (List.mem_of_getElem? (i := 2) rfl) (by decide) rfl dX2_factor_224 q878 q880 qs21 q140 q881 (by decide +kernel), fun _ h => nomatch h⟩)) rfl (xcP (xok_istore_n dX2_factor_227 rfl) rfl (xcP (xok_aload_n dX2_factor_228 rfl) rfl (xcP (xok_dup dX2_factor_229) rfl (xcP (xok_getfield (ref := "WaysAtlas$Reader") (Or.inl ⟨rfl, by decide⟩) dX2_factor_230 (Or.inl ⟨q235, (Or.inl rfl)⟩) xh7) rfl (xcP (xok_iconst dX2_factor_233 rfl) rfl (xcP (xok_isub dX2_factor_234) rfl (xcP (xok_putfield (ref := "WaysAtlas$Reader") (Or.inl ⟨rfl, by decide, rfl⟩) dX2_factor_235 (Or.inl ⟨q235, (Or.inl rfl)⟩) (Or.inl rfl) xh7) rfl (xcP (xok_new (r := (RX16, TX16, 2)) (List.mem_of_getElem? (i := 15) rfl) rfl (by decide) dX2_factor_238 q941 q942 q161) rfl (xcP (xok_dup dX2_factor_241) rfl (xcP (xok_iload_n dX2_factor_242 rfl) rfl (xcP (xok_null dX2_factor_243) rfl (xcC0 (xokc_I xm210 rfl rfl dX2_factor_244 q943 q944 q161 q945 rfl (by decide +kernel)) rfl (xcR ⟨dX2_factor_247, _, rfl, Or.inl ⟨_, rfl⟩⟩)))))))))))))))))))))))
theorem okM_X2_factor : XOkM xms rX2_factor := xokM0 (List.forall_mem_cons.mpr ⟨⟨rfl, okX2_factor_0⟩, List.forall_mem_cons.mpr ⟨⟨rfl, okX2_factor_56⟩, List.forall_mem_cons.mpr ⟨⟨rfl, okX2_factor_87⟩, List.forall_mem_cons.mpr ⟨⟨rfl, okX2_factor_115⟩, List.forall_mem_cons.mpr ⟨⟨rfl, okX2_factor_129⟩, List.forall_mem_cons.mpr ⟨⟨rfl, okX2_factor_144⟩, List.forall_mem_cons.mpr ⟨⟨rfl, okX2_factor_166⟩, List.forall_mem_cons.mpr ⟨⟨rfl, okX2_factor_167⟩, List.forall_mem_cons.mpr ⟨⟨rfl, okX2_factor_206⟩, fun _ h => nomatch h⟩⟩⟩⟩⟩⟩⟩⟩⟩) (xokH0 rfl (fun _ _ => rfl)) (by decide +kernel) (by decide)
abbrev cX2_enter : ByteArray := prog_21_method_27_code
def dkwX2_enter_1 : List UInt8 := [96, 181, 0, 89, 42, 89, 180, 0, 33, 4, 96, 181, 0, 33, 177]
abbrev dktX2_enter_1 : List UInt8 := dkwX2_enter_1 ++ []
def dkwX2_enter_0 : List UInt8 := [42, 42, 180, 0, 89, 16, 8, 162, 0, 7, 4, 167, 0, 4, 3, 182, 0, 66, 42, 89, 180, 0, 89, 4]
abbrev dktX2_enter_0 : List UInt8 := dkwX2_enter_0 ++ dktX2_enter_1
theorem dksX2_enter_0 : cX2_enter.data.toList.drop 0 = dktX2_enter_0 := by decide +kernel
theorem dksX2_enter_1 : cX2_enter.data.toList.drop 24 = dktX2_enter_1 := dk_seg dksX2_enter_0 24 rfl rfl
theorem dX2_enter_0 : decode cX2_enter 0 = .ok (.aload_n 0, 1) := dk_42 (dk_at dksX2_enter_0 0 rfl rfl)
theorem dX2_enter_1 : decode cX2_enter 1 = .ok (.aload_n 0, 1) := dk_42 (dk_at dksX2_enter_0 1 rfl rfl)
theorem dX2_enter_2 : decode cX2_enter 2 = .ok (.getfield 89, 3) := dk_180 0 89 (dk_at dksX2_enter_0 2 rfl rfl)
theorem dX2_enter_5 : decode cX2_enter 5 = .ok (.bipush 8, 2) := dk_16 8 (dk_at dksX2_enter_0 5 rfl rfl)
theorem dX2_enter_7 : decode cX2_enter 7 = .ok (.if_icmp .ge 7, 3) := dk_162 0 7 (dk_at dksX2_enter_0 7 rfl rfl)
theorem dX2_enter_10 : decode cX2_enter 10 = .ok (.iconst 1, 1) := dk_4 (dk_at dksX2_enter_0 10 rfl rfl)
theorem dX2_enter_11 : decode cX2_enter 11 = .ok (.goto 4, 3) := dk_167 0 4 (dk_at dksX2_enter_0 11 rfl rfl)
theorem dX2_enter_14 : decode cX2_enter 14 = .ok (.iconst 0, 1) := dk_3 (dk_at dksX2_enter_0 14 rfl rfl)
theorem dX2_enter_15 : decode cX2_enter 15 = .ok (.invokevirtual 66, 3) := dk_182 0 66 (dk_at dksX2_enter_0 15 rfl rfl)
theorem dX2_enter_18 : decode cX2_enter 18 = .ok (.aload_n 0, 1) := dk_42 (dk_at dksX2_enter_0 18 rfl rfl)
theorem dX2_enter_19 : decode cX2_enter 19 = .ok (.dup, 1) := dk_89 (dk_at dksX2_enter_0 19 rfl rfl)
theorem dX2_enter_20 : decode cX2_enter 20 = .ok (.getfield 89, 3) := dk_180 0 89 (dk_at dksX2_enter_0 20 rfl rfl)
theorem dX2_enter_23 : decode cX2_enter 23 = .ok (.iconst 1, 1) := dk_4 (dk_at dksX2_enter_0 23 rfl rfl)
theorem dX2_enter_24 : decode cX2_enter 24 = .ok (.iadd, 1) := dk_96 (dk_at dksX2_enter_1 0 rfl rfl)
theorem dX2_enter_25 : decode cX2_enter 25 = .ok (.putfield 89, 3) := dk_181 0 89 (dk_at dksX2_enter_1 1 rfl rfl)
theorem dX2_enter_28 : decode cX2_enter 28 = .ok (.aload_n 0, 1) := dk_42 (dk_at dksX2_enter_1 4 rfl rfl)
theorem dX2_enter_29 : decode cX2_enter 29 = .ok (.dup, 1) := dk_89 (dk_at dksX2_enter_1 5 rfl rfl)
theorem dX2_enter_30 : decode cX2_enter 30 = .ok (.getfield 33, 3) := dk_180 0 33 (dk_at dksX2_enter_1 6 rfl rfl)
theorem dX2_enter_33 : decode cX2_enter 33 = .ok (.iconst 1, 1) := dk_4 (dk_at dksX2_enter_1 9 rfl rfl)
theorem dX2_enter_34 : decode cX2_enter 34 = .ok (.iadd, 1) := dk_96 (dk_at dksX2_enter_1 10 rfl rfl)
theorem dX2_enter_35 : decode cX2_enter 35 = .ok (.putfield 33, 3) := dk_181 0 33 (dk_at dksX2_enter_1 11 rfl rfl)
theorem dX2_enter_38 : decode cX2_enter 38 = .ok (.return_, 1) := dk_177 (dk_at dksX2_enter_1 14 rfl rfl)
theorem okX2_enter_0 : XOkL xms rX2_enter bX2_enter_0 := xcP (xok_aload_n dX2_enter_0 rfl) rfl (xcP (xok_aload_n dX2_enter_1 rfl) rfl (xcP (xok_getfield (ref := "WaysAtlas$Reader") (Or.inl ⟨rfl, by decide⟩) dX2_enter_2 (Or.inl ⟨q235, (Or.inl rfl)⟩) xh7) rfl (xcP (xok_bipush dX2_enter_5 rfl) rfl (xcP (xok_icmpge dX2_enter_7 (by decide)) rfl (xcP (xok_iconst dX2_enter_10 rfl) rfl (xcP (xok_goto dX2_enter_11 (by decide)) rfl trivial))))))
theorem okX2_enter_14 : XOkL xms rX2_enter bX2_enter_14 := xcP (xok_iconst dX2_enter_14 rfl) rfl (xcP xok_fal rfl trivial)
theorem okX2_enter_15 : XOkL xms rX2_enter bX2_enter_15 := xcC0 (xokc_list (List.forall_mem_cons.mpr ⟨xokc_V (r := (RX2, TX2, 13)) xm43 (List.mem_of_getElem? (i := 2) rfl) (by decide) rfl dX2_enter_15 q782 q784 qs9 q140 q785 (by decide +kernel), fun _ h => nomatch h⟩)) rfl (xcP (xok_aload_n dX2_enter_18 rfl) rfl (xcP (xok_dup dX2_enter_19) rfl (xcP (xok_getfield (ref := "WaysAtlas$Reader") (Or.inl ⟨rfl, by decide⟩) dX2_enter_20 (Or.inl ⟨q235, (Or.inl rfl)⟩) xh7) rfl (xcP (xok_iconst dX2_enter_23 rfl) rfl (xcP (xok_iadd dX2_enter_24) rfl (xcP (xok_putfield (ref := "WaysAtlas$Reader") (Or.inl ⟨rfl, by decide, rfl⟩) dX2_enter_25 (Or.inl ⟨q235, (Or.inl rfl)⟩) (Or.inl rfl) xh7) rfl (xcP (xok_aload_n dX2_enter_28 rfl) rfl (xcP (xok_dup dX2_enter_29) rfl (xcP (xok_getfield (ref := "WaysAtlas$Reader") (Or.inl ⟨rfl, by decide⟩) dX2_enter_30 (Or.inl ⟨q233, (Or.inl rfl)⟩) xh5) rfl (xcP (xok_iconst dX2_enter_33 rfl) rfl (xcP (xok_iadd dX2_enter_34) rfl (xcP (xok_putfield (ref := "WaysAtlas$Reader") (Or.inl ⟨rfl, by decide, rfl⟩) dX2_enter_35 (Or.inl ⟨q233, (Or.inl rfl)⟩) (Or.inl rfl) xh5) rfl (xcR ⟨dX2_enter_38, rfl⟩)))))))))))))
theorem okM_X2_enter : XOkM xms rX2_enter := xokM0 (List.forall_mem_cons.mpr ⟨⟨rfl, okX2_enter_0⟩, List.forall_mem_cons.mpr ⟨⟨rfl, okX2_enter_14⟩, List.forall_mem_cons.mpr ⟨⟨rfl, okX2_enter_15⟩, fun _ h => nomatch h⟩⟩⟩) (xokH0 rfl (fun _ _ => rfl)) (by decide +kernel) (by decide)
abbrev cX2_ofRow : ByteArray := prog_21_method_20_code
def dkwX2_ofRow_6 : List UInt8 := [182, 0, 69, 87, 187, 0, 207, 89, 27, 28, 29, 183, 0, 209, 176]
abbrev dktX2_ofRow_6 : List UInt8 := dkwX2_ofRow_6 ++ []
def dkwX2_ofRow_5 : List UInt8 := [16, 6, 182, 0, 201, 153, 0, 8, 16, 247, 167, 0, 10, 42, 16, 6, 6, 182, 0, 175, 62, 42, 16, 59]
abbrev dktX2_ofRow_5 : List UInt8 := dkwX2_ofRow_5 ++ dktX2_ofRow_6
def dkwX2_ofRow_4 : List UInt8 := [42, 182, 0, 182, 78, 42, 16, 59, 182, 0, 69, 87, 187, 0, 204, 89, 27, 28, 45, 183, 0, 206, 176, 42]
abbrev dktX2_ofRow_4 : List UInt8 := dkwX2_ofRow_4 ++ dktX2_ofRow_5
def dkwX2_ofRow_3 : List UInt8 := [183, 0, 195, 25, 4, 183, 0, 198, 176, 42, 16, 61, 182, 0, 69, 87, 42, 8, 182, 0, 201, 153, 0, 26]
abbrev dktX2_ofRow_3 : List UInt8 := dkwX2_ofRow_3 ++ dktX2_ofRow_4
def dkwX2_ofRow_2 : List UInt8 := [182, 0, 182, 58, 4, 42, 16, 59, 182, 0, 69, 87, 187, 0, 191, 89, 27, 187, 0, 193, 89, 28, 45]
abbrev dktX2_ofRow_2 : List UInt8 := dkwX2_ofRow_2 ++ dktX2_ofRow_3
def dkwX2_ofRow_1 : List UInt8 := [181, 0, 33, 42, 182, 0, 182, 78, 42, 16, 93, 182, 0, 69, 87, 42, 16, 61, 182, 0, 69, 87, 42]
abbrev dktX2_ofRow_1 : List UInt8 := dkwX2_ofRow_1 ++ dktX2_ofRow_2
def dkwX2_ofRow_0 : List UInt8 := [42, 16, 6, 6, 182, 0, 175, 61, 42, 182, 0, 40, 16, 91, 160, 0, 65, 42, 89, 180, 0, 33, 4, 96]
abbrev dktX2_ofRow_0 : List UInt8 := dkwX2_ofRow_0 ++ dktX2_ofRow_1
theorem dksX2_ofRow_0 : cX2_ofRow.data.toList.drop 0 = dktX2_ofRow_0 := by decide +kernel
theorem dksX2_ofRow_1 : cX2_ofRow.data.toList.drop 24 = dktX2_ofRow_1 := dk_seg dksX2_ofRow_0 24 rfl rfl
theorem dksX2_ofRow_2 : cX2_ofRow.data.toList.drop 47 = dktX2_ofRow_2 := dk_seg dksX2_ofRow_1 23 rfl rfl
theorem dksX2_ofRow_3 : cX2_ofRow.data.toList.drop 70 = dktX2_ofRow_3 := dk_seg dksX2_ofRow_2 23 rfl rfl
theorem dksX2_ofRow_4 : cX2_ofRow.data.toList.drop 94 = dktX2_ofRow_4 := dk_seg dksX2_ofRow_3 24 rfl rfl
theorem dksX2_ofRow_5 : cX2_ofRow.data.toList.drop 118 = dktX2_ofRow_5 := dk_seg dksX2_ofRow_4 24 rfl rfl
theorem dksX2_ofRow_6 : cX2_ofRow.data.toList.drop 142 = dktX2_ofRow_6 := dk_seg dksX2_ofRow_5 24 rfl rfl
theorem dX2_ofRow_0 : decode cX2_ofRow 0 = .ok (.aload_n 0, 1) := dk_42 (dk_at dksX2_ofRow_0 0 rfl rfl)
theorem dX2_ofRow_1 : decode cX2_ofRow 1 = .ok (.bipush 6, 2) := dk_16 6 (dk_at dksX2_ofRow_0 1 rfl rfl)
theorem dX2_ofRow_3 : decode cX2_ofRow 3 = .ok (.iconst 3, 1) := dk_6 (dk_at dksX2_ofRow_0 3 rfl rfl)
theorem dX2_ofRow_4 : decode cX2_ofRow 4 = .ok (.invokevirtual 175, 3) := dk_182 0 175 (dk_at dksX2_ofRow_0 4 rfl rfl)
theorem dX2_ofRow_7 : decode cX2_ofRow 7 = .ok (.istore_n 2, 1) := dk_61 (dk_at dksX2_ofRow_0 7 rfl rfl)
theorem dX2_ofRow_8 : decode cX2_ofRow 8 = .ok (.aload_n 0, 1) := dk_42 (dk_at dksX2_ofRow_0 8 rfl rfl)
theorem dX2_ofRow_9 : decode cX2_ofRow 9 = .ok (.invokevirtual 40, 3) := dk_182 0 40 (dk_at dksX2_ofRow_0 9 rfl rfl)
theorem dX2_ofRow_12 : decode cX2_ofRow 12 = .ok (.bipush 91, 2) := dk_16 91 (dk_at dksX2_ofRow_0 12 rfl rfl)
theorem dX2_ofRow_14 : decode cX2_ofRow 14 = .ok (.if_icmp .ne 65, 3) := dk_160 0 65 (dk_at dksX2_ofRow_0 14 rfl rfl)
theorem dX2_ofRow_17 : decode cX2_ofRow 17 = .ok (.aload_n 0, 1) := dk_42 (dk_at dksX2_ofRow_0 17 rfl rfl)
theorem dX2_ofRow_18 : decode cX2_ofRow 18 = .ok (.dup, 1) := dk_89 (dk_at dksX2_ofRow_0 18 rfl rfl)
theorem dX2_ofRow_19 : decode cX2_ofRow 19 = .ok (.getfield 33, 3) := dk_180 0 33 (dk_at dksX2_ofRow_0 19 rfl rfl)
theorem dX2_ofRow_22 : decode cX2_ofRow 22 = .ok (.iconst 1, 1) := dk_4 (dk_at dksX2_ofRow_0 22 rfl rfl)
theorem dX2_ofRow_23 : decode cX2_ofRow 23 = .ok (.iadd, 1) := dk_96 (dk_at dksX2_ofRow_0 23 rfl rfl)
theorem dX2_ofRow_24 : decode cX2_ofRow 24 = .ok (.putfield 33, 3) := dk_181 0 33 (dk_at dksX2_ofRow_1 0 rfl rfl)
theorem dX2_ofRow_27 : decode cX2_ofRow 27 = .ok (.aload_n 0, 1) := dk_42 (dk_at dksX2_ofRow_1 3 rfl rfl)
theorem dX2_ofRow_28 : decode cX2_ofRow 28 = .ok (.invokevirtual 182, 3) := dk_182 0 182 (dk_at dksX2_ofRow_1 4 rfl rfl)
theorem dX2_ofRow_31 : decode cX2_ofRow 31 = .ok (.astore_n 3, 1) := dk_78 (dk_at dksX2_ofRow_1 7 rfl rfl)
theorem dX2_ofRow_32 : decode cX2_ofRow 32 = .ok (.aload_n 0, 1) := dk_42 (dk_at dksX2_ofRow_1 8 rfl rfl)
theorem dX2_ofRow_33 : decode cX2_ofRow 33 = .ok (.bipush 93, 2) := dk_16 93 (dk_at dksX2_ofRow_1 9 rfl rfl)
theorem dX2_ofRow_35 : decode cX2_ofRow 35 = .ok (.invokevirtual 69, 3) := dk_182 0 69 (dk_at dksX2_ofRow_1 11 rfl rfl)
theorem dX2_ofRow_38 : decode cX2_ofRow 38 = .ok (.pop, 1) := dk_87 (dk_at dksX2_ofRow_1 14 rfl rfl)
theorem dX2_ofRow_39 : decode cX2_ofRow 39 = .ok (.aload_n 0, 1) := dk_42 (dk_at dksX2_ofRow_1 15 rfl rfl)
theorem dX2_ofRow_40 : decode cX2_ofRow 40 = .ok (.bipush 61, 2) := dk_16 61 (dk_at dksX2_ofRow_1 16 rfl rfl)
theorem dX2_ofRow_42 : decode cX2_ofRow 42 = .ok (.invokevirtual 69, 3) := dk_182 0 69 (dk_at dksX2_ofRow_1 18 rfl rfl)
theorem dX2_ofRow_45 : decode cX2_ofRow 45 = .ok (.pop, 1) := dk_87 (dk_at dksX2_ofRow_1 21 rfl rfl)
theorem dX2_ofRow_46 : decode cX2_ofRow 46 = .ok (.aload_n 0, 1) := dk_42 (dk_at dksX2_ofRow_1 22 rfl rfl)
theorem dX2_ofRow_47 : decode cX2_ofRow 47 = .ok (.invokevirtual 182, 3) := dk_182 0 182 (dk_at dksX2_ofRow_2 0 rfl rfl)
theorem dX2_ofRow_50 : decode cX2_ofRow 50 = .ok (.astore 4, 2) := dk_58 4 (dk_at dksX2_ofRow_2 3 rfl rfl)
theorem dX2_ofRow_52 : decode cX2_ofRow 52 = .ok (.aload_n 0, 1) := dk_42 (dk_at dksX2_ofRow_2 5 rfl rfl)
theorem dX2_ofRow_53 : decode cX2_ofRow 53 = .ok (.bipush 59, 2) := dk_16 59 (dk_at dksX2_ofRow_2 6 rfl rfl)
theorem dX2_ofRow_55 : decode cX2_ofRow 55 = .ok (.invokevirtual 69, 3) := dk_182 0 69 (dk_at dksX2_ofRow_2 8 rfl rfl)
theorem dX2_ofRow_58 : decode cX2_ofRow 58 = .ok (.pop, 1) := dk_87 (dk_at dksX2_ofRow_2 11 rfl rfl)
theorem dX2_ofRow_59 : decode cX2_ofRow 59 = .ok (.new 191, 3) := dk_187 0 191 (dk_at dksX2_ofRow_2 12 rfl rfl)
theorem dX2_ofRow_62 : decode cX2_ofRow 62 = .ok (.dup, 1) := dk_89 (dk_at dksX2_ofRow_2 15 rfl rfl)
theorem dX2_ofRow_63 : decode cX2_ofRow 63 = .ok (.iload_n 1, 1) := dk_27 (dk_at dksX2_ofRow_2 16 rfl rfl)
theorem dX2_ofRow_64 : decode cX2_ofRow 64 = .ok (.new 193, 3) := dk_187 0 193 (dk_at dksX2_ofRow_2 17 rfl rfl)
theorem dX2_ofRow_67 : decode cX2_ofRow 67 = .ok (.dup, 1) := dk_89 (dk_at dksX2_ofRow_2 20 rfl rfl)
theorem dX2_ofRow_68 : decode cX2_ofRow 68 = .ok (.iload_n 2, 1) := dk_28 (dk_at dksX2_ofRow_2 21 rfl rfl)
theorem dX2_ofRow_69 : decode cX2_ofRow 69 = .ok (.aload_n 3, 1) := dk_45 (dk_at dksX2_ofRow_2 22 rfl rfl)
theorem dX2_ofRow_70 : decode cX2_ofRow 70 = .ok (.invokespecial 195, 3) := dk_183 0 195 (dk_at dksX2_ofRow_3 0 rfl rfl)
theorem dX2_ofRow_73 : decode cX2_ofRow 73 = .ok (.aload 4, 2) := dk_25 4 (dk_at dksX2_ofRow_3 3 rfl rfl)
theorem dX2_ofRow_75 : decode cX2_ofRow 75 = .ok (.invokespecial 198, 3) := dk_183 0 198 (dk_at dksX2_ofRow_3 5 rfl rfl)
theorem dX2_ofRow_78 : decode cX2_ofRow 78 = .ok (.areturn, 1) := dk_176 (dk_at dksX2_ofRow_3 8 rfl rfl)
theorem dX2_ofRow_79 : decode cX2_ofRow 79 = .ok (.aload_n 0, 1) := dk_42 (dk_at dksX2_ofRow_3 9 rfl rfl)
theorem dX2_ofRow_80 : decode cX2_ofRow 80 = .ok (.bipush 61, 2) := dk_16 61 (dk_at dksX2_ofRow_3 10 rfl rfl)
theorem dX2_ofRow_82 : decode cX2_ofRow 82 = .ok (.invokevirtual 69, 3) := dk_182 0 69 (dk_at dksX2_ofRow_3 12 rfl rfl)
theorem dX2_ofRow_85 : decode cX2_ofRow 85 = .ok (.pop, 1) := dk_87 (dk_at dksX2_ofRow_3 15 rfl rfl)
theorem dX2_ofRow_86 : decode cX2_ofRow 86 = .ok (.aload_n 0, 1) := dk_42 (dk_at dksX2_ofRow_3 16 rfl rfl)
theorem dX2_ofRow_87 : decode cX2_ofRow 87 = .ok (.iconst 5, 1) := dk_8 (dk_at dksX2_ofRow_3 17 rfl rfl)
theorem dX2_ofRow_88 : decode cX2_ofRow 88 = .ok (.invokevirtual 201, 3) := dk_182 0 201 (dk_at dksX2_ofRow_3 18 rfl rfl)
theorem dX2_ofRow_91 : decode cX2_ofRow 91 = .ok (.ifCond .eq 26, 3) := dk_153 0 26 (dk_at dksX2_ofRow_3 21 rfl rfl)
theorem dX2_ofRow_94 : decode cX2_ofRow 94 = .ok (.aload_n 0, 1) := dk_42 (dk_at dksX2_ofRow_4 0 rfl rfl)
theorem dX2_ofRow_95 : decode cX2_ofRow 95 = .ok (.invokevirtual 182, 3) := dk_182 0 182 (dk_at dksX2_ofRow_4 1 rfl rfl)
theorem dX2_ofRow_98 : decode cX2_ofRow 98 = .ok (.astore_n 3, 1) := dk_78 (dk_at dksX2_ofRow_4 4 rfl rfl)
theorem dX2_ofRow_99 : decode cX2_ofRow 99 = .ok (.aload_n 0, 1) := dk_42 (dk_at dksX2_ofRow_4 5 rfl rfl)
theorem dX2_ofRow_100 : decode cX2_ofRow 100 = .ok (.bipush 59, 2) := dk_16 59 (dk_at dksX2_ofRow_4 6 rfl rfl)
theorem dX2_ofRow_102 : decode cX2_ofRow 102 = .ok (.invokevirtual 69, 3) := dk_182 0 69 (dk_at dksX2_ofRow_4 8 rfl rfl)
theorem dX2_ofRow_105 : decode cX2_ofRow 105 = .ok (.pop, 1) := dk_87 (dk_at dksX2_ofRow_4 11 rfl rfl)
theorem dX2_ofRow_106 : decode cX2_ofRow 106 = .ok (.new 204, 3) := dk_187 0 204 (dk_at dksX2_ofRow_4 12 rfl rfl)
theorem dX2_ofRow_109 : decode cX2_ofRow 109 = .ok (.dup, 1) := dk_89 (dk_at dksX2_ofRow_4 15 rfl rfl)
theorem dX2_ofRow_110 : decode cX2_ofRow 110 = .ok (.iload_n 1, 1) := dk_27 (dk_at dksX2_ofRow_4 16 rfl rfl)
theorem dX2_ofRow_111 : decode cX2_ofRow 111 = .ok (.iload_n 2, 1) := dk_28 (dk_at dksX2_ofRow_4 17 rfl rfl)
theorem dX2_ofRow_112 : decode cX2_ofRow 112 = .ok (.aload_n 3, 1) := dk_45 (dk_at dksX2_ofRow_4 18 rfl rfl)
theorem dX2_ofRow_113 : decode cX2_ofRow 113 = .ok (.invokespecial 206, 3) := dk_183 0 206 (dk_at dksX2_ofRow_4 19 rfl rfl)
theorem dX2_ofRow_116 : decode cX2_ofRow 116 = .ok (.areturn, 1) := dk_176 (dk_at dksX2_ofRow_4 22 rfl rfl)
theorem dX2_ofRow_117 : decode cX2_ofRow 117 = .ok (.aload_n 0, 1) := dk_42 (dk_at dksX2_ofRow_4 23 rfl rfl)
theorem dX2_ofRow_118 : decode cX2_ofRow 118 = .ok (.bipush 6, 2) := dk_16 6 (dk_at dksX2_ofRow_5 0 rfl rfl)
theorem dX2_ofRow_120 : decode cX2_ofRow 120 = .ok (.invokevirtual 201, 3) := dk_182 0 201 (dk_at dksX2_ofRow_5 2 rfl rfl)
theorem dX2_ofRow_123 : decode cX2_ofRow 123 = .ok (.ifCond .eq 8, 3) := dk_153 0 8 (dk_at dksX2_ofRow_5 5 rfl rfl)
theorem dX2_ofRow_126 : decode cX2_ofRow 126 = .ok (.bipush (-9), 2) := dk_16 247 (dk_at dksX2_ofRow_5 8 rfl rfl)
theorem dX2_ofRow_128 : decode cX2_ofRow 128 = .ok (.goto 10, 3) := dk_167 0 10 (dk_at dksX2_ofRow_5 10 rfl rfl)
theorem dX2_ofRow_131 : decode cX2_ofRow 131 = .ok (.aload_n 0, 1) := dk_42 (dk_at dksX2_ofRow_5 13 rfl rfl)
theorem dX2_ofRow_132 : decode cX2_ofRow 132 = .ok (.bipush 6, 2) := dk_16 6 (dk_at dksX2_ofRow_5 14 rfl rfl)
theorem dX2_ofRow_134 : decode cX2_ofRow 134 = .ok (.iconst 3, 1) := dk_6 (dk_at dksX2_ofRow_5 16 rfl rfl)
theorem dX2_ofRow_135 : decode cX2_ofRow 135 = .ok (.invokevirtual 175, 3) := dk_182 0 175 (dk_at dksX2_ofRow_5 17 rfl rfl)
theorem dX2_ofRow_138 : decode cX2_ofRow 138 = .ok (.istore_n 3, 1) := dk_62 (dk_at dksX2_ofRow_5 20 rfl rfl)
theorem dX2_ofRow_139 : decode cX2_ofRow 139 = .ok (.aload_n 0, 1) := dk_42 (dk_at dksX2_ofRow_5 21 rfl rfl)
theorem dX2_ofRow_140 : decode cX2_ofRow 140 = .ok (.bipush 59, 2) := dk_16 59 (dk_at dksX2_ofRow_5 22 rfl rfl)
theorem dX2_ofRow_142 : decode cX2_ofRow 142 = .ok (.invokevirtual 69, 3) := dk_182 0 69 (dk_at dksX2_ofRow_6 0 rfl rfl)
theorem dX2_ofRow_145 : decode cX2_ofRow 145 = .ok (.pop, 1) := dk_87 (dk_at dksX2_ofRow_6 3 rfl rfl)
theorem dX2_ofRow_146 : decode cX2_ofRow 146 = .ok (.new 207, 3) := dk_187 0 207 (dk_at dksX2_ofRow_6 4 rfl rfl)
theorem dX2_ofRow_149 : decode cX2_ofRow 149 = .ok (.dup, 1) := dk_89 (dk_at dksX2_ofRow_6 7 rfl rfl)
theorem dX2_ofRow_150 : decode cX2_ofRow 150 = .ok (.iload_n 1, 1) := dk_27 (dk_at dksX2_ofRow_6 8 rfl rfl)
theorem dX2_ofRow_151 : decode cX2_ofRow 151 = .ok (.iload_n 2, 1) := dk_28 (dk_at dksX2_ofRow_6 9 rfl rfl)
theorem dX2_ofRow_152 : decode cX2_ofRow 152 = .ok (.iload_n 3, 1) := dk_29 (dk_at dksX2_ofRow_6 10 rfl rfl)
theorem dX2_ofRow_153 : decode cX2_ofRow 153 = .ok (.invokespecial 209, 3) := dk_183 0 209 (dk_at dksX2_ofRow_6 11 rfl rfl)
theorem dX2_ofRow_156 : decode cX2_ofRow 156 = .ok (.areturn, 1) := dk_176 (dk_at dksX2_ofRow_6 14 rfl rfl)
theorem okX2_ofRow_0 : XOkL xms rX2_ofRow bX2_ofRow_0 := xcP (xok_aload_n dX2_ofRow_0 rfl) rfl (xcP (xok_bipush dX2_ofRow_1 rfl) rfl (xcP (xok_iconst dX2_ofRow_3 rfl) rfl (xcC0 (xokc_list (List.forall_mem_cons.mpr ⟨xokc_V (r := (RX2, TX2, 13)) xm55 (List.mem_of_getElem? (i := 2) rfl) (by decide) rfl dX2_ofRow_4 q878 q880 qs21 q140 q881 (by decide +kernel), fun _ h => nomatch h⟩)) rfl (xcP (xok_istore_n dX2_ofRow_7 rfl) rfl (xcP (xok_aload_n dX2_ofRow_8 rfl) rfl (xcC0 (xokc_list (List.forall_mem_cons.mpr ⟨xokc_V (r := (RX2, TX2, 13)) xm42 (List.mem_of_getElem? (i := 2) rfl) (by decide) rfl dX2_ofRow_9 q778 q780 qs8 q140 q781 (by decide +kernel), fun _ h => nomatch h⟩)) rfl (xcP (xok_bipush dX2_ofRow_12 rfl) rfl (xcP (xok_icmpne dX2_ofRow_14 (by decide)) rfl (xcP (xok_aload_n dX2_ofRow_17 rfl) rfl (xcP (xok_dup dX2_ofRow_18) rfl (xcP (xok_getfield (ref := "WaysAtlas$Reader") (Or.inl ⟨rfl, by decide⟩) dX2_ofRow_19 (Or.inl ⟨q233, (Or.inl rfl)⟩) xh5) rfl (xcP (xok_iconst dX2_ofRow_22 rfl) rfl (xcP (xok_iadd dX2_ofRow_23) rfl (xcP (xok_putfield (ref := "WaysAtlas$Reader") (Or.inl ⟨rfl, by decide, rfl⟩) dX2_ofRow_24 (Or.inl ⟨q233, (Or.inl rfl)⟩) (Or.inl rfl) xh5) rfl (xcP (xok_aload_n dX2_ofRow_27 rfl) rfl (xcC0 (xokc_list (List.forall_mem_cons.mpr ⟨xokc_V (r := (RX2, TX2, 13)) xm57 (List.mem_of_getElem? (i := 2) rfl) (by decide) rfl dX2_ofRow_28 q886 q888 qs23 q140 q889 (by decide +kernel), fun _ h => nomatch h⟩)) rfl (xcP (xok_astore_n dX2_ofRow_31 rfl) rfl (xcP (xok_aload_n dX2_ofRow_32 rfl) rfl (xcP (xok_bipush dX2_ofRow_33 rfl) rfl (xcC0 (xokc_list (List.forall_mem_cons.mpr ⟨xokc_V (r := (RX2, TX2, 13)) xm48 (List.mem_of_getElem? (i := 2) rfl) (by decide) rfl dX2_ofRow_35 q826 q828 qs14 q140 q829 (by decide +kernel), fun _ h => nomatch h⟩)) rfl (xcP (xok_pop dX2_ofRow_38) rfl (xcP (xok_aload_n dX2_ofRow_39 rfl) rfl (xcP (xok_bipush dX2_ofRow_40 rfl) rfl (xcC0 (xokc_list (List.forall_mem_cons.mpr ⟨xokc_V (r := (RX2, TX2, 13)) xm48 (List.mem_of_getElem? (i := 2) rfl) (by decide) rfl dX2_ofRow_42 q826 q828 qs14 q140 q829 (by decide +kernel), fun _ h => nomatch h⟩)) rfl (xcP (xok_pop dX2_ofRow_45) rfl (xcP (xok_aload_n dX2_ofRow_46 rfl) rfl (xcC0 (xokc_list (List.forall_mem_cons.mpr ⟨xokc_V (r := (RX2, TX2, 13)) xm57 (List.mem_of_getElem? (i := 2) rfl) (by decide) rfl dX2_ofRow_47 q886 q888 qs23 q140 q889 (by decide +kernel), fun _ h => nomatch h⟩)) rfl (xcP (xok_astore dX2_ofRow_50) rfl (xcP (xok_aload_n dX2_ofRow_52 rfl) rfl (xcP (xok_bipush dX2_ofRow_53 rfl) rfl (xcC0 (xokc_list (List.forall_mem_cons.mpr ⟨xokc_V (r := (RX2, TX2, 13)) xm48 (List.mem_of_getElem? (i := 2) rfl) (by decide) rfl dX2_ofRow_55 q826 q828 qs14 q140 q829 (by decide +kernel), fun _ h => nomatch h⟩)) rfl (xcP (xok_pop dX2_ofRow_58) rfl (xcP (xok_new (r := (RX21, TX21, 3)) (List.mem_of_getElem? (i := 18) rfl) rfl (by decide) dX2_ofRow_59 q1022 q1023 q166) rfl (xcP (xok_dup dX2_ofRow_62) rfl (xcP (xok_iload_n dX2_ofRow_63 rfl) rfl (xcP (xok_new (r := (RX16, TX16, 2)) (List.mem_of_getElem? (i := 15) rfl) rfl (by decide) dX2_ofRow_64 q941 q942 q161) rfl (xcP (xok_dup dX2_ofRow_67) rfl (xcP (xok_iload_n dX2_ofRow_68 rfl) rfl (xcP (xok_aload_n dX2_ofRow_69 rfl) rfl (xcC0 (xokc_I xm210 rfl rfl dX2_ofRow_70 q943 q944 q161 q945 rfl (by decide +kernel)) rfl (xcP (xok_aload dX2_ofRow_73) rfl (xcC0 (xokc_I xm226 rfl rfl dX2_ofRow_75 q1024 q1025 q166 q1026 rfl (by decide +kernel)) rfl (xcR ⟨dX2_ofRow_78, _, rfl, Or.inl ⟨_, rfl⟩⟩)))))))))))))))))))))))))))))))))))))))))))
theorem okX2_ofRow_79 : XOkL xms rX2_ofRow bX2_ofRow_79 := xcP (xok_aload_n dX2_ofRow_79 rfl) rfl (xcP (xok_bipush dX2_ofRow_80 rfl) rfl (xcC0 (xokc_list (List.forall_mem_cons.mpr ⟨xokc_V (r := (RX2, TX2, 13)) xm48 (List.mem_of_getElem? (i := 2) rfl) (by decide) rfl dX2_ofRow_82 q826 q828 qs14 q140 q829 (by decide +kernel), fun _ h => nomatch h⟩)) rfl (xcP (xok_pop dX2_ofRow_85) rfl (xcP (xok_aload_n dX2_ofRow_86 rfl) rfl (xcP (xok_iconst dX2_ofRow_87 rfl) rfl (xcC0 (xokc_list (List.forall_mem_cons.mpr ⟨xokc_V (r := (RX2, TX2, 13)) xm62 (List.mem_of_getElem? (i := 2) rfl) (by decide) rfl dX2_ofRow_88 q1036 q1038 qs28 q140 q1039 (by decide +kernel), fun _ h => nomatch h⟩)) rfl (xcP (xok_ifeq dX2_ofRow_91 (by decide)) rfl (xcP (xok_aload_n dX2_ofRow_94 rfl) rfl (xcC0 (xokc_list (List.forall_mem_cons.mpr ⟨xokc_V (r := (RX2, TX2, 13)) xm57 (List.mem_of_getElem? (i := 2) rfl) (by decide) rfl dX2_ofRow_95 q886 q888 qs23 q140 q889 (by decide +kernel), fun _ h => nomatch h⟩)) rfl (xcP (xok_astore_n dX2_ofRow_98 rfl) rfl (xcP (xok_aload_n dX2_ofRow_99 rfl) rfl (xcP (xok_bipush dX2_ofRow_100 rfl) rfl (xcC0 (xokc_list (List.forall_mem_cons.mpr ⟨xokc_V (r := (RX2, TX2, 13)) xm48 (List.mem_of_getElem? (i := 2) rfl) (by decide) rfl dX2_ofRow_102 q826 q828 qs14 q140 q829 (by decide +kernel), fun _ h => nomatch h⟩)) rfl (xcP (xok_pop dX2_ofRow_105) rfl (xcP (xok_new (r := (RX22, TX22, 3)) (List.mem_of_getElem? (i := 19) rfl) rfl (by decide) dX2_ofRow_106 q1040 q1041 q167) rfl (xcP (xok_dup dX2_ofRow_109) rfl (xcP (xok_iload_n dX2_ofRow_110 rfl) rfl (xcP (xok_iload_n dX2_ofRow_111 rfl) rfl (xcP (xok_aload_n dX2_ofRow_112 rfl) rfl (xcC0 (xokc_I xm228 rfl rfl dX2_ofRow_113 q1042 q1043 q167 q1044 rfl (by decide +kernel)) rfl (xcR ⟨dX2_ofRow_116, _, rfl, Or.inl ⟨_, rfl⟩⟩)))))))))))))))))))))
theorem okX2_ofRow_117 : XOkL xms rX2_ofRow bX2_ofRow_117 := xcP (xok_aload_n dX2_ofRow_117 rfl) rfl (xcP (xok_bipush dX2_ofRow_118 rfl) rfl (xcC0 (xokc_list (List.forall_mem_cons.mpr ⟨xokc_V (r := (RX2, TX2, 13)) xm62 (List.mem_of_getElem? (i := 2) rfl) (by decide) rfl dX2_ofRow_120 q1036 q1038 qs28 q140 q1039 (by decide +kernel), fun _ h => nomatch h⟩)) rfl (xcP (xok_ifeq dX2_ofRow_123 (by decide)) rfl (xcP (xok_bipush dX2_ofRow_126 rfl) rfl (xcP (xok_goto dX2_ofRow_128 (by decide)) rfl trivial)))))
theorem okX2_ofRow_131 : XOkL xms rX2_ofRow bX2_ofRow_131 := xcP (xok_aload_n dX2_ofRow_131 rfl) rfl (xcP (xok_bipush dX2_ofRow_132 rfl) rfl (xcP (xok_iconst dX2_ofRow_134 rfl) rfl (xcC0 (xokc_list (List.forall_mem_cons.mpr ⟨xokc_V (r := (RX2, TX2, 13)) xm55 (List.mem_of_getElem? (i := 2) rfl) (by decide) rfl dX2_ofRow_135 q878 q880 qs21 q140 q881 (by decide +kernel), fun _ h => nomatch h⟩)) rfl (xcP xok_fal rfl trivial))))
theorem okX2_ofRow_138 : XOkL xms rX2_ofRow bX2_ofRow_138 := xcP (xok_istore_n dX2_ofRow_138 rfl) rfl (xcP (xok_aload_n dX2_ofRow_139 rfl) rfl (xcP (xok_bipush dX2_ofRow_140 rfl) rfl (xcC0 (xokc_list (List.forall_mem_cons.mpr ⟨xokc_V (r := (RX2, TX2, 13)) xm48 (List.mem_of_getElem? (i := 2) rfl) (by decide) rfl dX2_ofRow_142 q826 q828 qs14 q140 q829 (by decide +kernel), fun _ h => nomatch h⟩)) rfl (xcP (xok_pop dX2_ofRow_145) rfl (xcP (xok_new (r := (RX23, TX23, 3)) (List.mem_of_getElem? (i := 20) rfl) rfl (by decide) dX2_ofRow_146 q1054 q1055 q168) rfl (xcP (xok_dup dX2_ofRow_149) rfl (xcP (xok_iload_n dX2_ofRow_150 rfl) rfl (xcP (xok_iload_n dX2_ofRow_151 rfl) rfl (xcP (xok_iload_n dX2_ofRow_152 rfl) rfl (xcC0 (xokc_I xm230 rfl rfl dX2_ofRow_153 q1056 q1057 q168 q1058 rfl (by decide +kernel)) rfl (xcR ⟨dX2_ofRow_156, _, rfl, Or.inl ⟨_, rfl⟩⟩)))))))))))
theorem okM_X2_ofRow : XOkM xms rX2_ofRow := xokM0 (List.forall_mem_cons.mpr ⟨⟨rfl, okX2_ofRow_0⟩, List.forall_mem_cons.mpr ⟨⟨rfl, okX2_ofRow_79⟩, List.forall_mem_cons.mpr ⟨⟨rfl, okX2_ofRow_117⟩, List.forall_mem_cons.mpr ⟨⟨rfl, okX2_ofRow_131⟩, List.forall_mem_cons.mpr ⟨⟨rfl, okX2_ofRow_138⟩, fun _ h => nomatch h⟩⟩⟩⟩⟩) (xokH0 rfl (fun _ _ => rfl)) (by decide +kernel) (by decide)
abbrev cX2_has : ByteArray := prog_21_method_9_code
def dkwX2_has_1 : List UInt8 := [28, 172]
abbrev dktX2_has_1 : List UInt8 := dkwX2_has_1 ++ []
def dkwX2_has_0 : List UInt8 := [42, 27, 182, 0, 58, 61, 42, 89, 180, 0, 33, 28, 153, 0, 7, 4, 167, 0, 4, 3, 96, 181, 0, 33]
abbrev dktX2_has_0 : List UInt8 := dkwX2_has_0 ++ dktX2_has_1
theorem dksX2_has_0 : cX2_has.data.toList.drop 0 = dktX2_has_0 := by decide +kernel
theorem dksX2_has_1 : cX2_has.data.toList.drop 24 = dktX2_has_1 := dk_seg dksX2_has_0 24 rfl rfl
theorem dX2_has_0 : decode cX2_has 0 = .ok (.aload_n 0, 1) := dk_42 (dk_at dksX2_has_0 0 rfl rfl)
theorem dX2_has_1 : decode cX2_has 1 = .ok (.iload_n 1, 1) := dk_27 (dk_at dksX2_has_0 1 rfl rfl)
theorem dX2_has_2 : decode cX2_has 2 = .ok (.invokevirtual 58, 3) := dk_182 0 58 (dk_at dksX2_has_0 2 rfl rfl)
theorem dX2_has_5 : decode cX2_has 5 = .ok (.istore_n 2, 1) := dk_61 (dk_at dksX2_has_0 5 rfl rfl)
theorem dX2_has_6 : decode cX2_has 6 = .ok (.aload_n 0, 1) := dk_42 (dk_at dksX2_has_0 6 rfl rfl)
theorem dX2_has_7 : decode cX2_has 7 = .ok (.dup, 1) := dk_89 (dk_at dksX2_has_0 7 rfl rfl)
theorem dX2_has_8 : decode cX2_has 8 = .ok (.getfield 33, 3) := dk_180 0 33 (dk_at dksX2_has_0 8 rfl rfl)
theorem dX2_has_11 : decode cX2_has 11 = .ok (.iload_n 2, 1) := dk_28 (dk_at dksX2_has_0 11 rfl rfl)
theorem dX2_has_12 : decode cX2_has 12 = .ok (.ifCond .eq 7, 3) := dk_153 0 7 (dk_at dksX2_has_0 12 rfl rfl)
theorem dX2_has_15 : decode cX2_has 15 = .ok (.iconst 1, 1) := dk_4 (dk_at dksX2_has_0 15 rfl rfl)
theorem dX2_has_16 : decode cX2_has 16 = .ok (.goto 4, 3) := dk_167 0 4 (dk_at dksX2_has_0 16 rfl rfl)
theorem dX2_has_19 : decode cX2_has 19 = .ok (.iconst 0, 1) := dk_3 (dk_at dksX2_has_0 19 rfl rfl)
theorem dX2_has_20 : decode cX2_has 20 = .ok (.iadd, 1) := dk_96 (dk_at dksX2_has_0 20 rfl rfl)
theorem dX2_has_21 : decode cX2_has 21 = .ok (.putfield 33, 3) := dk_181 0 33 (dk_at dksX2_has_0 21 rfl rfl)
theorem dX2_has_24 : decode cX2_has 24 = .ok (.iload_n 2, 1) := dk_28 (dk_at dksX2_has_1 0 rfl rfl)
theorem dX2_has_25 : decode cX2_has 25 = .ok (.ireturn, 1) := dk_172 (dk_at dksX2_has_1 1 rfl rfl)
theorem okX2_has_0 : XOkL xms rX2_has bX2_has_0 := xcP (xok_aload_n dX2_has_0 rfl) rfl (xcP (xok_iload_n dX2_has_1 rfl) rfl (xcC0 (xokc_list (List.forall_mem_cons.mpr ⟨xokc_V (r := (RX2, TX2, 13)) xm41 (List.mem_of_getElem? (i := 2) rfl) (by decide) rfl dX2_has_2 q774 q776 qs7 q140 q777 (by decide +kernel), fun _ h => nomatch h⟩)) rfl (xcP (xok_istore_n dX2_has_5 rfl) rfl (xcP (xok_aload_n dX2_has_6 rfl) rfl (xcP (xok_dup dX2_has_7) rfl (xcP (xok_getfield (ref := "WaysAtlas$Reader") (Or.inl ⟨rfl, by decide⟩) dX2_has_8 (Or.inl ⟨q233, (Or.inl rfl)⟩) xh5) rfl (xcP (xok_iload_n dX2_has_11 rfl) rfl (xcP (xok_ifeq dX2_has_12 (by decide)) rfl (xcP (xok_iconst dX2_has_15 rfl) rfl (xcP (xok_goto dX2_has_16 (by decide)) rfl trivial))))))))))
theorem okX2_has_19 : XOkL xms rX2_has bX2_has_19 := xcP (xok_iconst dX2_has_19 rfl) rfl (xcP xok_fal rfl trivial)
theorem okX2_has_20 : XOkL xms rX2_has bX2_has_20 := xcP (xok_iadd dX2_has_20) rfl (xcP (xok_putfield (ref := "WaysAtlas$Reader") (Or.inl ⟨rfl, by decide, rfl⟩) dX2_has_21 (Or.inl ⟨q233, (Or.inl rfl)⟩) (Or.inl rfl) xh5) rfl (xcP (xok_iload_n dX2_has_24 rfl) rfl (xcR ⟨dX2_has_25, rfl⟩)))
theorem okM_X2_has : XOkM xms rX2_has := xokM0 (List.forall_mem_cons.mpr ⟨⟨rfl, okX2_has_0⟩, List.forall_mem_cons.mpr ⟨⟨rfl, okX2_has_19⟩, List.forall_mem_cons.mpr ⟨⟨rfl, okX2_has_20⟩, fun _ h => nomatch h⟩⟩⟩) (xokH0 rfl (fun _ _ => rfl)) (by decide +kernel) (by decide)
abbrev cX2_ofWord : ByteArray := prog_21_method_22_code
def dkwX2_ofWord_17 : List UInt8 := [184, 0, 156, 182, 0, 66, 42, 27, 42, 16, 7, 182, 0, 69, 182, 0, 243, 176]
abbrev dktX2_ofWord_17 : List UInt8 := dkwX2_ofWord_17 ++ []
def dkwX2_ofWord_16 : List UInt8 := [167, 0, 4, 3, 182, 0, 62, 42, 42, 180, 0, 24, 180, 0, 44, 42, 180, 0, 33, 46, 4, 6]
abbrev dktX2_ofWord_16 : List UInt8 := dkwX2_ofWord_16 ++ dktX2_ofWord_17
def dkwX2_ofWord_15 : List UInt8 := [183, 0, 240, 176, 42, 27, 3, 182, 0, 243, 176, 42, 42, 182, 0, 40, 16, 7, 160, 0, 7, 4]
abbrev dktX2_ofWord_15 : List UInt8 := dkwX2_ofWord_15 ++ dktX2_ofWord_16
def dkwX2_ofWord_14 : List UInt8 := [3, 28, 182, 0, 81, 42, 16, 59, 182, 0, 69, 87, 187, 0, 238, 89, 27, 16, 247, 42, 180, 0, 95]
abbrev dktX2_ofWord_14 : List UInt8 := dkwX2_ofWord_14 ++ dktX2_ofWord_15
def dkwX2_ofWord_13 : List UInt8 := [89, 27, 21, 4, 42, 180, 0, 95, 183, 0, 240, 176, 42, 42, 180, 0, 95, 199, 0, 7, 4, 167, 0, 4]
abbrev dktX2_ofWord_13 : List UInt8 := dkwX2_ofWord_13 ++ dktX2_ofWord_14
def dkwX2_ofWord_12 : List UInt8 := [167, 0, 4, 3, 28, 182, 0, 81, 42, 182, 0, 109, 54, 4, 42, 16, 59, 182, 0, 69, 87, 187, 0, 238]
abbrev dktX2_ofWord_12 : List UInt8 := dkwX2_ofWord_12 ++ dktX2_ofWord_13
def dkwX2_ofWord_11 : List UInt8 := [182, 0, 69, 87, 187, 0, 235, 89, 27, 21, 4, 183, 0, 237, 176, 42, 42, 180, 0, 95, 199, 0, 7, 4]
abbrev dktX2_ofWord_11 : List UInt8 := dkwX2_ofWord_11 ++ dktX2_ofWord_12
def dkwX2_ofWord_10 : List UInt8 := [17, 0, 200, 21, 5, 16, 80, 184, 0, 115, 96, 183, 0, 234, 176, 42, 182, 0, 109, 54, 4, 42, 16, 59]
abbrev dktX2_ofWord_10 : List UInt8 := dkwX2_ofWord_10 ++ dktX2_ofWord_11
def dkwX2_ofWord_9 : List UInt8 := [42, 16, 59, 182, 0, 69, 87, 187, 0, 232, 89, 27, 29, 16, 11, 160, 0, 8, 16, 100, 167, 0, 6]
abbrev dktX2_ofWord_9 : List UInt8 := dkwX2_ofWord_9 ++ dktX2_ofWord_10
def dkwX2_ofWord_8 : List UInt8 := [21, 5, 153, 0, 12, 21, 5, 42, 180, 0, 92, 164, 0, 7, 4, 167, 0, 4, 3, 21, 4, 182, 0, 81]
abbrev dktX2_ofWord_8 : List UInt8 := dkwX2_ofWord_8 ++ dktX2_ofWord_9
def dkwX2_ofWord_7 : List UInt8 := [4, 100, 181, 0, 92, 25, 4, 176, 42, 182, 0, 49, 54, 4, 42, 16, 7, 182, 0, 69, 54, 5, 42]
abbrev dktX2_ofWord_7 : List UInt8 := dkwX2_ofWord_7 ++ dktX2_ofWord_8
def dkwX2_ofWord_6 : List UInt8 := [42, 89, 180, 0, 92, 4, 96, 181, 0, 92, 25, 4, 42, 182, 0, 229, 181, 0, 231, 42, 89, 180, 0, 92]
abbrev dktX2_ofWord_6 : List UInt8 := dkwX2_ofWord_6 ++ dktX2_ofWord_7
def dkwX2_ofWord_5 : List UInt8 := [183, 0, 222, 176, 42, 27, 182, 0, 223, 176, 187, 0, 226, 89, 27, 42, 182, 0, 182, 183, 0, 228, 58, 4]
abbrev dktX2_ofWord_5 : List UInt8 := dkwX2_ofWord_5 ++ dktX2_ofWord_6
def dkwX2_ofWord_4 : List UInt8 := [183, 0, 219, 176, 42, 182, 0, 182, 58, 4, 42, 16, 59, 182, 0, 69, 87, 187, 0, 220, 89, 27, 25, 4]
abbrev dktX2_ofWord_4 : List UInt8 := dkwX2_ofWord_4 ++ dktX2_ofWord_5
def dkwX2_ofWord_3 : List UInt8 := [42, 16, 7, 182, 0, 69, 54, 4, 42, 16, 59, 182, 0, 69, 87, 187, 0, 217, 89, 27, 21, 4]
abbrev dktX2_ofWord_3 : List UInt8 := dkwX2_ofWord_3 ++ dktX2_ofWord_4
def dkwX2_ofWord_2 : List UInt8 := [170, 0, 0, 0, 1, 108, 0, 0, 0, 3, 0, 0, 0, 16, 0, 0, 0, 70, 0, 0, 1, 108, 0, 0, 1, 108, 0, 0, 1, 108, 0, 0, 0, 96, 0, 0, 0, 120, 0, 0, 1, 108, 0, 0, 0, 126, 0, 0, 0, 172, 0, 0, 0, 172, 0, 0, 0, 249, 0, 0, 1, 17, 0, 0, 1, 62, 0, 0, 1, 101]
abbrev dktX2_ofWord_2 : List UInt8 := dkwX2_ofWord_2 ++ dktX2_ofWord_3
def dkwX2_ofWord_1 : List UInt8 := [27, 16, 247, 182, 0, 178, 176, 42, 89, 180, 0, 33, 4, 96, 181, 0, 33, 29]
abbrev dktX2_ofWord_1 : List UInt8 := dkwX2_ofWord_1 ++ dktX2_ofWord_2
def dkwX2_ofWord_0 : List UInt8 := [42, 182, 0, 49, 61, 42, 180, 0, 24, 180, 0, 44, 42, 180, 0, 33, 46, 62, 29, 7, 160, 0, 11, 42]
abbrev dktX2_ofWord_0 : List UInt8 := dkwX2_ofWord_0 ++ dktX2_ofWord_1
theorem dksX2_ofWord_0 : cX2_ofWord.data.toList.drop 0 = dktX2_ofWord_0 := by decide +kernel
theorem dksX2_ofWord_1 : cX2_ofWord.data.toList.drop 24 = dktX2_ofWord_1 := dk_seg dksX2_ofWord_0 24 rfl rfl
theorem dksX2_ofWord_2 : cX2_ofWord.data.toList.drop 42 = dktX2_ofWord_2 := dk_seg dksX2_ofWord_1 18 rfl rfl
theorem dksX2_ofWord_3 : cX2_ofWord.data.toList.drop 112 = dktX2_ofWord_3 := dk_seg dksX2_ofWord_2 70 rfl rfl
theorem dksX2_ofWord_4 : cX2_ofWord.data.toList.drop 134 = dktX2_ofWord_4 := dk_seg dksX2_ofWord_3 22 rfl rfl
theorem dksX2_ofWord_5 : cX2_ofWord.data.toList.drop 158 = dktX2_ofWord_5 := dk_seg dksX2_ofWord_4 24 rfl rfl
theorem dksX2_ofWord_6 : cX2_ofWord.data.toList.drop 182 = dktX2_ofWord_6 := dk_seg dksX2_ofWord_5 24 rfl rfl
theorem dksX2_ofWord_7 : cX2_ofWord.data.toList.drop 206 = dktX2_ofWord_7 := dk_seg dksX2_ofWord_6 24 rfl rfl
theorem dksX2_ofWord_8 : cX2_ofWord.data.toList.drop 229 = dktX2_ofWord_8 := dk_seg dksX2_ofWord_7 23 rfl rfl
theorem dksX2_ofWord_9 : cX2_ofWord.data.toList.drop 253 = dktX2_ofWord_9 := dk_seg dksX2_ofWord_8 24 rfl rfl
theorem dksX2_ofWord_10 : cX2_ofWord.data.toList.drop 276 = dktX2_ofWord_10 := dk_seg dksX2_ofWord_9 23 rfl rfl
theorem dksX2_ofWord_11 : cX2_ofWord.data.toList.drop 300 = dktX2_ofWord_11 := dk_seg dksX2_ofWord_10 24 rfl rfl
theorem dksX2_ofWord_12 : cX2_ofWord.data.toList.drop 324 = dktX2_ofWord_12 := dk_seg dksX2_ofWord_11 24 rfl rfl
theorem dksX2_ofWord_13 : cX2_ofWord.data.toList.drop 348 = dktX2_ofWord_13 := dk_seg dksX2_ofWord_12 24 rfl rfl
theorem dksX2_ofWord_14 : cX2_ofWord.data.toList.drop 372 = dktX2_ofWord_14 := dk_seg dksX2_ofWord_13 24 rfl rfl
theorem dksX2_ofWord_15 : cX2_ofWord.data.toList.drop 395 = dktX2_ofWord_15 := dk_seg dksX2_ofWord_14 23 rfl rfl
theorem dksX2_ofWord_16 : cX2_ofWord.data.toList.drop 417 = dktX2_ofWord_16 := dk_seg dksX2_ofWord_15 22 rfl rfl
theorem dksX2_ofWord_17 : cX2_ofWord.data.toList.drop 439 = dktX2_ofWord_17 := dk_seg dksX2_ofWord_16 22 rfl rfl
theorem dX2_ofWord_0 : decode cX2_ofWord 0 = .ok (.aload_n 0, 1) := dk_42 (dk_at dksX2_ofWord_0 0 rfl rfl)
theorem dX2_ofWord_1 : decode cX2_ofWord 1 = .ok (.invokevirtual 49, 3) := dk_182 0 49 (dk_at dksX2_ofWord_0 1 rfl rfl)
theorem dX2_ofWord_4 : decode cX2_ofWord 4 = .ok (.istore_n 2, 1) := dk_61 (dk_at dksX2_ofWord_0 4 rfl rfl)
theorem dX2_ofWord_5 : decode cX2_ofWord 5 = .ok (.aload_n 0, 1) := dk_42 (dk_at dksX2_ofWord_0 5 rfl rfl)
theorem dX2_ofWord_6 : decode cX2_ofWord 6 = .ok (.getfield 24, 3) := dk_180 0 24 (dk_at dksX2_ofWord_0 6 rfl rfl)
theorem dX2_ofWord_9 : decode cX2_ofWord 9 = .ok (.getfield 44, 3) := dk_180 0 44 (dk_at dksX2_ofWord_0 9 rfl rfl)
theorem dX2_ofWord_12 : decode cX2_ofWord 12 = .ok (.aload_n 0, 1) := dk_42 (dk_at dksX2_ofWord_0 12 rfl rfl)
theorem dX2_ofWord_13 : decode cX2_ofWord 13 = .ok (.getfield 33, 3) := dk_180 0 33 (dk_at dksX2_ofWord_0 13 rfl rfl)
theorem dX2_ofWord_16 : decode cX2_ofWord 16 = .ok (.iaload, 1) := dk_46 (dk_at dksX2_ofWord_0 16 rfl rfl)
theorem dX2_ofWord_17 : decode cX2_ofWord 17 = .ok (.istore_n 3, 1) := dk_62 (dk_at dksX2_ofWord_0 17 rfl rfl)
theorem dX2_ofWord_18 : decode cX2_ofWord 18 = .ok (.iload_n 3, 1) := dk_29 (dk_at dksX2_ofWord_0 18 rfl rfl)
theorem dX2_ofWord_19 : decode cX2_ofWord 19 = .ok (.iconst 4, 1) := dk_7 (dk_at dksX2_ofWord_0 19 rfl rfl)
theorem dX2_ofWord_20 : decode cX2_ofWord 20 = .ok (.if_icmp .ne 11, 3) := dk_160 0 11 (dk_at dksX2_ofWord_0 20 rfl rfl)
theorem dX2_ofWord_23 : decode cX2_ofWord 23 = .ok (.aload_n 0, 1) := dk_42 (dk_at dksX2_ofWord_0 23 rfl rfl)
theorem dX2_ofWord_24 : decode cX2_ofWord 24 = .ok (.iload_n 1, 1) := dk_27 (dk_at dksX2_ofWord_1 0 rfl rfl)
theorem dX2_ofWord_25 : decode cX2_ofWord 25 = .ok (.bipush (-9), 2) := dk_16 247 (dk_at dksX2_ofWord_1 1 rfl rfl)
theorem dX2_ofWord_27 : decode cX2_ofWord 27 = .ok (.invokevirtual 178, 3) := dk_182 0 178 (dk_at dksX2_ofWord_1 3 rfl rfl)
theorem dX2_ofWord_30 : decode cX2_ofWord 30 = .ok (.areturn, 1) := dk_176 (dk_at dksX2_ofWord_1 6 rfl rfl)
theorem dX2_ofWord_31 : decode cX2_ofWord 31 = .ok (.aload_n 0, 1) := dk_42 (dk_at dksX2_ofWord_1 7 rfl rfl)
theorem dX2_ofWord_32 : decode cX2_ofWord 32 = .ok (.dup, 1) := dk_89 (dk_at dksX2_ofWord_1 8 rfl rfl)
theorem dX2_ofWord_33 : decode cX2_ofWord 33 = .ok (.getfield 33, 3) := dk_180 0 33 (dk_at dksX2_ofWord_1 9 rfl rfl)
theorem dX2_ofWord_36 : decode cX2_ofWord 36 = .ok (.iconst 1, 1) := dk_4 (dk_at dksX2_ofWord_1 12 rfl rfl)
theorem dX2_ofWord_37 : decode cX2_ofWord 37 = .ok (.iadd, 1) := dk_96 (dk_at dksX2_ofWord_1 13 rfl rfl)
theorem dX2_ofWord_38 : decode cX2_ofWord 38 = .ok (.putfield 33, 3) := dk_181 0 33 (dk_at dksX2_ofWord_1 14 rfl rfl)
theorem dX2_ofWord_41 : decode cX2_ofWord 41 = .ok (.iload_n 3, 1) := dk_29 (dk_at dksX2_ofWord_1 17 rfl rfl)
theorem dX2_ofWord_42 : decode cX2_ofWord 42 = .ok (.tableswitch 364 3 16 #[70, 364, 364, 364, 96, 120, 364, 126, 172, 172, 249, 273, 318, 357], 70) := by decide +kernel
theorem dX2_ofWord_112 : decode cX2_ofWord 112 = .ok (.aload_n 0, 1) := dk_42 (dk_at dksX2_ofWord_3 0 rfl rfl)
theorem dX2_ofWord_113 : decode cX2_ofWord 113 = .ok (.bipush 7, 2) := dk_16 7 (dk_at dksX2_ofWord_3 1 rfl rfl)
theorem dX2_ofWord_115 : decode cX2_ofWord 115 = .ok (.invokevirtual 69, 3) := dk_182 0 69 (dk_at dksX2_ofWord_3 3 rfl rfl)
theorem dX2_ofWord_118 : decode cX2_ofWord 118 = .ok (.istore 4, 2) := dk_54 4 (dk_at dksX2_ofWord_3 6 rfl rfl)
theorem dX2_ofWord_120 : decode cX2_ofWord 120 = .ok (.aload_n 0, 1) := dk_42 (dk_at dksX2_ofWord_3 8 rfl rfl)
theorem dX2_ofWord_121 : decode cX2_ofWord 121 = .ok (.bipush 59, 2) := dk_16 59 (dk_at dksX2_ofWord_3 9 rfl rfl)
theorem dX2_ofWord_123 : decode cX2_ofWord 123 = .ok (.invokevirtual 69, 3) := dk_182 0 69 (dk_at dksX2_ofWord_3 11 rfl rfl)
theorem dX2_ofWord_126 : decode cX2_ofWord 126 = .ok (.pop, 1) := dk_87 (dk_at dksX2_ofWord_3 14 rfl rfl)
theorem dX2_ofWord_127 : decode cX2_ofWord 127 = .ok (.new 217, 3) := dk_187 0 217 (dk_at dksX2_ofWord_3 15 rfl rfl)
theorem dX2_ofWord_130 : decode cX2_ofWord 130 = .ok (.dup, 1) := dk_89 (dk_at dksX2_ofWord_3 18 rfl rfl)
theorem dX2_ofWord_131 : decode cX2_ofWord 131 = .ok (.iload_n 1, 1) := dk_27 (dk_at dksX2_ofWord_3 19 rfl rfl)
theorem dX2_ofWord_132 : decode cX2_ofWord 132 = .ok (.iload 4, 2) := dk_21 4 (dk_at dksX2_ofWord_3 20 rfl rfl)
theorem dX2_ofWord_134 : decode cX2_ofWord 134 = .ok (.invokespecial 219, 3) := dk_183 0 219 (dk_at dksX2_ofWord_4 0 rfl rfl)
theorem dX2_ofWord_137 : decode cX2_ofWord 137 = .ok (.areturn, 1) := dk_176 (dk_at dksX2_ofWord_4 3 rfl rfl)
theorem dX2_ofWord_138 : decode cX2_ofWord 138 = .ok (.aload_n 0, 1) := dk_42 (dk_at dksX2_ofWord_4 4 rfl rfl)
theorem dX2_ofWord_139 : decode cX2_ofWord 139 = .ok (.invokevirtual 182, 3) := dk_182 0 182 (dk_at dksX2_ofWord_4 5 rfl rfl)
theorem dX2_ofWord_142 : decode cX2_ofWord 142 = .ok (.astore 4, 2) := dk_58 4 (dk_at dksX2_ofWord_4 8 rfl rfl)
theorem dX2_ofWord_144 : decode cX2_ofWord 144 = .ok (.aload_n 0, 1) := dk_42 (dk_at dksX2_ofWord_4 10 rfl rfl)
theorem dX2_ofWord_145 : decode cX2_ofWord 145 = .ok (.bipush 59, 2) := dk_16 59 (dk_at dksX2_ofWord_4 11 rfl rfl)
theorem dX2_ofWord_147 : decode cX2_ofWord 147 = .ok (.invokevirtual 69, 3) := dk_182 0 69 (dk_at dksX2_ofWord_4 13 rfl rfl)
theorem dX2_ofWord_150 : decode cX2_ofWord 150 = .ok (.pop, 1) := dk_87 (dk_at dksX2_ofWord_4 16 rfl rfl)
theorem dX2_ofWord_151 : decode cX2_ofWord 151 = .ok (.new 220, 3) := dk_187 0 220 (dk_at dksX2_ofWord_4 17 rfl rfl)
theorem dX2_ofWord_154 : decode cX2_ofWord 154 = .ok (.dup, 1) := dk_89 (dk_at dksX2_ofWord_4 20 rfl rfl)
theorem dX2_ofWord_155 : decode cX2_ofWord 155 = .ok (.iload_n 1, 1) := dk_27 (dk_at dksX2_ofWord_4 21 rfl rfl)
theorem dX2_ofWord_156 : decode cX2_ofWord 156 = .ok (.aload 4, 2) := dk_25 4 (dk_at dksX2_ofWord_4 22 rfl rfl)
theorem dX2_ofWord_158 : decode cX2_ofWord 158 = .ok (.invokespecial 222, 3) := dk_183 0 222 (dk_at dksX2_ofWord_5 0 rfl rfl)
theorem dX2_ofWord_161 : decode cX2_ofWord 161 = .ok (.areturn, 1) := dk_176 (dk_at dksX2_ofWord_5 3 rfl rfl)
theorem dX2_ofWord_162 : decode cX2_ofWord 162 = .ok (.aload_n 0, 1) := dk_42 (dk_at dksX2_ofWord_5 4 rfl rfl)
theorem dX2_ofWord_163 : decode cX2_ofWord 163 = .ok (.iload_n 1, 1) := dk_27 (dk_at dksX2_ofWord_5 5 rfl rfl)
theorem dX2_ofWord_164 : decode cX2_ofWord 164 = .ok (.invokevirtual 223, 3) := dk_182 0 223 (dk_at dksX2_ofWord_5 6 rfl rfl)
theorem dX2_ofWord_167 : decode cX2_ofWord 167 = .ok (.areturn, 1) := dk_176 (dk_at dksX2_ofWord_5 9 rfl rfl)
theorem dX2_ofWord_168 : decode cX2_ofWord 168 = .ok (.new 226, 3) := dk_187 0 226 (dk_at dksX2_ofWord_5 10 rfl rfl)
theorem dX2_ofWord_171 : decode cX2_ofWord 171 = .ok (.dup, 1) := dk_89 (dk_at dksX2_ofWord_5 13 rfl rfl)
theorem dX2_ofWord_172 : decode cX2_ofWord 172 = .ok (.iload_n 1, 1) := dk_27 (dk_at dksX2_ofWord_5 14 rfl rfl)
theorem dX2_ofWord_173 : decode cX2_ofWord 173 = .ok (.aload_n 0, 1) := dk_42 (dk_at dksX2_ofWord_5 15 rfl rfl)
theorem dX2_ofWord_174 : decode cX2_ofWord 174 = .ok (.invokevirtual 182, 3) := dk_182 0 182 (dk_at dksX2_ofWord_5 16 rfl rfl)
theorem dX2_ofWord_177 : decode cX2_ofWord 177 = .ok (.invokespecial 228, 3) := dk_183 0 228 (dk_at dksX2_ofWord_5 19 rfl rfl)
theorem dX2_ofWord_180 : decode cX2_ofWord 180 = .ok (.astore 4, 2) := dk_58 4 (dk_at dksX2_ofWord_5 22 rfl rfl)
theorem dX2_ofWord_182 : decode cX2_ofWord 182 = .ok (.aload_n 0, 1) := dk_42 (dk_at dksX2_ofWord_6 0 rfl rfl)
theorem dX2_ofWord_183 : decode cX2_ofWord 183 = .ok (.dup, 1) := dk_89 (dk_at dksX2_ofWord_6 1 rfl rfl)
theorem dX2_ofWord_184 : decode cX2_ofWord 184 = .ok (.getfield 92, 3) := dk_180 0 92 (dk_at dksX2_ofWord_6 2 rfl rfl)
theorem dX2_ofWord_187 : decode cX2_ofWord 187 = .ok (.iconst 1, 1) := dk_4 (dk_at dksX2_ofWord_6 5 rfl rfl)
theorem dX2_ofWord_188 : decode cX2_ofWord 188 = .ok (.iadd, 1) := dk_96 (dk_at dksX2_ofWord_6 6 rfl rfl)
theorem dX2_ofWord_189 : decode cX2_ofWord 189 = .ok (.putfield 92, 3) := dk_181 0 92 (dk_at dksX2_ofWord_6 7 rfl rfl)
theorem dX2_ofWord_192 : decode cX2_ofWord 192 = .ok (.aload 4, 2) := dk_25 4 (dk_at dksX2_ofWord_6 10 rfl rfl)
theorem dX2_ofWord_194 : decode cX2_ofWord 194 = .ok (.aload_n 0, 1) := dk_42 (dk_at dksX2_ofWord_6 12 rfl rfl)
theorem dX2_ofWord_195 : decode cX2_ofWord 195 = .ok (.invokevirtual 229, 3) := dk_182 0 229 (dk_at dksX2_ofWord_6 13 rfl rfl)
theorem dX2_ofWord_198 : decode cX2_ofWord 198 = .ok (.putfield 231, 3) := dk_181 0 231 (dk_at dksX2_ofWord_6 16 rfl rfl)
theorem dX2_ofWord_201 : decode cX2_ofWord 201 = .ok (.aload_n 0, 1) := dk_42 (dk_at dksX2_ofWord_6 19 rfl rfl)
theorem dX2_ofWord_202 : decode cX2_ofWord 202 = .ok (.dup, 1) := dk_89 (dk_at dksX2_ofWord_6 20 rfl rfl)
theorem dX2_ofWord_203 : decode cX2_ofWord 203 = .ok (.getfield 92, 3) := dk_180 0 92 (dk_at dksX2_ofWord_6 21 rfl rfl)
theorem dX2_ofWord_206 : decode cX2_ofWord 206 = .ok (.iconst 1, 1) := dk_4 (dk_at dksX2_ofWord_7 0 rfl rfl)
theorem dX2_ofWord_207 : decode cX2_ofWord 207 = .ok (.isub, 1) := dk_100 (dk_at dksX2_ofWord_7 1 rfl rfl)
theorem dX2_ofWord_208 : decode cX2_ofWord 208 = .ok (.putfield 92, 3) := dk_181 0 92 (dk_at dksX2_ofWord_7 2 rfl rfl)
theorem dX2_ofWord_211 : decode cX2_ofWord 211 = .ok (.aload 4, 2) := dk_25 4 (dk_at dksX2_ofWord_7 5 rfl rfl)
theorem dX2_ofWord_213 : decode cX2_ofWord 213 = .ok (.areturn, 1) := dk_176 (dk_at dksX2_ofWord_7 7 rfl rfl)
theorem dX2_ofWord_214 : decode cX2_ofWord 214 = .ok (.aload_n 0, 1) := dk_42 (dk_at dksX2_ofWord_7 8 rfl rfl)
theorem dX2_ofWord_215 : decode cX2_ofWord 215 = .ok (.invokevirtual 49, 3) := dk_182 0 49 (dk_at dksX2_ofWord_7 9 rfl rfl)
theorem dX2_ofWord_218 : decode cX2_ofWord 218 = .ok (.istore 4, 2) := dk_54 4 (dk_at dksX2_ofWord_7 12 rfl rfl)
theorem dX2_ofWord_220 : decode cX2_ofWord 220 = .ok (.aload_n 0, 1) := dk_42 (dk_at dksX2_ofWord_7 14 rfl rfl)
theorem dX2_ofWord_221 : decode cX2_ofWord 221 = .ok (.bipush 7, 2) := dk_16 7 (dk_at dksX2_ofWord_7 15 rfl rfl)
theorem dX2_ofWord_223 : decode cX2_ofWord 223 = .ok (.invokevirtual 69, 3) := dk_182 0 69 (dk_at dksX2_ofWord_7 17 rfl rfl)
theorem dX2_ofWord_226 : decode cX2_ofWord 226 = .ok (.istore 5, 2) := dk_54 5 (dk_at dksX2_ofWord_7 20 rfl rfl)
theorem dX2_ofWord_228 : decode cX2_ofWord 228 = .ok (.aload_n 0, 1) := dk_42 (dk_at dksX2_ofWord_7 22 rfl rfl)
theorem dX2_ofWord_229 : decode cX2_ofWord 229 = .ok (.iload 5, 2) := dk_21 5 (dk_at dksX2_ofWord_8 0 rfl rfl)
theorem dX2_ofWord_231 : decode cX2_ofWord 231 = .ok (.ifCond .eq 12, 3) := dk_153 0 12 (dk_at dksX2_ofWord_8 2 rfl rfl)
theorem dX2_ofWord_234 : decode cX2_ofWord 234 = .ok (.iload 5, 2) := dk_21 5 (dk_at dksX2_ofWord_8 5 rfl rfl)
theorem dX2_ofWord_236 : decode cX2_ofWord 236 = .ok (.aload_n 0, 1) := dk_42 (dk_at dksX2_ofWord_8 7 rfl rfl)
theorem dX2_ofWord_237 : decode cX2_ofWord 237 = .ok (.getfield 92, 3) := dk_180 0 92 (dk_at dksX2_ofWord_8 8 rfl rfl)
theorem dX2_ofWord_240 : decode cX2_ofWord 240 = .ok (.if_icmp .le 7, 3) := dk_164 0 7 (dk_at dksX2_ofWord_8 11 rfl rfl)
theorem dX2_ofWord_243 : decode cX2_ofWord 243 = .ok (.iconst 1, 1) := dk_4 (dk_at dksX2_ofWord_8 14 rfl rfl)
theorem dX2_ofWord_244 : decode cX2_ofWord 244 = .ok (.goto 4, 3) := dk_167 0 4 (dk_at dksX2_ofWord_8 15 rfl rfl)
theorem dX2_ofWord_247 : decode cX2_ofWord 247 = .ok (.iconst 0, 1) := dk_3 (dk_at dksX2_ofWord_8 18 rfl rfl)
theorem dX2_ofWord_248 : decode cX2_ofWord 248 = .ok (.iload 4, 2) := dk_21 4 (dk_at dksX2_ofWord_8 19 rfl rfl)
theorem dX2_ofWord_250 : decode cX2_ofWord 250 = .ok (.invokevirtual 81, 3) := dk_182 0 81 (dk_at dksX2_ofWord_8 21 rfl rfl)
theorem dX2_ofWord_253 : decode cX2_ofWord 253 = .ok (.aload_n 0, 1) := dk_42 (dk_at dksX2_ofWord_9 0 rfl rfl)
theorem dX2_ofWord_254 : decode cX2_ofWord 254 = .ok (.bipush 59, 2) := dk_16 59 (dk_at dksX2_ofWord_9 1 rfl rfl)
theorem dX2_ofWord_256 : decode cX2_ofWord 256 = .ok (.invokevirtual 69, 3) := dk_182 0 69 (dk_at dksX2_ofWord_9 3 rfl rfl)
theorem dX2_ofWord_259 : decode cX2_ofWord 259 = .ok (.pop, 1) := dk_87 (dk_at dksX2_ofWord_9 6 rfl rfl)
theorem dX2_ofWord_260 : decode cX2_ofWord 260 = .ok (.new 232, 3) := dk_187 0 232 (dk_at dksX2_ofWord_9 7 rfl rfl)
theorem dX2_ofWord_263 : decode cX2_ofWord 263 = .ok (.dup, 1) := dk_89 (dk_at dksX2_ofWord_9 10 rfl rfl)
theorem dX2_ofWord_264 : decode cX2_ofWord 264 = .ok (.iload_n 1, 1) := dk_27 (dk_at dksX2_ofWord_9 11 rfl rfl)
theorem dX2_ofWord_265 : decode cX2_ofWord 265 = .ok (.iload_n 3, 1) := dk_29 (dk_at dksX2_ofWord_9 12 rfl rfl)
theorem dX2_ofWord_266 : decode cX2_ofWord 266 = .ok (.bipush 11, 2) := dk_16 11 (dk_at dksX2_ofWord_9 13 rfl rfl)
theorem dX2_ofWord_268 : decode cX2_ofWord 268 = .ok (.if_icmp .ne 8, 3) := dk_160 0 8 (dk_at dksX2_ofWord_9 15 rfl rfl)
theorem dX2_ofWord_271 : decode cX2_ofWord 271 = .ok (.bipush 100, 2) := dk_16 100 (dk_at dksX2_ofWord_9 18 rfl rfl)
theorem dX2_ofWord_273 : decode cX2_ofWord 273 = .ok (.goto 6, 3) := dk_167 0 6 (dk_at dksX2_ofWord_9 20 rfl rfl)
theorem dX2_ofWord_276 : decode cX2_ofWord 276 = .ok (.sipush 200, 3) := dk_17 0 200 (dk_at dksX2_ofWord_10 0 rfl rfl)
theorem dX2_ofWord_279 : decode cX2_ofWord 279 = .ok (.iload 5, 2) := dk_21 5 (dk_at dksX2_ofWord_10 3 rfl rfl)
theorem dX2_ofWord_281 : decode cX2_ofWord 281 = .ok (.bipush 80, 2) := dk_16 80 (dk_at dksX2_ofWord_10 5 rfl rfl)
theorem dX2_ofWord_283 : decode cX2_ofWord 283 = .ok (.invokestatic 115, 3) := dk_184 0 115 (dk_at dksX2_ofWord_10 7 rfl rfl)
theorem dX2_ofWord_286 : decode cX2_ofWord 286 = .ok (.iadd, 1) := dk_96 (dk_at dksX2_ofWord_10 10 rfl rfl)
theorem dX2_ofWord_287 : decode cX2_ofWord 287 = .ok (.invokespecial 234, 3) := dk_183 0 234 (dk_at dksX2_ofWord_10 11 rfl rfl)
theorem dX2_ofWord_290 : decode cX2_ofWord 290 = .ok (.areturn, 1) := dk_176 (dk_at dksX2_ofWord_10 14 rfl rfl)
theorem dX2_ofWord_291 : decode cX2_ofWord 291 = .ok (.aload_n 0, 1) := dk_42 (dk_at dksX2_ofWord_10 15 rfl rfl)
theorem dX2_ofWord_292 : decode cX2_ofWord 292 = .ok (.invokevirtual 109, 3) := dk_182 0 109 (dk_at dksX2_ofWord_10 16 rfl rfl)
theorem dX2_ofWord_295 : decode cX2_ofWord 295 = .ok (.istore 4, 2) := dk_54 4 (dk_at dksX2_ofWord_10 19 rfl rfl)
theorem dX2_ofWord_297 : decode cX2_ofWord 297 = .ok (.aload_n 0, 1) := dk_42 (dk_at dksX2_ofWord_10 21 rfl rfl)
theorem dX2_ofWord_298 : decode cX2_ofWord 298 = .ok (.bipush 59, 2) := dk_16 59 (dk_at dksX2_ofWord_10 22 rfl rfl)
theorem dX2_ofWord_300 : decode cX2_ofWord 300 = .ok (.invokevirtual 69, 3) := dk_182 0 69 (dk_at dksX2_ofWord_11 0 rfl rfl)
theorem dX2_ofWord_303 : decode cX2_ofWord 303 = .ok (.pop, 1) := dk_87 (dk_at dksX2_ofWord_11 3 rfl rfl)
theorem dX2_ofWord_304 : decode cX2_ofWord 304 = .ok (.new 235, 3) := dk_187 0 235 (dk_at dksX2_ofWord_11 4 rfl rfl)
theorem dX2_ofWord_307 : decode cX2_ofWord 307 = .ok (.dup, 1) := dk_89 (dk_at dksX2_ofWord_11 7 rfl rfl)
theorem dX2_ofWord_308 : decode cX2_ofWord 308 = .ok (.iload_n 1, 1) := dk_27 (dk_at dksX2_ofWord_11 8 rfl rfl)
theorem dX2_ofWord_309 : decode cX2_ofWord 309 = .ok (.iload 4, 2) := dk_21 4 (dk_at dksX2_ofWord_11 9 rfl rfl)
theorem dX2_ofWord_311 : decode cX2_ofWord 311 = .ok (.invokespecial 237, 3) := dk_183 0 237 (dk_at dksX2_ofWord_11 11 rfl rfl)
theorem dX2_ofWord_314 : decode cX2_ofWord 314 = .ok (.areturn, 1) := dk_176 (dk_at dksX2_ofWord_11 14 rfl rfl)
theorem dX2_ofWord_315 : decode cX2_ofWord 315 = .ok (.aload_n 0, 1) := dk_42 (dk_at dksX2_ofWord_11 15 rfl rfl)
theorem dX2_ofWord_316 : decode cX2_ofWord 316 = .ok (.aload_n 0, 1) := dk_42 (dk_at dksX2_ofWord_11 16 rfl rfl)
theorem dX2_ofWord_317 : decode cX2_ofWord 317 = .ok (.getfield 95, 3) := dk_180 0 95 (dk_at dksX2_ofWord_11 17 rfl rfl)
theorem dX2_ofWord_320 : decode cX2_ofWord 320 = .ok (.ifnonnull 7, 3) := dk_199 0 7 (dk_at dksX2_ofWord_11 20 rfl rfl)
theorem dX2_ofWord_323 : decode cX2_ofWord 323 = .ok (.iconst 1, 1) := dk_4 (dk_at dksX2_ofWord_11 23 rfl rfl)
theorem dX2_ofWord_324 : decode cX2_ofWord 324 = .ok (.goto 4, 3) := dk_167 0 4 (dk_at dksX2_ofWord_12 0 rfl rfl)
theorem dX2_ofWord_327 : decode cX2_ofWord 327 = .ok (.iconst 0, 1) := dk_3 (dk_at dksX2_ofWord_12 3 rfl rfl)
theorem dX2_ofWord_328 : decode cX2_ofWord 328 = .ok (.iload_n 2, 1) := dk_28 (dk_at dksX2_ofWord_12 4 rfl rfl)
theorem dX2_ofWord_329 : decode cX2_ofWord 329 = .ok (.invokevirtual 81, 3) := dk_182 0 81 (dk_at dksX2_ofWord_12 5 rfl rfl)
theorem dX2_ofWord_332 : decode cX2_ofWord 332 = .ok (.aload_n 0, 1) := dk_42 (dk_at dksX2_ofWord_12 8 rfl rfl)
theorem dX2_ofWord_333 : decode cX2_ofWord 333 = .ok (.invokevirtual 109, 3) := dk_182 0 109 (dk_at dksX2_ofWord_12 9 rfl rfl)
theorem dX2_ofWord_336 : decode cX2_ofWord 336 = .ok (.istore 4, 2) := dk_54 4 (dk_at dksX2_ofWord_12 12 rfl rfl)
theorem dX2_ofWord_338 : decode cX2_ofWord 338 = .ok (.aload_n 0, 1) := dk_42 (dk_at dksX2_ofWord_12 14 rfl rfl)
theorem dX2_ofWord_339 : decode cX2_ofWord 339 = .ok (.bipush 59, 2) := dk_16 59 (dk_at dksX2_ofWord_12 15 rfl rfl)
theorem dX2_ofWord_341 : decode cX2_ofWord 341 = .ok (.invokevirtual 69, 3) := dk_182 0 69 (dk_at dksX2_ofWord_12 17 rfl rfl)
theorem dX2_ofWord_344 : decode cX2_ofWord 344 = .ok (.pop, 1) := dk_87 (dk_at dksX2_ofWord_12 20 rfl rfl)
theorem dX2_ofWord_345 : decode cX2_ofWord 345 = .ok (.new 238, 3) := dk_187 0 238 (dk_at dksX2_ofWord_12 21 rfl rfl)
theorem dX2_ofWord_348 : decode cX2_ofWord 348 = .ok (.dup, 1) := dk_89 (dk_at dksX2_ofWord_13 0 rfl rfl)
theorem dX2_ofWord_349 : decode cX2_ofWord 349 = .ok (.iload_n 1, 1) := dk_27 (dk_at dksX2_ofWord_13 1 rfl rfl)
theorem dX2_ofWord_350 : decode cX2_ofWord 350 = .ok (.iload 4, 2) := dk_21 4 (dk_at dksX2_ofWord_13 2 rfl rfl)
theorem dX2_ofWord_352 : decode cX2_ofWord 352 = .ok (.aload_n 0, 1) := dk_42 (dk_at dksX2_ofWord_13 4 rfl rfl)
theorem dX2_ofWord_353 : decode cX2_ofWord 353 = .ok (.getfield 95, 3) := dk_180 0 95 (dk_at dksX2_ofWord_13 5 rfl rfl)
theorem dX2_ofWord_356 : decode cX2_ofWord 356 = .ok (.invokespecial 240, 3) := dk_183 0 240 (dk_at dksX2_ofWord_13 8 rfl rfl)
theorem dX2_ofWord_359 : decode cX2_ofWord 359 = .ok (.areturn, 1) := dk_176 (dk_at dksX2_ofWord_13 11 rfl rfl)
theorem dX2_ofWord_360 : decode cX2_ofWord 360 = .ok (.aload_n 0, 1) := dk_42 (dk_at dksX2_ofWord_13 12 rfl rfl)
theorem dX2_ofWord_361 : decode cX2_ofWord 361 = .ok (.aload_n 0, 1) := dk_42 (dk_at dksX2_ofWord_13 13 rfl rfl)
theorem dX2_ofWord_362 : decode cX2_ofWord 362 = .ok (.getfield 95, 3) := dk_180 0 95 (dk_at dksX2_ofWord_13 14 rfl rfl)
theorem dX2_ofWord_365 : decode cX2_ofWord 365 = .ok (.ifnonnull 7, 3) := dk_199 0 7 (dk_at dksX2_ofWord_13 17 rfl rfl)
theorem dX2_ofWord_368 : decode cX2_ofWord 368 = .ok (.iconst 1, 1) := dk_4 (dk_at dksX2_ofWord_13 20 rfl rfl)
theorem dX2_ofWord_369 : decode cX2_ofWord 369 = .ok (.goto 4, 3) := dk_167 0 4 (dk_at dksX2_ofWord_13 21 rfl rfl)
theorem dX2_ofWord_372 : decode cX2_ofWord 372 = .ok (.iconst 0, 1) := dk_3 (dk_at dksX2_ofWord_14 0 rfl rfl)
theorem dX2_ofWord_373 : decode cX2_ofWord 373 = .ok (.iload_n 2, 1) := dk_28 (dk_at dksX2_ofWord_14 1 rfl rfl)
theorem dX2_ofWord_374 : decode cX2_ofWord 374 = .ok (.invokevirtual 81, 3) := dk_182 0 81 (dk_at dksX2_ofWord_14 2 rfl rfl)
theorem dX2_ofWord_377 : decode cX2_ofWord 377 = .ok (.aload_n 0, 1) := dk_42 (dk_at dksX2_ofWord_14 5 rfl rfl)
theorem dX2_ofWord_378 : decode cX2_ofWord 378 = .ok (.bipush 59, 2) := dk_16 59 (dk_at dksX2_ofWord_14 6 rfl rfl)
theorem dX2_ofWord_380 : decode cX2_ofWord 380 = .ok (.invokevirtual 69, 3) := dk_182 0 69 (dk_at dksX2_ofWord_14 8 rfl rfl)
theorem dX2_ofWord_383 : decode cX2_ofWord 383 = .ok (.pop, 1) := dk_87 (dk_at dksX2_ofWord_14 11 rfl rfl)
theorem dX2_ofWord_384 : decode cX2_ofWord 384 = .ok (.new 238, 3) := dk_187 0 238 (dk_at dksX2_ofWord_14 12 rfl rfl)
theorem dX2_ofWord_387 : decode cX2_ofWord 387 = .ok (.dup, 1) := dk_89 (dk_at dksX2_ofWord_14 15 rfl rfl)
theorem dX2_ofWord_388 : decode cX2_ofWord 388 = .ok (.iload_n 1, 1) := dk_27 (dk_at dksX2_ofWord_14 16 rfl rfl)
theorem dX2_ofWord_389 : decode cX2_ofWord 389 = .ok (.bipush (-9), 2) := dk_16 247 (dk_at dksX2_ofWord_14 17 rfl rfl)
theorem dX2_ofWord_391 : decode cX2_ofWord 391 = .ok (.aload_n 0, 1) := dk_42 (dk_at dksX2_ofWord_14 19 rfl rfl)
theorem dX2_ofWord_392 : decode cX2_ofWord 392 = .ok (.getfield 95, 3) := dk_180 0 95 (dk_at dksX2_ofWord_14 20 rfl rfl)
theorem dX2_ofWord_395 : decode cX2_ofWord 395 = .ok (.invokespecial 240, 3) := dk_183 0 240 (dk_at dksX2_ofWord_15 0 rfl rfl)
theorem dX2_ofWord_398 : decode cX2_ofWord 398 = .ok (.areturn, 1) := dk_176 (dk_at dksX2_ofWord_15 3 rfl rfl)
theorem dX2_ofWord_399 : decode cX2_ofWord 399 = .ok (.aload_n 0, 1) := dk_42 (dk_at dksX2_ofWord_15 4 rfl rfl)
theorem dX2_ofWord_400 : decode cX2_ofWord 400 = .ok (.iload_n 1, 1) := dk_27 (dk_at dksX2_ofWord_15 5 rfl rfl)
theorem dX2_ofWord_401 : decode cX2_ofWord 401 = .ok (.iconst 0, 1) := dk_3 (dk_at dksX2_ofWord_15 6 rfl rfl)
theorem dX2_ofWord_402 : decode cX2_ofWord 402 = .ok (.invokevirtual 243, 3) := dk_182 0 243 (dk_at dksX2_ofWord_15 7 rfl rfl)
theorem dX2_ofWord_405 : decode cX2_ofWord 405 = .ok (.areturn, 1) := dk_176 (dk_at dksX2_ofWord_15 10 rfl rfl)
theorem dX2_ofWord_406 : decode cX2_ofWord 406 = .ok (.aload_n 0, 1) := dk_42 (dk_at dksX2_ofWord_15 11 rfl rfl)
theorem dX2_ofWord_407 : decode cX2_ofWord 407 = .ok (.aload_n 0, 1) := dk_42 (dk_at dksX2_ofWord_15 12 rfl rfl)
theorem dX2_ofWord_408 : decode cX2_ofWord 408 = .ok (.invokevirtual 40, 3) := dk_182 0 40 (dk_at dksX2_ofWord_15 13 rfl rfl)
theorem dX2_ofWord_411 : decode cX2_ofWord 411 = .ok (.bipush 7, 2) := dk_16 7 (dk_at dksX2_ofWord_15 16 rfl rfl)
theorem dX2_ofWord_413 : decode cX2_ofWord 413 = .ok (.if_icmp .ne 7, 3) := dk_160 0 7 (dk_at dksX2_ofWord_15 18 rfl rfl)
theorem dX2_ofWord_416 : decode cX2_ofWord 416 = .ok (.iconst 1, 1) := dk_4 (dk_at dksX2_ofWord_15 21 rfl rfl)
theorem dX2_ofWord_417 : decode cX2_ofWord 417 = .ok (.goto 4, 3) := dk_167 0 4 (dk_at dksX2_ofWord_16 0 rfl rfl)
theorem dX2_ofWord_420 : decode cX2_ofWord 420 = .ok (.iconst 0, 1) := dk_3 (dk_at dksX2_ofWord_16 3 rfl rfl)
theorem dX2_ofWord_421 : decode cX2_ofWord 421 = .ok (.invokevirtual 62, 3) := dk_182 0 62 (dk_at dksX2_ofWord_16 4 rfl rfl)
theorem dX2_ofWord_424 : decode cX2_ofWord 424 = .ok (.aload_n 0, 1) := dk_42 (dk_at dksX2_ofWord_16 7 rfl rfl)
theorem dX2_ofWord_425 : decode cX2_ofWord 425 = .ok (.aload_n 0, 1) := dk_42 (dk_at dksX2_ofWord_16 8 rfl rfl)
theorem dX2_ofWord_426 : decode cX2_ofWord 426 = .ok (.getfield 24, 3) := dk_180 0 24 (dk_at dksX2_ofWord_16 9 rfl rfl)
theorem dX2_ofWord_429 : decode cX2_ofWord 429 = .ok (.getfield 44, 3) := dk_180 0 44 (dk_at dksX2_ofWord_16 12 rfl rfl)
theorem dX2_ofWord_432 : decode cX2_ofWord 432 = .ok (.aload_n 0, 1) := dk_42 (dk_at dksX2_ofWord_16 15 rfl rfl)
theorem dX2_ofWord_433 : decode cX2_ofWord 433 = .ok (.getfield 33, 3) := dk_180 0 33 (dk_at dksX2_ofWord_16 16 rfl rfl)
theorem dX2_ofWord_436 : decode cX2_ofWord 436 = .ok (.iaload, 1) := dk_46 (dk_at dksX2_ofWord_16 19 rfl rfl)
theorem dX2_ofWord_437 : decode cX2_ofWord 437 = .ok (.iconst 1, 1) := dk_4 (dk_at dksX2_ofWord_16 20 rfl rfl)
theorem dX2_ofWord_438 : decode cX2_ofWord 438 = .ok (.iconst 3, 1) := dk_6 (dk_at dksX2_ofWord_16 21 rfl rfl)
theorem dX2_ofWord_439 : decode cX2_ofWord 439 = .ok (.invokestatic 156, 3) := dk_184 0 156 (dk_at dksX2_ofWord_17 0 rfl rfl)
theorem dX2_ofWord_442 : decode cX2_ofWord 442 = .ok (.invokevirtual 66, 3) := dk_182 0 66 (dk_at dksX2_ofWord_17 3 rfl rfl)
theorem dX2_ofWord_445 : decode cX2_ofWord 445 = .ok (.aload_n 0, 1) := dk_42 (dk_at dksX2_ofWord_17 6 rfl rfl)
theorem dX2_ofWord_446 : decode cX2_ofWord 446 = .ok (.iload_n 1, 1) := dk_27 (dk_at dksX2_ofWord_17 7 rfl rfl)
theorem dX2_ofWord_447 : decode cX2_ofWord 447 = .ok (.aload_n 0, 1) := dk_42 (dk_at dksX2_ofWord_17 8 rfl rfl)
theorem dX2_ofWord_448 : decode cX2_ofWord 448 = .ok (.bipush 7, 2) := dk_16 7 (dk_at dksX2_ofWord_17 9 rfl rfl)
theorem dX2_ofWord_450 : decode cX2_ofWord 450 = .ok (.invokevirtual 69, 3) := dk_182 0 69 (dk_at dksX2_ofWord_17 11 rfl rfl)
theorem dX2_ofWord_453 : decode cX2_ofWord 453 = .ok (.invokevirtual 243, 3) := dk_182 0 243 (dk_at dksX2_ofWord_17 14 rfl rfl)
theorem dX2_ofWord_456 : decode cX2_ofWord 456 = .ok (.areturn, 1) := dk_176 (dk_at dksX2_ofWord_17 17 rfl rfl)
theorem okX2_ofWord_0 : XOkL xms rX2_ofWord bX2_ofWord_0 := xcP (xok_aload_n dX2_ofWord_0 rfl) rfl (xcC0 (xokc_list (List.forall_mem_cons.mpr ⟨xokc_V (r := (RX2, TX2, 13)) xm44 (List.mem_of_getElem? (i := 2) rfl) (by decide) rfl dX2_ofWord_1 q795 q797 qs10 q140 q798 (by decide +kernel), fun _ h => nomatch h⟩)) rfl (xcP (xok_istore_n dX2_ofWord_4 rfl) rfl (xcP (xok_aload_n dX2_ofWord_5 rfl) rfl (xcP (xok_getfield (ref := "WaysAtlas$Reader") (Or.inr ⟨rfl, by decide⟩) dX2_ofWord_6 (Or.inl ⟨q231, (Or.inl rfl)⟩) xh1014) rfl (xcP (xok_getfield (ref := "WaysAtlas$Scanner") (Or.inr ⟨rfl, by decide⟩) dX2_ofWord_9 (Or.inr ⟨⟨"WaysAtlas", (List.mem_of_getElem? (i := 81) rfl)⟩, (Or.inl rfl)⟩) xh1013) rfl (xcP (xok_aload_n dX2_ofWord_12 rfl) rfl (xcP (xok_getfield (ref := "WaysAtlas$Reader") (Or.inl ⟨rfl, by decide⟩) dX2_ofWord_13 (Or.inl ⟨q233, (Or.inl rfl)⟩) xh5) rfl (xcP (xok_iaload dX2_ofWord_16) rfl (xcP (xok_istore_n dX2_ofWord_17 rfl) rfl (xcP (xok_iload_n dX2_ofWord_18 rfl) rfl (xcP (xok_iconst dX2_ofWord_19 rfl) rfl (xcP (xok_icmpne dX2_ofWord_20 (by decide)) rfl (xcP (xok_aload_n dX2_ofWord_23 rfl) rfl (xcP (xok_iload_n dX2_ofWord_24 rfl) rfl (xcP (xok_bipush dX2_ofWord_25 rfl) rfl (xcC0 (xokc_list (List.forall_mem_cons.mpr ⟨xokc_V (r := (RX2, TX2, 13)) xm56 (List.mem_of_getElem? (i := 2) rfl) (by decide) rfl dX2_ofWord_27 q882 q884 qs22 q140 q885 (by decide +kernel), fun _ h => nomatch h⟩)) rfl (xcR ⟨dX2_ofWord_30, _, rfl, Or.inl ⟨_, rfl⟩⟩)))))))))))))))))
theorem okX2_ofWord_31 : XOkL xms rX2_ofWord bX2_ofWord_31 := xcP (xok_aload_n dX2_ofWord_31 rfl) rfl (xcP (xok_dup dX2_ofWord_32) rfl (xcP (xok_getfield (ref := "WaysAtlas$Reader") (Or.inl ⟨rfl, by decide⟩) dX2_ofWord_33 (Or.inl ⟨q233, (Or.inl rfl)⟩) xh5) rfl (xcP (xok_iconst dX2_ofWord_36 rfl) rfl (xcP (xok_iadd dX2_ofWord_37) rfl (xcP (xok_putfield (ref := "WaysAtlas$Reader") (Or.inl ⟨rfl, by decide, rfl⟩) dX2_ofWord_38 (Or.inl ⟨q233, (Or.inl rfl)⟩) (Or.inl rfl) xh5) rfl (xcP (xok_iload_n dX2_ofWord_41 rfl) rfl (xcP (xok_tsw dX2_ofWord_42 (by decide) (by decide) (by decide)) rfl trivial)))))))
theorem okX2_ofWord_112 : XOkL xms rX2_ofWord bX2_ofWord_112 := xcP (xok_aload_n dX2_ofWord_112 rfl) rfl (xcP (xok_bipush dX2_ofWord_113 rfl) rfl (xcC0 (xokc_list (List.forall_mem_cons.mpr ⟨xokc_V (r := (RX2, TX2, 13)) xm48 (List.mem_of_getElem? (i := 2) rfl) (by decide) rfl dX2_ofWord_115 q826 q828 qs14 q140 q829 (by decide +kernel), fun _ h => nomatch h⟩)) rfl (xcP (xok_istore dX2_ofWord_118) rfl (xcP (xok_aload_n dX2_ofWord_120 rfl) rfl (xcP (xok_bipush dX2_ofWord_121 rfl) rfl (xcC0 (xokc_list (List.forall_mem_cons.mpr ⟨xokc_V (r := (RX2, TX2, 13)) xm48 (List.mem_of_getElem? (i := 2) rfl) (by decide) rfl dX2_ofWord_123 q826 q828 qs14 q140 q829 (by decide +kernel), fun _ h => nomatch h⟩)) rfl (xcP (xok_pop dX2_ofWord_126) rfl (xcP (xok_new (r := (RX24, TX24, 2)) (List.mem_of_getElem? (i := 21) rfl) rfl (by decide) dX2_ofWord_127 q1072 q1073 q169) rfl (xcP (xok_dup dX2_ofWord_130) rfl (xcP (xok_iload_n dX2_ofWord_131 rfl) rfl (xcP (xok_iload dX2_ofWord_132) rfl (xcC0 (xokc_I xm232 rfl rfl dX2_ofWord_134 q1074 q1075 q169 q1076 rfl (by decide +kernel)) rfl (xcR ⟨dX2_ofWord_137, _, rfl, Or.inl ⟨_, rfl⟩⟩)))))))))))))
theorem okX2_ofWord_138 : XOkL xms rX2_ofWord bX2_ofWord_138 := xcP (xok_aload_n dX2_ofWord_138 rfl) rfl (xcC0 (xokc_list (List.forall_mem_cons.mpr ⟨xokc_V (r := (RX2, TX2, 13)) xm57 (List.mem_of_getElem? (i := 2) rfl) (by decide) rfl dX2_ofWord_139 q886 q888 qs23 q140 q889 (by decide +kernel), fun _ h => nomatch h⟩)) rfl (xcP (xok_astore dX2_ofWord_142) rfl (xcP (xok_aload_n dX2_ofWord_144 rfl) rfl (xcP (xok_bipush dX2_ofWord_145 rfl) rfl (xcC0 (xokc_list (List.forall_mem_cons.mpr ⟨xokc_V (r := (RX2, TX2, 13)) xm48 (List.mem_of_getElem? (i := 2) rfl) (by decide) rfl dX2_ofWord_147 q826 q828 qs14 q140 q829 (by decide +kernel), fun _ h => nomatch h⟩)) rfl (xcP (xok_pop dX2_ofWord_150) rfl (xcP (xok_new (r := (RX25, TX25, 2)) (List.mem_of_getElem? (i := 22) rfl) rfl (by decide) dX2_ofWord_151 q1083 q1084 q170) rfl (xcP (xok_dup dX2_ofWord_154) rfl (xcP (xok_iload_n dX2_ofWord_155 rfl) rfl (xcP (xok_aload dX2_ofWord_156) rfl (xcC0 (xokc_I xm235 rfl rfl dX2_ofWord_158 q1085 q1086 q170 q1087 rfl (by decide +kernel)) rfl (xcR ⟨dX2_ofWord_161, _, rfl, Or.inl ⟨_, rfl⟩⟩))))))))))))
theorem okX2_ofWord_162 : XOkL xms rX2_ofWord bX2_ofWord_162 := xcP (xok_aload_n dX2_ofWord_162 rfl) rfl (xcP (xok_iload_n dX2_ofWord_163 rfl) rfl (xcC0 (xokc_list (List.forall_mem_cons.mpr ⟨xokc_V (r := (RX2, TX2, 13)) xm64 (List.mem_of_getElem? (i := 2) rfl) (by decide) rfl dX2_ofWord_164 q1094 q1096 qs30 q140 q1097 (by decide +kernel), fun _ h => nomatch h⟩)) rfl (xcR ⟨dX2_ofWord_167, _, rfl, Or.inl ⟨_, rfl⟩⟩)))
theorem okX2_ofWord_168 : XOkL xms rX2_ofWord bX2_ofWord_168 := xcP (xok_new (r := (RX27, TX27, 3)) (List.mem_of_getElem? (i := 24) rfl) rfl (by decide) dX2_ofWord_168 q1127 q1128 q172) rfl (xcP (xok_dup dX2_ofWord_171) rfl (xcP (xok_iload_n dX2_ofWord_172 rfl) rfl (xcP (xok_aload_n dX2_ofWord_173 rfl) rfl (xcC0 (xokc_list (List.forall_mem_cons.mpr ⟨xokc_V (r := (RX2, TX2, 13)) xm57 (List.mem_of_getElem? (i := 2) rfl) (by decide) rfl dX2_ofWord_174 q886 q888 qs23 q140 q889 (by decide +kernel), fun _ h => nomatch h⟩)) rfl (xcC0 (xokc_I xm243 rfl rfl dX2_ofWord_177 q1129 q1130 q172 q1131 rfl (by decide +kernel)) rfl (xcP (xok_astore dX2_ofWord_180) rfl (xcP (xok_aload_n dX2_ofWord_182 rfl) rfl (xcP (xok_dup dX2_ofWord_183) rfl (xcP (xok_getfield (ref := "WaysAtlas$Reader") (Or.inl ⟨rfl, by decide⟩) dX2_ofWord_184 (Or.inl ⟨q236, (Or.inl rfl)⟩) xh8) rfl (xcP (xok_iconst dX2_ofWord_187 rfl) rfl (xcP (xok_iadd dX2_ofWord_188) rfl (xcP (xok_putfield (ref := "WaysAtlas$Reader") (Or.inl ⟨rfl, by decide, rfl⟩) dX2_ofWord_189 (Or.inl ⟨q236, (Or.inl rfl)⟩) (Or.inl rfl) xh8) rfl (xcP (xok_aload dX2_ofWord_192) rfl (xcP (xok_aload_n dX2_ofWord_194 rfl) rfl (xcC0 (xokc_list (List.forall_mem_cons.mpr ⟨xokc_V (r := (RX2, TX2, 13)) xm65 (List.mem_of_getElem? (i := 2) rfl) (by decide) rfl dX2_ofWord_195 q1123 q1125 qs31 q140 q1126 (by decide +kernel), fun _ h => nomatch h⟩)) rfl (xcP (xok_putfield (ref := "WaysAtlas$Loop") (Or.inr (Or.inr ⟨rfl, by decide, rfl⟩)) dX2_ofWord_198 (Or.inr ⟨⟨"WaysAtlas", (List.mem_of_getElem? (i := 69) rfl)⟩, (Or.inl rfl)⟩) (Or.inl rfl) xh1133) rfl (xcP (xok_aload_n dX2_ofWord_201 rfl) rfl (xcP (xok_dup dX2_ofWord_202) rfl (xcP (xok_getfield (ref := "WaysAtlas$Reader") (Or.inl ⟨rfl, by decide⟩) dX2_ofWord_203 (Or.inl ⟨q236, (Or.inl rfl)⟩) xh8) rfl (xcP (xok_iconst dX2_ofWord_206 rfl) rfl (xcP (xok_isub dX2_ofWord_207) rfl (xcP (xok_putfield (ref := "WaysAtlas$Reader") (Or.inl ⟨rfl, by decide, rfl⟩) dX2_ofWord_208 (Or.inl ⟨q236, (Or.inl rfl)⟩) (Or.inl rfl) xh8) rfl (xcP (xok_aload dX2_ofWord_211) rfl (xcR ⟨dX2_ofWord_213, _, rfl, Or.inl ⟨_, rfl⟩⟩))))))))))))))))))))))))
theorem okX2_ofWord_214 : XOkL xms rX2_ofWord bX2_ofWord_214 := xcP (xok_aload_n dX2_ofWord_214 rfl) rfl (xcC0 (xokc_list (List.forall_mem_cons.mpr ⟨xokc_V (r := (RX2, TX2, 13)) xm44 (List.mem_of_getElem? (i := 2) rfl) (by decide) rfl dX2_ofWord_215 q795 q797 qs10 q140 q798 (by decide +kernel), fun _ h => nomatch h⟩)) rfl (xcP (xok_istore dX2_ofWord_218) rfl (xcP (xok_aload_n dX2_ofWord_220 rfl) rfl (xcP (xok_bipush dX2_ofWord_221 rfl) rfl (xcC0 (xokc_list (List.forall_mem_cons.mpr ⟨xokc_V (r := (RX2, TX2, 13)) xm48 (List.mem_of_getElem? (i := 2) rfl) (by decide) rfl dX2_ofWord_223 q826 q828 qs14 q140 q829 (by decide +kernel), fun _ h => nomatch h⟩)) rfl (xcP (xok_istore dX2_ofWord_226) rfl (xcP (xok_aload_n dX2_ofWord_228 rfl) rfl (xcP (xok_iload dX2_ofWord_229) rfl (xcP (xok_ifeq dX2_ofWord_231 (by decide)) rfl (xcP (xok_iload dX2_ofWord_234) rfl (xcP (xok_aload_n dX2_ofWord_236 rfl) rfl (xcP (xok_getfield (ref := "WaysAtlas$Reader") (Or.inl ⟨rfl, by decide⟩) dX2_ofWord_237 (Or.inl ⟨q236, (Or.inl rfl)⟩) xh8) rfl (xcP (xok_icmple dX2_ofWord_240 (by decide)) rfl (xcP xok_fal rfl trivial))))))))))))))
theorem okX2_ofWord_243 : XOkL xms rX2_ofWord bX2_ofWord_243 := xcP (xok_iconst dX2_ofWord_243 rfl) rfl (xcP (xok_goto dX2_ofWord_244 (by decide)) rfl trivial)
theorem okX2_ofWord_247 : XOkL xms rX2_ofWord bX2_ofWord_247 := xcP (xok_iconst dX2_ofWord_247 rfl) rfl (xcP xok_fal rfl trivial)
theorem okX2_ofWord_248 : XOkL xms rX2_ofWord bX2_ofWord_248 := xcP (xok_iload dX2_ofWord_248) rfl (xcC0 (xokc_list (List.forall_mem_cons.mpr ⟨xokc_V (r := (RX2, TX2, 13)) xm49 (List.mem_of_getElem? (i := 2) rfl) (by decide) rfl dX2_ofWord_250 q830 q832 qs15 q140 q833 (by decide +kernel), fun _ h => nomatch h⟩)) rfl (xcP (xok_aload_n dX2_ofWord_253 rfl) rfl (xcP (xok_bipush dX2_ofWord_254 rfl) rfl (xcC0 (xokc_list (List.forall_mem_cons.mpr ⟨xokc_V (r := (RX2, TX2, 13)) xm48 (List.mem_of_getElem? (i := 2) rfl) (by decide) rfl dX2_ofWord_256 q826 q828 qs14 q140 q829 (by decide +kernel), fun _ h => nomatch h⟩)) rfl (xcP (xok_pop dX2_ofWord_259) rfl (xcP (xok_new (r := (RX28, TX28, 2)) (List.mem_of_getElem? (i := 25) rfl) rfl (by decide) dX2_ofWord_260 q1142 q1143 q173) rfl (xcP (xok_dup dX2_ofWord_263) rfl (xcP (xok_iload_n dX2_ofWord_264 rfl) rfl (xcP (xok_iload_n dX2_ofWord_265 rfl) rfl (xcP (xok_bipush dX2_ofWord_266 rfl) rfl (xcP (xok_icmpne dX2_ofWord_268 (by decide)) rfl (xcP (xok_bipush dX2_ofWord_271 rfl) rfl (xcP (xok_goto dX2_ofWord_273 (by decide)) rfl trivial)))))))))))))
theorem okX2_ofWord_276 : XOkL xms rX2_ofWord bX2_ofWord_276 := xcP (xok_sipush dX2_ofWord_276 rfl) rfl (xcP xok_fal rfl trivial)
theorem okX2_ofWord_279 : XOkL xms rX2_ofWord bX2_ofWord_279 := xcP (xok_iload dX2_ofWord_279) rfl (xcP (xok_bipush dX2_ofWord_281 rfl) rfl (xcC0 (xokc_S xm293 rfl dX2_ofWord_283 q834 q835 q155 q836 (by decide +kernel)) rfl (xcP (xok_iadd dX2_ofWord_286) rfl (xcC0 (xokc_I xm248 rfl rfl dX2_ofWord_287 q1144 q1145 q173 q1146 rfl (by decide +kernel)) rfl (xcR ⟨dX2_ofWord_290, _, rfl, Or.inl ⟨_, rfl⟩⟩)))))
theorem okX2_ofWord_291 : XOkL xms rX2_ofWord bX2_ofWord_291 := xcP (xok_aload_n dX2_ofWord_291 rfl) rfl (xcC0 (xokc_list (List.forall_mem_cons.mpr ⟨xokc_V (r := (RX2, TX2, 13)) xm47 (List.mem_of_getElem? (i := 2) rfl) (by decide) rfl dX2_ofWord_292 q822 q824 qs13 q140 q825 (by decide +kernel), fun _ h => nomatch h⟩)) rfl (xcP (xok_istore dX2_ofWord_295) rfl (xcP (xok_aload_n dX2_ofWord_297 rfl) rfl (xcP (xok_bipush dX2_ofWord_298 rfl) rfl (xcC0 (xokc_list (List.forall_mem_cons.mpr ⟨xokc_V (r := (RX2, TX2, 13)) xm48 (List.mem_of_getElem? (i := 2) rfl) (by decide) rfl dX2_ofWord_300 q826 q828 qs14 q140 q829 (by decide +kernel), fun _ h => nomatch h⟩)) rfl (xcP (xok_pop dX2_ofWord_303) rfl (xcP (xok_new (r := (RX29, TX29, 2)) (List.mem_of_getElem? (i := 26) rfl) rfl (by decide) dX2_ofWord_304 q1153 q1154 q174) rfl (xcP (xok_dup dX2_ofWord_307) rfl (xcP (xok_iload_n dX2_ofWord_308 rfl) rfl (xcP (xok_iload dX2_ofWord_309) rfl (xcC0 (xokc_I xm251 rfl rfl dX2_ofWord_311 q1155 q1156 q174 q1157 rfl (by decide +kernel)) rfl (xcR ⟨dX2_ofWord_314, _, rfl, Or.inl ⟨_, rfl⟩⟩))))))))))))
theorem okX2_ofWord_315 : XOkL xms rX2_ofWord bX2_ofWord_315 := xcP (xok_aload_n dX2_ofWord_315 rfl) rfl (xcP (xok_aload_n dX2_ofWord_316 rfl) rfl (xcP (xok_getfield (ref := "WaysAtlas$Reader") (Or.inr ⟨rfl, by decide⟩) dX2_ofWord_317 (Or.inl ⟨q237, (Or.inl rfl)⟩) xh1016) rfl (xcP (xok_ifnonnull dX2_ofWord_320 (by decide)) rfl (xcP (xok_iconst dX2_ofWord_323 rfl) rfl (xcP (xok_goto dX2_ofWord_324 (by decide)) rfl trivial)))))
theorem okX2_ofWord_327 : XOkL xms rX2_ofWord bX2_ofWord_327 := xcP (xok_iconst dX2_ofWord_327 rfl) rfl (xcP xok_fal rfl trivial)
theorem okX2_ofWord_328 : XOkL xms rX2_ofWord bX2_ofWord_328 := xcP (xok_iload_n dX2_ofWord_328 rfl) rfl (xcC0 (xokc_list (List.forall_mem_cons.mpr ⟨xokc_V (r := (RX2, TX2, 13)) xm49 (List.mem_of_getElem? (i := 2) rfl) (by decide) rfl dX2_ofWord_329 q830 q832 qs15 q140 q833 (by decide +kernel), fun _ h => nomatch h⟩)) rfl (xcP (xok_aload_n dX2_ofWord_332 rfl) rfl (xcC0 (xokc_list (List.forall_mem_cons.mpr ⟨xokc_V (r := (RX2, TX2, 13)) xm47 (List.mem_of_getElem? (i := 2) rfl) (by decide) rfl dX2_ofWord_333 q822 q824 qs13 q140 q825 (by decide +kernel), fun _ h => nomatch h⟩)) rfl (xcP (xok_istore dX2_ofWord_336) rfl (xcP (xok_aload_n dX2_ofWord_338 rfl) rfl (xcP (xok_bipush dX2_ofWord_339 rfl) rfl (xcC0 (xokc_list (List.forall_mem_cons.mpr ⟨xokc_V (r := (RX2, TX2, 13)) xm48 (List.mem_of_getElem? (i := 2) rfl) (by decide) rfl dX2_ofWord_341 q826 q828 qs14 q140 q829 (by decide +kernel), fun _ h => nomatch h⟩)) rfl (xcP (xok_pop dX2_ofWord_344) rfl (xcP (xok_new (r := (RX30, TX30, 3)) (List.mem_of_getElem? (i := 27) rfl) rfl (by decide) dX2_ofWord_345 q1164 q1165 q175) rfl (xcP (xok_dup dX2_ofWord_348) rfl (xcP (xok_iload_n dX2_ofWord_349 rfl) rfl (xcP (xok_iload dX2_ofWord_350) rfl (xcP (xok_aload_n dX2_ofWord_352 rfl) rfl (xcP (xok_getfield (ref := "WaysAtlas$Reader") (Or.inr ⟨rfl, by decide⟩) dX2_ofWord_353 (Or.inl ⟨q237, (Or.inl rfl)⟩) xh1016) rfl (xcC0 (xokc_I xm253 rfl rfl dX2_ofWord_356 q1166 q1167 q175 q1168 rfl (by decide +kernel)) rfl (xcR ⟨dX2_ofWord_359, _, rfl, Or.inl ⟨_, rfl⟩⟩))))))))))))))))
theorem okX2_ofWord_360 : XOkL xms rX2_ofWord bX2_ofWord_360 := xcP (xok_aload_n dX2_ofWord_360 rfl) rfl (xcP (xok_aload_n dX2_ofWord_361 rfl) rfl (xcP (xok_getfield (ref := "WaysAtlas$Reader") (Or.inr ⟨rfl, by decide⟩) dX2_ofWord_362 (Or.inl ⟨q237, (Or.inl rfl)⟩) xh1016) rfl (xcP (xok_ifnonnull dX2_ofWord_365 (by decide)) rfl (xcP (xok_iconst dX2_ofWord_368 rfl) rfl (xcP (xok_goto dX2_ofWord_369 (by decide)) rfl trivial)))))
theorem okX2_ofWord_372 : XOkL xms rX2_ofWord bX2_ofWord_372 := xcP (xok_iconst dX2_ofWord_372 rfl) rfl (xcP xok_fal rfl trivial)
theorem okX2_ofWord_373 : XOkL xms rX2_ofWord bX2_ofWord_373 := xcP (xok_iload_n dX2_ofWord_373 rfl) rfl (xcC0 (xokc_list (List.forall_mem_cons.mpr ⟨xokc_V (r := (RX2, TX2, 13)) xm49 (List.mem_of_getElem? (i := 2) rfl) (by decide) rfl dX2_ofWord_374 q830 q832 qs15 q140 q833 (by decide +kernel), fun _ h => nomatch h⟩)) rfl (xcP (xok_aload_n dX2_ofWord_377 rfl) rfl (xcP (xok_bipush dX2_ofWord_378 rfl) rfl (xcC0 (xokc_list (List.forall_mem_cons.mpr ⟨xokc_V (r := (RX2, TX2, 13)) xm48 (List.mem_of_getElem? (i := 2) rfl) (by decide) rfl dX2_ofWord_380 q826 q828 qs14 q140 q829 (by decide +kernel), fun _ h => nomatch h⟩)) rfl (xcP (xok_pop dX2_ofWord_383) rfl (xcP (xok_new (r := (RX30, TX30, 3)) (List.mem_of_getElem? (i := 27) rfl) rfl (by decide) dX2_ofWord_384 q1164 q1165 q175) rfl (xcP (xok_dup dX2_ofWord_387) rfl (xcP (xok_iload_n dX2_ofWord_388 rfl) rfl (xcP (xok_bipush dX2_ofWord_389 rfl) rfl (xcP (xok_aload_n dX2_ofWord_391 rfl) rfl (xcP (xok_getfield (ref := "WaysAtlas$Reader") (Or.inr ⟨rfl, by decide⟩) dX2_ofWord_392 (Or.inl ⟨q237, (Or.inl rfl)⟩) xh1016) rfl (xcC0 (xokc_I xm253 rfl rfl dX2_ofWord_395 q1166 q1167 q175 q1168 rfl (by decide +kernel)) rfl (xcR ⟨dX2_ofWord_398, _, rfl, Or.inl ⟨_, rfl⟩⟩)))))))))))))
theorem okX2_ofWord_399 : XOkL xms rX2_ofWord bX2_ofWord_399 := xcP (xok_aload_n dX2_ofWord_399 rfl) rfl (xcP (xok_iload_n dX2_ofWord_400 rfl) rfl (xcP (xok_iconst dX2_ofWord_401 rfl) rfl (xcC0 (xokc_list (List.forall_mem_cons.mpr ⟨xokc_V (r := (RX2, TX2, 13)) xm66 (List.mem_of_getElem? (i := 2) rfl) (by decide) rfl dX2_ofWord_402 q1178 q1180 qs32 q140 q1181 (by decide +kernel), fun _ h => nomatch h⟩)) rfl (xcR ⟨dX2_ofWord_405, _, rfl, Or.inl ⟨_, rfl⟩⟩))))
theorem okX2_ofWord_406 : XOkL xms rX2_ofWord bX2_ofWord_406 := xcP (xok_aload_n dX2_ofWord_406 rfl) rfl (xcP (xok_aload_n dX2_ofWord_407 rfl) rfl (xcC0 (xokc_list (List.forall_mem_cons.mpr ⟨xokc_V (r := (RX2, TX2, 13)) xm42 (List.mem_of_getElem? (i := 2) rfl) (by decide) rfl dX2_ofWord_408 q778 q780 qs8 q140 q781 (by decide +kernel), fun _ h => nomatch h⟩)) rfl (xcP (xok_bipush dX2_ofWord_411 rfl) rfl (xcP (xok_icmpne dX2_ofWord_413 (by decide)) rfl (xcP (xok_iconst dX2_ofWord_416 rfl) rfl (xcP (xok_goto dX2_ofWord_417 (by decide)) rfl trivial))))))
theorem okX2_ofWord_420 : XOkL xms rX2_ofWord bX2_ofWord_420 := xcP (xok_iconst dX2_ofWord_420 rfl) rfl (xcP xok_fal rfl trivial)
theorem okX2_ofWord_421 : XOkL xms rX2_ofWord bX2_ofWord_421 := xcC0 (xokc_list (List.forall_mem_cons.mpr ⟨xokc_V (r := (RX2, TX2, 13)) xm46 (List.mem_of_getElem? (i := 2) rfl) (by decide) rfl dX2_ofWord_421 q818 q820 qs12 q140 q821 (by decide +kernel), fun _ h => nomatch h⟩)) rfl (xcP (xok_aload_n dX2_ofWord_424 rfl) rfl (xcP (xok_aload_n dX2_ofWord_425 rfl) rfl (xcP (xok_getfield (ref := "WaysAtlas$Reader") (Or.inr ⟨rfl, by decide⟩) dX2_ofWord_426 (Or.inl ⟨q231, (Or.inl rfl)⟩) xh1014) rfl (xcP (xok_getfield (ref := "WaysAtlas$Scanner") (Or.inr ⟨rfl, by decide⟩) dX2_ofWord_429 (Or.inr ⟨⟨"WaysAtlas", (List.mem_of_getElem? (i := 81) rfl)⟩, (Or.inl rfl)⟩) xh1013) rfl (xcP (xok_aload_n dX2_ofWord_432 rfl) rfl (xcP (xok_getfield (ref := "WaysAtlas$Reader") (Or.inl ⟨rfl, by decide⟩) dX2_ofWord_433 (Or.inl ⟨q233, (Or.inl rfl)⟩) xh5) rfl (xcP (xok_iaload dX2_ofWord_436) rfl (xcP (xok_iconst dX2_ofWord_437 rfl) rfl (xcP (xok_iconst dX2_ofWord_438 rfl) rfl (xcC0 (xokc_SN (host := "WaysAtlas") xm3 rfl dX2_ofWord_439 (List.mem_of_getElem? (i := 10) rfl) q681 q138 q682 (by decide +kernel)) rfl (xcC0 (xokc_list (List.forall_mem_cons.mpr ⟨xokc_V (r := (RX2, TX2, 13)) xm43 (List.mem_of_getElem? (i := 2) rfl) (by decide) rfl dX2_ofWord_442 q782 q784 qs9 q140 q785 (by decide +kernel), fun _ h => nomatch h⟩)) rfl (xcP (xok_aload_n dX2_ofWord_445 rfl) rfl (xcP (xok_iload_n dX2_ofWord_446 rfl) rfl (xcP (xok_aload_n dX2_ofWord_447 rfl) rfl (xcP (xok_bipush dX2_ofWord_448 rfl) rfl (xcC0 (xokc_list (List.forall_mem_cons.mpr ⟨xokc_V (r := (RX2, TX2, 13)) xm48 (List.mem_of_getElem? (i := 2) rfl) (by decide) rfl dX2_ofWord_450 q826 q828 qs14 q140 q829 (by decide +kernel), fun _ h => nomatch h⟩)) rfl (xcC0 (xokc_list (List.forall_mem_cons.mpr ⟨xokc_V (r := (RX2, TX2, 13)) xm66 (List.mem_of_getElem? (i := 2) rfl) (by decide) rfl dX2_ofWord_453 q1178 q1180 qs32 q140 q1181 (by decide +kernel), fun _ h => nomatch h⟩)) rfl (xcR ⟨dX2_ofWord_456, _, rfl, Or.inl ⟨_, rfl⟩⟩))))))))))))))))))
theorem okM_X2_ofWord : XOkM xms rX2_ofWord := xokM0 (List.forall_mem_cons.mpr ⟨⟨rfl, okX2_ofWord_0⟩, List.forall_mem_cons.mpr ⟨⟨rfl, okX2_ofWord_31⟩, List.forall_mem_cons.mpr ⟨⟨rfl, okX2_ofWord_112⟩, List.forall_mem_cons.mpr ⟨⟨rfl, okX2_ofWord_138⟩, List.forall_mem_cons.mpr ⟨⟨rfl, okX2_ofWord_162⟩, List.forall_mem_cons.mpr ⟨⟨rfl, okX2_ofWord_168⟩, List.forall_mem_cons.mpr ⟨⟨rfl, okX2_ofWord_214⟩, List.forall_mem_cons.mpr ⟨⟨rfl, okX2_ofWord_243⟩, List.forall_mem_cons.mpr ⟨⟨rfl, okX2_ofWord_247⟩, List.forall_mem_cons.mpr ⟨⟨rfl, okX2_ofWord_248⟩, List.forall_mem_cons.mpr ⟨⟨rfl, okX2_ofWord_276⟩, List.forall_mem_cons.mpr ⟨⟨rfl, okX2_ofWord_279⟩, List.forall_mem_cons.mpr ⟨⟨rfl, okX2_ofWord_291⟩, List.forall_mem_cons.mpr ⟨⟨rfl, okX2_ofWord_315⟩, List.forall_mem_cons.mpr ⟨⟨rfl, okX2_ofWord_327⟩, List.forall_mem_cons.mpr ⟨⟨rfl, okX2_ofWord_328⟩, List.forall_mem_cons.mpr ⟨⟨rfl, okX2_ofWord_360⟩, List.forall_mem_cons.mpr ⟨⟨rfl, okX2_ofWord_372⟩, List.forall_mem_cons.mpr ⟨⟨rfl, okX2_ofWord_373⟩, List.forall_mem_cons.mpr ⟨⟨rfl, okX2_ofWord_399⟩, List.forall_mem_cons.mpr ⟨⟨rfl, okX2_ofWord_406⟩, List.forall_mem_cons.mpr ⟨⟨rfl, okX2_ofWord_420⟩, List.forall_mem_cons.mpr ⟨⟨rfl, okX2_ofWord_421⟩, fun _ h => nomatch h⟩⟩⟩⟩⟩⟩⟩⟩⟩⟩⟩⟩⟩⟩⟩⟩⟩⟩⟩⟩⟩⟩⟩) (xokH0 rfl (fun _ _ => rfl)) (by decide +kernel) (by decide)
