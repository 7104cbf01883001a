set_option maxRecDepth 100000
abbrev cX0_adds : ByteArray := prog_1_method_28_code
def dkwX0_adds_2 : List UInt8 := [44, 182, 1, 24, 79, 27, 4, 96, 172]
abbrev dktX0_adds_2 : List UInt8 := dkwX0_adds_2 ++ []
def dkwX0_adds_1 : List UInt8 := [4, 96, 44, 180, 0, 198, 79, 42, 7, 27, 104, 5, 96, 44, 184, 1, 20, 79, 42, 7, 27, 104, 6, 96]
abbrev dktX0_adds_1 : List UInt8 := dkwX0_adds_1 ++ dktX0_adds_2
def dkwX0_adds_0 : List UInt8 := [42, 27, 44, 184, 1, 27, 153, 0, 5, 27, 172, 42, 7, 27, 104, 44, 180, 0, 83, 79, 42, 7, 27, 104]
abbrev dktX0_adds_0 : List UInt8 := dkwX0_adds_0 ++ dktX0_adds_1
theorem dksX0_adds_0 : cX0_adds.data.toList.drop 0 = dktX0_adds_0 := by decide +kernel
theorem dksX0_adds_1 : cX0_adds.data.toList.drop 24 = dktX0_adds_1 := dk_seg dksX0_adds_0 24 rfl rfl
theorem dksX0_adds_2 : cX0_adds.data.toList.drop 48 = dktX0_adds_2 := dk_seg dksX0_adds_1 24 rfl rfl
theorem dX0_adds_0 : decode cX0_adds 0 = .ok (.aload_n 0, 1) := dk_42 (dk_at dksX0_adds_0 0 rfl rfl)
theorem dX0_adds_1 : decode cX0_adds 1 = .ok (.iload_n 1, 1) := dk_27 (dk_at dksX0_adds_0 1 rfl rfl)
theorem dX0_adds_2 : decode cX0_adds 2 = .ok (.aload_n 2, 1) := dk_44 (dk_at dksX0_adds_0 2 rfl rfl)
theorem dX0_adds_3 : decode cX0_adds 3 = .ok (.invokestatic 283, 3) := dk_184 1 27 (dk_at dksX0_adds_0 3 rfl rfl)
theorem dX0_adds_6 : decode cX0_adds 6 = .ok (.ifCond .eq 5, 3) := dk_153 0 5 (dk_at dksX0_adds_0 6 rfl rfl)
theorem dX0_adds_9 : decode cX0_adds 9 = .ok (.iload_n 1, 1) := dk_27 (dk_at dksX0_adds_0 9 rfl rfl)
theorem dX0_adds_10 : decode cX0_adds 10 = .ok (.ireturn, 1) := dk_172 (dk_at dksX0_adds_0 10 rfl rfl)
theorem dX0_adds_11 : decode cX0_adds 11 = .ok (.aload_n 0, 1) := dk_42 (dk_at dksX0_adds_0 11 rfl rfl)
theorem dX0_adds_12 : decode cX0_adds 12 = .ok (.iconst 4, 1) := dk_7 (dk_at dksX0_adds_0 12 rfl rfl)
theorem dX0_adds_13 : decode cX0_adds 13 = .ok (.iload_n 1, 1) := dk_27 (dk_at dksX0_adds_0 13 rfl rfl)
theorem dX0_adds_14 : decode cX0_adds 14 = .ok (.imul, 1) := dk_104 (dk_at dksX0_adds_0 14 rfl rfl)
theorem dX0_adds_15 : decode cX0_adds 15 = .ok (.aload_n 2, 1) := dk_44 (dk_at dksX0_adds_0 15 rfl rfl)
theorem dX0_adds_16 : decode cX0_adds 16 = .ok (.getfield 83, 3) := dk_180 0 83 (dk_at dksX0_adds_0 16 rfl rfl)
theorem dX0_adds_19 : decode cX0_adds 19 = .ok (.iastore, 1) := dk_79 (dk_at dksX0_adds_0 19 rfl rfl)
theorem dX0_adds_20 : decode cX0_adds 20 = .ok (.aload_n 0, 1) := dk_42 (dk_at dksX0_adds_0 20 rfl rfl)
theorem dX0_adds_21 : decode cX0_adds 21 = .ok (.iconst 4, 1) := dk_7 (dk_at dksX0_adds_0 21 rfl rfl)
theorem dX0_adds_22 : decode cX0_adds 22 = .ok (.iload_n 1, 1) := dk_27 (dk_at dksX0_adds_0 22 rfl rfl)
theorem dX0_adds_23 : decode cX0_adds 23 = .ok (.imul, 1) := dk_104 (dk_at dksX0_adds_0 23 rfl rfl)
theorem dX0_adds_24 : decode cX0_adds 24 = .ok (.iconst 1, 1) := dk_4 (dk_at dksX0_adds_1 0 rfl rfl)
theorem dX0_adds_25 : decode cX0_adds 25 = .ok (.iadd, 1) := dk_96 (dk_at dksX0_adds_1 1 rfl rfl)
theorem dX0_adds_26 : decode cX0_adds 26 = .ok (.aload_n 2, 1) := dk_44 (dk_at dksX0_adds_1 2 rfl rfl)
theorem dX0_adds_27 : decode cX0_adds 27 = .ok (.getfield 198, 3) := dk_180 0 198 (dk_at dksX0_adds_1 3 rfl rfl)
theorem dX0_adds_30 : decode cX0_adds 30 = .ok (.iastore, 1) := dk_79 (dk_at dksX0_adds_1 6 rfl rfl)
theorem dX0_adds_31 : decode cX0_adds 31 = .ok (.aload_n 0, 1) := dk_42 (dk_at dksX0_adds_1 7 rfl rfl)
theorem dX0_adds_32 : decode cX0_adds 32 = .ok (.iconst 4, 1) := dk_7 (dk_at dksX0_adds_1 8 rfl rfl)
theorem dX0_adds_33 : decode cX0_adds 33 = .ok (.iload_n 1, 1) := dk_27 (dk_at dksX0_adds_1 9 rfl rfl)
theorem dX0_adds_34 : decode cX0_adds 34 = .ok (.imul, 1) := dk_104 (dk_at dksX0_adds_1 10 rfl rfl)
theorem dX0_adds_35 : decode cX0_adds 35 = .ok (.iconst 2, 1) := dk_5 (dk_at dksX0_adds_1 11 rfl rfl)
theorem dX0_adds_36 : decode cX0_adds 36 = .ok (.iadd, 1) := dk_96 (dk_at dksX0_adds_1 12 rfl rfl)
theorem dX0_adds_37 : decode cX0_adds 37 = .ok (.aload_n 2, 1) := dk_44 (dk_at dksX0_adds_1 13 rfl rfl)
theorem dX0_adds_38 : decode cX0_adds 38 = .ok (.invokestatic 276, 3) := dk_184 1 20 (dk_at dksX0_adds_1 14 rfl rfl)
theorem dX0_adds_41 : decode cX0_adds 41 = .ok (.iastore, 1) := dk_79 (dk_at dksX0_adds_1 17 rfl rfl)
theorem dX0_adds_42 : decode cX0_adds 42 = .ok (.aload_n 0, 1) := dk_42 (dk_at dksX0_adds_1 18 rfl rfl)
theorem dX0_adds_43 : decode cX0_adds 43 = .ok (.iconst 4, 1) := dk_7 (dk_at dksX0_adds_1 19 rfl rfl)
theorem dX0_adds_44 : decode cX0_adds 44 = .ok (.iload_n 1, 1) := dk_27 (dk_at dksX0_adds_1 20 rfl rfl)
theorem dX0_adds_45 : decode cX0_adds 45 = .ok (.imul, 1) := dk_104 (dk_at dksX0_adds_1 21 rfl rfl)
theorem dX0_adds_46 : decode cX0_adds 46 = .ok (.iconst 3, 1) := dk_6 (dk_at dksX0_adds_1 22 rfl rfl)
theorem dX0_adds_47 : decode cX0_adds 47 = .ok (.iadd, 1) := dk_96 (dk_at dksX0_adds_1 23 rfl rfl)
theorem dX0_adds_48 : decode cX0_adds 48 = .ok (.aload_n 2, 1) := dk_44 (dk_at dksX0_adds_2 0 rfl rfl)
theorem dX0_adds_49 : decode cX0_adds 49 = .ok (.invokevirtual 280, 3) := dk_182 1 24 (dk_at dksX0_adds_2 1 rfl rfl)
theorem dX0_adds_52 : decode cX0_adds 52 = .ok (.iastore, 1) := dk_79 (dk_at dksX0_adds_2 4 rfl rfl)
theorem dX0_adds_53 : decode cX0_adds 53 = .ok (.iload_n 1, 1) := dk_27 (dk_at dksX0_adds_2 5 rfl rfl)
theorem dX0_adds_54 : decode cX0_adds 54 = .ok (.iconst 1, 1) := dk_4 (dk_at dksX0_adds_2 6 rfl rfl)
theorem dX0_adds_55 : decode cX0_adds 55 = .ok (.iadd, 1) := dk_96 (dk_at dksX0_adds_2 7 rfl rfl)
theorem dX0_adds_56 : decode cX0_adds 56 = .ok (.ireturn, 1) := dk_172 (dk_at dksX0_adds_2 8 rfl rfl)
theorem okX0_adds_0 : XOkL xms rX0_adds bX0_adds_0 := xcP (xok_aload_n dX0_adds_0 rfl) rfl (xcP (xok_iload_n dX0_adds_1 rfl) rfl (xcP (xok_aload_n dX0_adds_2 rfl) rfl (xcC0 (xokc_S xm27 rfl dX0_adds_3 q1888 q1889 q138 q1890 (by decide +kernel)) rfl (xcP (xok_ifeq dX0_adds_6 (by decide)) rfl (xcP (xok_iload_n dX0_adds_9 rfl) rfl (xcR ⟨dX0_adds_10, rfl⟩))))))
theorem okX0_adds_11 : XOkL xms rX0_adds bX0_adds_11 := xcP (xok_aload_n dX0_adds_11 rfl) rfl (xcP (xok_iconst dX0_adds_12 rfl) rfl (xcP (xok_iload_n dX0_adds_13 rfl) rfl (xcP (xok_imul dX0_adds_14) rfl (xcP (xok_aload_n dX0_adds_15 rfl) rfl (xcP (xok_getfield (ref := "WaysAtlas$Run") (Or.inl ⟨rfl, by decide⟩) dX0_adds_16 (Or.inr ⟨⟨"WaysAtlas", (List.mem_of_getElem? (i := 131) rfl)⟩, (Or.inl rfl)⟩) xh28) rfl (xcP (xok_iastore dX0_adds_19) rfl (xcP (xok_aload_n dX0_adds_20 rfl) rfl (xcP (xok_iconst dX0_adds_21 rfl) rfl (xcP (xok_iload_n dX0_adds_22 rfl) rfl (xcP (xok_imul dX0_adds_23) rfl (xcP (xok_iconst dX0_adds_24 rfl) rfl (xcP (xok_iadd dX0_adds_25) rfl (xcP (xok_aload_n dX0_adds_26 rfl) rfl (xcP (xok_getfield (ref := "WaysAtlas$Run") (Or.inl ⟨rfl, by decide⟩) dX0_adds_27 (Or.inr ⟨⟨"WaysAtlas", (List.mem_of_getElem? (i := 107) rfl)⟩, (Or.inl rfl)⟩) xh29) rfl (xcP (xok_iastore dX0_adds_30) rfl (xcP (xok_aload_n dX0_adds_31 rfl) rfl (xcP (xok_iconst dX0_adds_32 rfl) rfl (xcP (xok_iload_n dX0_adds_33 rfl) rfl (xcP (xok_imul dX0_adds_34) rfl (xcP (xok_iconst dX0_adds_35 rfl) rfl (xcP (xok_iadd dX0_adds_36) rfl (xcP (xok_aload_n dX0_adds_37 rfl) rfl (xcC0 (xokc_S xm28 rfl dX0_adds_38 q1891 q1892 q138 q1893 (by decide +kernel)) rfl (xcP (xok_iastore dX0_adds_41) rfl (xcP (xok_aload_n dX0_adds_42 rfl) rfl (xcP (xok_iconst dX0_adds_43 rfl) rfl (xcP (xok_iload_n dX0_adds_44 rfl) rfl (xcP (xok_imul dX0_adds_45) rfl (xcP (xok_iconst dX0_adds_46 rfl) rfl (xcP (xok_iadd dX0_adds_47) rfl (xcP (xok_aload_n dX0_adds_48 rfl) rfl (xcC0 (xokc_list (List.forall_mem_cons.mpr ⟨xokc_V (r := (RX5, TX5, 34)) xm91 (List.mem_of_getElem? (i := 5) rfl) (by decide) rfl dX0_adds_49 q1894 q1895 q1896 q143 q1897 (by decide +kernel), fun _ h => nomatch h⟩)) rfl (xcP (xok_iastore dX0_adds_52) rfl (xcP (xok_iload_n dX0_adds_53 rfl) rfl (xcP (xok_iconst dX0_adds_54 rfl) rfl (xcP (xok_iadd dX0_adds_55) rfl (xcR ⟨dX0_adds_56, rfl⟩)))))))))))))))))))))))))))))))))))))
theorem okM_X0_adds : XOkM xms rX0_adds := xokM0 (List.forall_mem_cons.mpr ⟨⟨rfl, okX0_adds_0⟩, List.forall_mem_cons.mpr ⟨⟨rfl, okX0_adds_11⟩, fun _ h => nomatch h⟩⟩) (xokH0 rfl (fun _ _ => rfl)) (by decide +kernel) (by decide)
abbrev cX0_isThere : ByteArray := prog_1_method_26_code
def dkwX0_isThere_2 : List UInt8 := [44, 182, 1, 24, 160, 0, 5, 4, 172, 132, 3, 4, 167, 255, 198, 3, 172]
abbrev dktX0_isThere_2 : List UInt8 := dkwX0_isThere_2 ++ []
def dkwX0_isThere_1 : List UInt8 := [44, 180, 0, 198, 160, 0, 29, 42, 29, 5, 96, 46, 44, 184, 1, 20, 160, 0, 17, 42, 29, 6, 96, 46]
abbrev dktX0_isThere_1 : List UInt8 := dkwX0_isThere_1 ++ dktX0_isThere_2
def dkwX0_isThere_0 : List UInt8 := [3, 62, 29, 7, 27, 104, 162, 0, 57, 42, 29, 46, 44, 180, 0, 83, 160, 0, 41, 42, 29, 4, 96, 46]
abbrev dktX0_isThere_0 : List UInt8 := dkwX0_isThere_0 ++ dktX0_isThere_1
theorem dksX0_isThere_0 : cX0_isThere.data.toList.drop 0 = dktX0_isThere_0 := by decide +kernel
theorem dksX0_isThere_1 : cX0_isThere.data.toList.drop 24 = dktX0_isThere_1 := dk_seg dksX0_isThere_0 24 rfl rfl
theorem dksX0_isThere_2 : cX0_isThere.data.toList.drop 48 = dktX0_isThere_2 := dk_seg dksX0_isThere_1 24 rfl rfl
theorem dX0_isThere_0 : decode cX0_isThere 0 = .ok (.iconst 0, 1) := dk_3 (dk_at dksX0_isThere_0 0 rfl rfl)
theorem dX0_isThere_1 : decode cX0_isThere 1 = .ok (.istore_n 3, 1) := dk_62 (dk_at dksX0_isThere_0 1 rfl rfl)
theorem dX0_isThere_2 : decode cX0_isThere 2 = .ok (.iload_n 3, 1) := dk_29 (dk_at dksX0_isThere_0 2 rfl rfl)
theorem dX0_isThere_3 : decode cX0_isThere 3 = .ok (.iconst 4, 1) := dk_7 (dk_at dksX0_isThere_0 3 rfl rfl)
theorem dX0_isThere_4 : decode cX0_isThere 4 = .ok (.iload_n 1, 1) := dk_27 (dk_at dksX0_isThere_0 4 rfl rfl)
theorem dX0_isThere_5 : decode cX0_isThere 5 = .ok (.imul, 1) := dk_104 (dk_at dksX0_isThere_0 5 rfl rfl)
theorem dX0_isThere_6 : decode cX0_isThere 6 = .ok (.if_icmp .ge 57, 3) := dk_162 0 57 (dk_at dksX0_isThere_0 6 rfl rfl)
theorem dX0_isThere_9 : decode cX0_isThere 9 = .ok (.aload_n 0, 1) := dk_42 (dk_at dksX0_isThere_0 9 rfl rfl)
theorem dX0_isThere_10 : decode cX0_isThere 10 = .ok (.iload_n 3, 1) := dk_29 (dk_at dksX0_isThere_0 10 rfl rfl)
theorem dX0_isThere_11 : decode cX0_isThere 11 = .ok (.iaload, 1) := dk_46 (dk_at dksX0_isThere_0 11 rfl rfl)
theorem dX0_isThere_12 : decode cX0_isThere 12 = .ok (.aload_n 2, 1) := dk_44 (dk_at dksX0_isThere_0 12 rfl rfl)
theorem dX0_isThere_13 : decode cX0_isThere 13 = .ok (.getfield 83, 3) := dk_180 0 83 (dk_at dksX0_isThere_0 13 rfl rfl)
theorem dX0_isThere_16 : decode cX0_isThere 16 = .ok (.if_icmp .ne 41, 3) := dk_160 0 41 (dk_at dksX0_isThere_0 16 rfl rfl)
theorem dX0_isThere_19 : decode cX0_isThere 19 = .ok (.aload_n 0, 1) := dk_42 (dk_at dksX0_isThere_0 19 rfl rfl)
theorem dX0_isThere_20 : decode cX0_isThere 20 = .ok (.iload_n 3, 1) := dk_29 (dk_at dksX0_isThere_0 20 rfl rfl)
theorem dX0_isThere_21 : decode cX0_isThere 21 = .ok (.iconst 1, 1) := dk_4 (dk_at dksX0_isThere_0 21 rfl rfl)
theorem dX0_isThere_22 : decode cX0_isThere 22 = .ok (.iadd, 1) := dk_96 (dk_at dksX0_isThere_0 22 rfl rfl)
theorem dX0_isThere_23 : decode cX0_isThere 23 = .ok (.iaload, 1) := dk_46 (dk_at dksX0_isThere_0 23 rfl rfl)
theorem dX0_isThere_24 : decode cX0_isThere 24 = .ok (.aload_n 2, 1) := dk_44 (dk_at dksX0_isThere_1 0 rfl rfl)
theorem dX0_isThere_25 : decode cX0_isThere 25 = .ok (.getfield 198, 3) := dk_180 0 198 (dk_at dksX0_isThere_1 1 rfl rfl)
theorem dX0_isThere_28 : decode cX0_isThere 28 = .ok (.if_icmp .ne 29, 3) := dk_160 0 29 (dk_at dksX0_isThere_1 4 rfl rfl)
theorem dX0_isThere_31 : decode cX0_isThere 31 = .ok (.aload_n 0, 1) := dk_42 (dk_at dksX0_isThere_1 7 rfl rfl)
theorem dX0_isThere_32 : decode cX0_isThere 32 = .ok (.iload_n 3, 1) := dk_29 (dk_at dksX0_isThere_1 8 rfl rfl)
theorem dX0_isThere_33 : decode cX0_isThere 33 = .ok (.iconst 2, 1) := dk_5 (dk_at dksX0_isThere_1 9 rfl rfl)
theorem dX0_isThere_34 : decode cX0_isThere 34 = .ok (.iadd, 1) := dk_96 (dk_at dksX0_isThere_1 10 rfl rfl)
theorem dX0_isThere_35 : decode cX0_isThere 35 = .ok (.iaload, 1) := dk_46 (dk_at dksX0_isThere_1 11 rfl rfl)
theorem dX0_isThere_36 : decode cX0_isThere 36 = .ok (.aload_n 2, 1) := dk_44 (dk_at dksX0_isThere_1 12 rfl rfl)
theorem dX0_isThere_37 : decode cX0_isThere 37 = .ok (.invokestatic 276, 3) := dk_184 1 20 (dk_at dksX0_isThere_1 13 rfl rfl)
theorem dX0_isThere_40 : decode cX0_isThere 40 = .ok (.if_icmp .ne 17, 3) := dk_160 0 17 (dk_at dksX0_isThere_1 16 rfl rfl)
theorem dX0_isThere_43 : decode cX0_isThere 43 = .ok (.aload_n 0, 1) := dk_42 (dk_at dksX0_isThere_1 19 rfl rfl)
theorem dX0_isThere_44 : decode cX0_isThere 44 = .ok (.iload_n 3, 1) := dk_29 (dk_at dksX0_isThere_1 20 rfl rfl)
theorem dX0_isThere_45 : decode cX0_isThere 45 = .ok (.iconst 3, 1) := dk_6 (dk_at dksX0_isThere_1 21 rfl rfl)
theorem dX0_isThere_46 : decode cX0_isThere 46 = .ok (.iadd, 1) := dk_96 (dk_at dksX0_isThere_1 22 rfl rfl)
theorem dX0_isThere_47 : decode cX0_isThere 47 = .ok (.iaload, 1) := dk_46 (dk_at dksX0_isThere_1 23 rfl rfl)
theorem dX0_isThere_48 : decode cX0_isThere 48 = .ok (.aload_n 2, 1) := dk_44 (dk_at dksX0_isThere_2 0 rfl rfl)
theorem dX0_isThere_49 : decode cX0_isThere 49 = .ok (.invokevirtual 280, 3) := dk_182 1 24 (dk_at dksX0_isThere_2 1 rfl rfl)
theorem dX0_isThere_52 : decode cX0_isThere 52 = .ok (.if_icmp .ne 5, 3) := dk_160 0 5 (dk_at dksX0_isThere_2 4 rfl rfl)
theorem dX0_isThere_55 : decode cX0_isThere 55 = .ok (.iconst 1, 1) := dk_4 (dk_at dksX0_isThere_2 7 rfl rfl)
theorem dX0_isThere_56 : decode cX0_isThere 56 = .ok (.ireturn, 1) := dk_172 (dk_at dksX0_isThere_2 8 rfl rfl)
theorem dX0_isThere_57 : decode cX0_isThere 57 = .ok (.iinc 3 4, 3) := dk_132 3 4 (dk_at dksX0_isThere_2 9 rfl rfl)
theorem dX0_isThere_60 : decode cX0_isThere 60 = .ok (.goto (-58), 3) := dk_167 255 198 (dk_at dksX0_isThere_2 12 rfl rfl)
theorem dX0_isThere_63 : decode cX0_isThere 63 = .ok (.iconst 0, 1) := dk_3 (dk_at dksX0_isThere_2 15 rfl rfl)
theorem dX0_isThere_64 : decode cX0_isThere 64 = .ok (.ireturn, 1) := dk_172 (dk_at dksX0_isThere_2 16 rfl rfl)
theorem okX0_isThere_0 : XOkL xms rX0_isThere bX0_isThere_0 := xcP (xok_iconst dX0_isThere_0 rfl) rfl (xcP (xok_istore_n dX0_isThere_1 rfl) rfl (xcP xok_fal rfl trivial))
theorem okX0_isThere_2 : XOkL xms rX0_isThere bX0_isThere_2 := xcP (xok_iload_n dX0_isThere_2 rfl) rfl (xcP (xok_iconst dX0_isThere_3 rfl) rfl (xcP (xok_iload_n dX0_isThere_4 rfl) rfl (xcP (xok_imul dX0_isThere_5) rfl (xcP (xok_icmpge dX0_isThere_6 (by decide)) rfl (xcP (xok_aload_n dX0_isThere_9 rfl) rfl (xcP (xok_iload_n dX0_isThere_10 rfl) rfl (xcP (xok_iaload dX0_isThere_11) rfl (xcP (xok_aload_n dX0_isThere_12 rfl) rfl (xcP (xok_getfield (ref := "WaysAtlas$Run") (Or.inl ⟨rfl, by decide⟩) dX0_isThere_13 (Or.inr ⟨⟨"WaysAtlas", (List.mem_of_getElem? (i := 131) rfl)⟩, (Or.inl rfl)⟩) xh28) rfl (xcP (xok_icmpne dX0_isThere_16 (by decide)) rfl (xcP (xok_aload_n dX0_isThere_19 rfl) rfl (xcP (xok_iload_n dX0_isThere_20 rfl) rfl (xcP (xok_iconst dX0_isThere_21 rfl) rfl (xcP (xok_iadd dX0_isThere_22) rfl (xcP (xok_iaload dX0_isThere_23) rfl (xcP (xok_aload_n dX0_isThere_24 rfl) rfl (xcP (xok_getfield (ref := "WaysAtlas$Run") (Or.inl ⟨rfl, by decide⟩) dX0_isThere_25 (Or.inr ⟨⟨"WaysAtlas", (List.mem_of_getElem? (i := 107) rfl)⟩, (Or.inl rfl)⟩) xh29) rfl (xcP (xok_icmpne dX0_isThere_28 (by decide)) rfl (xcP (xok_aload_n dX0_isThere_31 rfl) rfl (xcP (xok_iload_n dX0_isThere_32 rfl) rfl (xcP (xok_iconst dX0_isThere_33 rfl) rfl (xcP (xok_iadd dX0_isThere_34) rfl (xcP (xok_iaload dX0_isThere_35) rfl (xcP (xok_aload_n dX0_isThere_36 rfl) rfl (xcC0 (xokc_S xm28 rfl dX0_isThere_37 q1891 q1892 q138 q1893 (by decide +kernel)) rfl (xcP (xok_icmpne dX0_isThere_40 (by decide)) rfl (xcP (xok_aload_n dX0_isThere_43 rfl) rfl (xcP (xok_iload_n dX0_isThere_44 rfl) rfl (xcP (xok_iconst dX0_isThere_45 rfl) rfl (xcP (xok_iadd dX0_isThere_46) rfl (xcP (xok_iaload dX0_isThere_47) rfl (xcP (xok_aload_n dX0_isThere_48 rfl) rfl (xcC0 (xokc_list (List.forall_mem_cons.mpr ⟨xokc_V (r := (RX5, TX5, 34)) xm91 (List.mem_of_getElem? (i := 5) rfl) (by decide) rfl dX0_isThere_49 q1894 q1895 q1896 q143 q1897 (by decide +kernel), fun _ h => nomatch h⟩)) rfl (xcP (xok_icmpne dX0_isThere_52 (by decide)) rfl (xcP (xok_iconst dX0_isThere_55 rfl) rfl (xcR ⟨dX0_isThere_56, rfl⟩))))))))))))))))))))))))))))))))))))
theorem okX0_isThere_57 : XOkL xms rX0_isThere bX0_isThere_57 := xcP (xok_iinc dX0_isThere_57 rfl) rfl (xcP (xok_goto dX0_isThere_60 (by decide)) rfl trivial)
theorem okX0_isThere_63 : XOkL xms rX0_isThere bX0_isThere_63 := xcP (xok_iconst dX0_isThere_63 rfl) rfl (xcR ⟨dX0_isThere_64, rfl⟩)
theorem okM_X0_isThere : XOkM xms rX0_isThere := xokM0 (List.forall_mem_cons.mpr ⟨⟨rfl, okX0_isThere_0⟩, List.forall_mem_cons.mpr ⟨⟨rfl, okX0_isThere_2⟩, List.forall_mem_cons.mpr ⟨⟨rfl, okX0_isThere_57⟩, List.forall_mem_cons.mpr ⟨⟨rfl, okX0_isThere_63⟩, fun _ h => nomatch h⟩⟩⟩⟩) (xokH0 rfl (fun _ _ => rfl)) (by decide +kernel) (by decide)
abbrev cX0_kindOf : ByteArray := prog_1_method_27_code
def dkwX0_kindOf_0 : List UInt8 := [42, 180, 0, 83, 4, 160, 0, 15, 42, 180, 0, 232, 42, 180, 0, 201, 46, 167, 0, 5, 16, 247, 172]
abbrev dktX0_kindOf_0 : List UInt8 := dkwX0_kindOf_0 ++ []
theorem dksX0_kindOf_0 : cX0_kindOf.data.toList.drop 0 = dktX0_kindOf_0 := by decide +kernel
theorem dX0_kindOf_0 : decode cX0_kindOf 0 = .ok (.aload_n 0, 1) := dk_42 (dk_at dksX0_kindOf_0 0 rfl rfl)
theorem dX0_kindOf_1 : decode cX0_kindOf 1 = .ok (.getfield 83, 3) := dk_180 0 83 (dk_at dksX0_kindOf_0 1 rfl rfl)
theorem dX0_kindOf_4 : decode cX0_kindOf 4 = .ok (.iconst 1, 1) := dk_4 (dk_at dksX0_kindOf_0 4 rfl rfl)
theorem dX0_kindOf_5 : decode cX0_kindOf 5 = .ok (.if_icmp .ne 15, 3) := dk_160 0 15 (dk_at dksX0_kindOf_0 5 rfl rfl)
theorem dX0_kindOf_8 : decode cX0_kindOf 8 = .ok (.aload_n 0, 1) := dk_42 (dk_at dksX0_kindOf_0 8 rfl rfl)
theorem dX0_kindOf_9 : decode cX0_kindOf 9 = .ok (.getfield 232, 3) := dk_180 0 232 (dk_at dksX0_kindOf_0 9 rfl rfl)
theorem dX0_kindOf_12 : decode cX0_kindOf 12 = .ok (.aload_n 0, 1) := dk_42 (dk_at dksX0_kindOf_0 12 rfl rfl)
theorem dX0_kindOf_13 : decode cX0_kindOf 13 = .ok (.getfield 201, 3) := dk_180 0 201 (dk_at dksX0_kindOf_0 13 rfl rfl)
theorem dX0_kindOf_16 : decode cX0_kindOf 16 = .ok (.iaload, 1) := dk_46 (dk_at dksX0_kindOf_0 16 rfl rfl)
theorem dX0_kindOf_17 : decode cX0_kindOf 17 = .ok (.goto 5, 3) := dk_167 0 5 (dk_at dksX0_kindOf_0 17 rfl rfl)
theorem dX0_kindOf_20 : decode cX0_kindOf 20 = .ok (.bipush (-9), 2) := dk_16 247 (dk_at dksX0_kindOf_0 20 rfl rfl)
theorem dX0_kindOf_22 : decode cX0_kindOf 22 = .ok (.ireturn, 1) := dk_172 (dk_at dksX0_kindOf_0 22 rfl rfl)
theorem okX0_kindOf_0 : XOkL xms rX0_kindOf bX0_kindOf_0 := xcP (xok_aload_n dX0_kindOf_0 rfl) rfl (xcP (xok_getfield (ref := "WaysAtlas$Run") (Or.inl ⟨rfl, by decide⟩) dX0_kindOf_1 (Or.inr ⟨⟨"WaysAtlas", (List.mem_of_getElem? (i := 131) rfl)⟩, (Or.inl rfl)⟩) xh28) rfl (xcP (xok_iconst dX0_kindOf_4 rfl) rfl (xcP (xok_icmpne dX0_kindOf_5 (by decide)) rfl (xcP (xok_aload_n dX0_kindOf_8 rfl) rfl (xcP (xok_getfield (ref := "WaysAtlas$Run") (Or.inr ⟨rfl, by decide⟩) dX0_kindOf_9 (Or.inr ⟨⟨"WaysAtlas", (List.mem_of_getElem? (i := 117) rfl)⟩, (Or.inl rfl)⟩) xh1033) rfl (xcP (xok_aload_n dX0_kindOf_12 rfl) rfl (xcP (xok_getfield (ref := "WaysAtlas$Run") (Or.inl ⟨rfl, by decide⟩) dX0_kindOf_13 (Or.inr ⟨⟨"WaysAtlas", (List.mem_of_getElem? (i := 108) rfl)⟩, (Or.inl rfl)⟩) xh30) rfl (xcP (xok_iaload dX0_kindOf_16) rfl (xcP (xok_goto dX0_kindOf_17 (by decide)) rfl trivial)))))))))
theorem okX0_kindOf_20 : XOkL xms rX0_kindOf bX0_kindOf_20 := xcP (xok_bipush dX0_kindOf_20 rfl) rfl (xcP xok_fal rfl trivial)
theorem okX0_kindOf_22 : XOkL xms rX0_kindOf bX0_kindOf_22 := xcR ⟨dX0_kindOf_22, rfl⟩
theorem okM_X0_kindOf : XOkM xms rX0_kindOf := xokM0 (List.forall_mem_cons.mpr ⟨⟨rfl, okX0_kindOf_0⟩, List.forall_mem_cons.mpr ⟨⟨rfl, okX0_kindOf_20⟩, List.forall_mem_cons.mpr ⟨⟨rfl, okX0_kindOf_22⟩, fun _ h => nomatch h⟩⟩⟩) (xokH0 rfl (fun _ _ => rfl)) (by decide +kernel) (by decide)
abbrev cX0_same : ByteArray := prog_1_method_30_code
def dkwX0_same_14 : List UInt8 := [167, 0, 4, 3, 54, 4, 132, 5, 1, 167, 255, 211, 21, 4, 153, 0, 7, 4, 167, 0, 4, 3, 172]
abbrev dktX0_same_14 : List UInt8 := dkwX0_same_14 ++ []
def dkwX0_same_13 : List UInt8 := [42, 180, 0, 77, 180, 1, 1, 21, 5, 46, 42, 180, 0, 80, 180, 1, 1, 21, 5, 46, 160, 0, 7, 4]
abbrev dktX0_same_13 : List UInt8 := dkwX0_same_13 ++ dktX0_same_14
def dkwX0_same_12 : List UInt8 := [167, 255, 211, 132, 5, 1, 167, 255, 185, 3, 54, 5, 21, 5, 16, 80, 162, 0, 44, 21, 4, 153, 0, 39]
abbrev dktX0_same_12 : List UInt8 := dkwX0_same_12 ++ dktX0_same_13
def dkwX0_same_11 : List UInt8 := [180, 0, 80, 21, 5, 21, 6, 184, 0, 228, 160, 0, 7, 4, 167, 0, 4, 3, 126, 54, 4, 132, 6, 1]
abbrev dktX0_same_11 : List UInt8 := dkwX0_same_11 ++ dktX0_same_12
def dkwX0_same_10 : List UInt8 := [54, 6, 21, 6, 16, 6, 162, 0, 44, 21, 4, 42, 180, 0, 77, 21, 5, 21, 6, 184, 0, 228, 42]
abbrev dktX0_same_10 : List UInt8 := dkwX0_same_10 ++ dktX0_same_11
def dkwX0_same_9 : List UInt8 := [167, 255, 206, 3, 54, 5, 21, 5, 42, 180, 0, 77, 180, 0, 207, 162, 0, 65, 21, 4, 153, 0, 60, 3]
abbrev dktX0_same_9 : List UInt8 := dkwX0_same_9 ++ dktX0_same_10
def dkwX0_same_8 : List UInt8 := [42, 180, 0, 80, 180, 0, 251, 21, 5, 46, 160, 0, 7, 4, 167, 0, 4, 3, 54, 4, 132, 5, 1]
abbrev dktX0_same_8 : List UInt8 := dkwX0_same_8 ++ dktX0_same_9
def dkwX0_same_7 : List UInt8 := [180, 0, 77, 180, 0, 213, 162, 0, 44, 21, 4, 153, 0, 39, 42, 180, 0, 77, 180, 0, 251, 21, 5, 46]
abbrev dktX0_same_7 : List UInt8 := dkwX0_same_7 ++ dktX0_same_8
def dkwX0_same_6 : List UInt8 := [160, 0, 7, 4, 167, 0, 4, 3, 54, 4, 132, 5, 1, 167, 255, 206, 3, 54, 5, 21, 5, 42]
abbrev dktX0_same_6 : List UInt8 := dkwX0_same_6 ++ dktX0_same_7
def dkwX0_same_5 : List UInt8 := [153, 0, 39, 42, 180, 0, 77, 180, 0, 225, 21, 5, 46, 42, 180, 0, 80, 180, 0, 225, 21, 5, 46]
abbrev dktX0_same_5 : List UInt8 := dkwX0_same_5 ++ dktX0_same_6
def dkwX0_same_4 : List UInt8 := [132, 5, 1, 167, 255, 215, 3, 54, 5, 21, 5, 42, 180, 0, 77, 180, 0, 204, 162, 0, 44, 21, 4]
abbrev dktX0_same_4 : List UInt8 := dkwX0_same_4 ++ dktX0_same_5
def dkwX0_same_3 : List UInt8 := [184, 0, 194, 42, 180, 0, 80, 21, 5, 184, 0, 194, 160, 0, 7, 4, 167, 0, 4, 3, 126, 54, 4]
abbrev dktX0_same_3 : List UInt8 := dkwX0_same_3 ++ dktX0_same_4
def dkwX0_same_2 : List UInt8 := [182, 0, 186, 4, 54, 4, 3, 54, 5, 21, 5, 16, 10, 162, 0, 40, 21, 4, 42, 180, 0, 77, 21, 5]
abbrev dktX0_same_2 : List UInt8 := dkwX0_same_2 ++ dktX0_same_3
def dkwX0_same_1 : List UInt8 := [17, 1, 144, 182, 0, 186, 42, 42, 180, 0, 80, 4, 42, 180, 0, 57, 27, 28, 29, 17, 1, 144]
abbrev dktX0_same_1 : List UInt8 := dkwX0_same_1 ++ dktX0_same_2
def dkwX0_same_0 : List UInt8 := [42, 27, 182, 0, 183, 154, 0, 5, 2, 172, 42, 42, 180, 0, 77, 3, 42, 180, 0, 57, 27, 28, 29]
abbrev dktX0_same_0 : List UInt8 := dkwX0_same_0 ++ dktX0_same_1
theorem dksX0_same_0 : cX0_same.data.toList.drop 0 = dktX0_same_0 := by decide +kernel
theorem dksX0_same_1 : cX0_same.data.toList.drop 23 = dktX0_same_1 := dk_seg dksX0_same_0 23 rfl rfl
theorem dksX0_same_2 : cX0_same.data.toList.drop 45 = dktX0_same_2 := dk_seg dksX0_same_1 22 rfl rfl
theorem dksX0_same_3 : cX0_same.data.toList.drop 69 = dktX0_same_3 := dk_seg dksX0_same_2 24 rfl rfl
theorem dksX0_same_4 : cX0_same.data.toList.drop 92 = dktX0_same_4 := dk_seg dksX0_same_3 23 rfl rfl
theorem dksX0_same_5 : cX0_same.data.toList.drop 115 = dktX0_same_5 := dk_seg dksX0_same_4 23 rfl rfl
theorem dksX0_same_6 : cX0_same.data.toList.drop 138 = dktX0_same_6 := dk_seg dksX0_same_5 23 rfl rfl
theorem dksX0_same_7 : cX0_same.data.toList.drop 160 = dktX0_same_7 := dk_seg dksX0_same_6 22 rfl rfl
theorem dksX0_same_8 : cX0_same.data.toList.drop 184 = dktX0_same_8 := dk_seg dksX0_same_7 24 rfl rfl
theorem dksX0_same_9 : cX0_same.data.toList.drop 207 = dktX0_same_9 := dk_seg dksX0_same_8 23 rfl rfl
theorem dksX0_same_10 : cX0_same.data.toList.drop 231 = dktX0_same_10 := dk_seg dksX0_same_9 24 rfl rfl
theorem dksX0_same_11 : cX0_same.data.toList.drop 254 = dktX0_same_11 := dk_seg dksX0_same_10 23 rfl rfl
theorem dksX0_same_12 : cX0_same.data.toList.drop 278 = dktX0_same_12 := dk_seg dksX0_same_11 24 rfl rfl
theorem dksX0_same_13 : cX0_same.data.toList.drop 302 = dktX0_same_13 := dk_seg dksX0_same_12 24 rfl rfl
theorem dksX0_same_14 : cX0_same.data.toList.drop 326 = dktX0_same_14 := dk_seg dksX0_same_13 24 rfl rfl
theorem dX0_same_0 : decode cX0_same 0 = .ok (.aload_n 0, 1) := dk_42 (dk_at dksX0_same_0 0 rfl rfl)
theorem dX0_same_1 : decode cX0_same 1 = .ok (.iload_n 1, 1) := dk_27 (dk_at dksX0_same_0 1 rfl rfl)
theorem dX0_same_2 : decode cX0_same 2 = .ok (.invokevirtual 183, 3) := dk_182 0 183 (dk_at dksX0_same_0 2 rfl rfl)
theorem dX0_same_5 : decode cX0_same 5 = .ok (.ifCond .ne 5, 3) := dk_154 0 5 (dk_at dksX0_same_0 5 rfl rfl)
theorem dX0_same_8 : decode cX0_same 8 = .ok (.iconst (-1), 1) := dk_2 (dk_at dksX0_same_0 8 rfl rfl)
theorem dX0_same_9 : decode cX0_same 9 = .ok (.ireturn, 1) := dk_172 (dk_at dksX0_same_0 9 rfl rfl)
theorem dX0_same_10 : decode cX0_same 10 = .ok (.aload_n 0, 1) := dk_42 (dk_at dksX0_same_0 10 rfl rfl)
theorem dX0_same_11 : decode cX0_same 11 = .ok (.aload_n 0, 1) := dk_42 (dk_at dksX0_same_0 11 rfl rfl)
theorem dX0_same_12 : decode cX0_same 12 = .ok (.getfield 77, 3) := dk_180 0 77 (dk_at dksX0_same_0 12 rfl rfl)
theorem dX0_same_15 : decode cX0_same 15 = .ok (.iconst 0, 1) := dk_3 (dk_at dksX0_same_0 15 rfl rfl)
theorem dX0_same_16 : decode cX0_same 16 = .ok (.aload_n 0, 1) := dk_42 (dk_at dksX0_same_0 16 rfl rfl)
theorem dX0_same_17 : decode cX0_same 17 = .ok (.getfield 57, 3) := dk_180 0 57 (dk_at dksX0_same_0 17 rfl rfl)
theorem dX0_same_20 : decode cX0_same 20 = .ok (.iload_n 1, 1) := dk_27 (dk_at dksX0_same_0 20 rfl rfl)
theorem dX0_same_21 : decode cX0_same 21 = .ok (.iload_n 2, 1) := dk_28 (dk_at dksX0_same_0 21 rfl rfl)
theorem dX0_same_22 : decode cX0_same 22 = .ok (.iload_n 3, 1) := dk_29 (dk_at dksX0_same_0 22 rfl rfl)
theorem dX0_same_23 : decode cX0_same 23 = .ok (.sipush 400, 3) := dk_17 1 144 (dk_at dksX0_same_1 0 rfl rfl)
theorem dX0_same_26 : decode cX0_same 26 = .ok (.invokevirtual 186, 3) := dk_182 0 186 (dk_at dksX0_same_1 3 rfl rfl)
theorem dX0_same_29 : decode cX0_same 29 = .ok (.aload_n 0, 1) := dk_42 (dk_at dksX0_same_1 6 rfl rfl)
theorem dX0_same_30 : decode cX0_same 30 = .ok (.aload_n 0, 1) := dk_42 (dk_at dksX0_same_1 7 rfl rfl)
theorem dX0_same_31 : decode cX0_same 31 = .ok (.getfield 80, 3) := dk_180 0 80 (dk_at dksX0_same_1 8 rfl rfl)
theorem dX0_same_34 : decode cX0_same 34 = .ok (.iconst 1, 1) := dk_4 (dk_at dksX0_same_1 11 rfl rfl)
theorem dX0_same_35 : decode cX0_same 35 = .ok (.aload_n 0, 1) := dk_42 (dk_at dksX0_same_1 12 rfl rfl)
theorem dX0_same_36 : decode cX0_same 36 = .ok (.getfield 57, 3) := dk_180 0 57 (dk_at dksX0_same_1 13 rfl rfl)
theorem dX0_same_39 : decode cX0_same 39 = .ok (.iload_n 1, 1) := dk_27 (dk_at dksX0_same_1 16 rfl rfl)
theorem dX0_same_40 : decode cX0_same 40 = .ok (.iload_n 2, 1) := dk_28 (dk_at dksX0_same_1 17 rfl rfl)
theorem dX0_same_41 : decode cX0_same 41 = .ok (.iload_n 3, 1) := dk_29 (dk_at dksX0_same_1 18 rfl rfl)
theorem dX0_same_42 : decode cX0_same 42 = .ok (.sipush 400, 3) := dk_17 1 144 (dk_at dksX0_same_1 19 rfl rfl)
theorem dX0_same_45 : decode cX0_same 45 = .ok (.invokevirtual 186, 3) := dk_182 0 186 (dk_at dksX0_same_2 0 rfl rfl)
theorem dX0_same_48 : decode cX0_same 48 = .ok (.iconst 1, 1) := dk_4 (dk_at dksX0_same_2 3 rfl rfl)
theorem dX0_same_49 : decode cX0_same 49 = .ok (.istore 4, 2) := dk_54 4 (dk_at dksX0_same_2 4 rfl rfl)
theorem dX0_same_51 : decode cX0_same 51 = .ok (.iconst 0, 1) := dk_3 (dk_at dksX0_same_2 6 rfl rfl)
theorem dX0_same_52 : decode cX0_same 52 = .ok (.istore 5, 2) := dk_54 5 (dk_at dksX0_same_2 7 rfl rfl)
theorem dX0_same_54 : decode cX0_same 54 = .ok (.iload 5, 2) := dk_21 5 (dk_at dksX0_same_2 9 rfl rfl)
theorem dX0_same_56 : decode cX0_same 56 = .ok (.bipush 10, 2) := dk_16 10 (dk_at dksX0_same_2 11 rfl rfl)
theorem dX0_same_58 : decode cX0_same 58 = .ok (.if_icmp .ge 40, 3) := dk_162 0 40 (dk_at dksX0_same_2 13 rfl rfl)
theorem dX0_same_61 : decode cX0_same 61 = .ok (.iload 4, 2) := dk_21 4 (dk_at dksX0_same_2 16 rfl rfl)
theorem dX0_same_63 : decode cX0_same 63 = .ok (.aload_n 0, 1) := dk_42 (dk_at dksX0_same_2 18 rfl rfl)
theorem dX0_same_64 : decode cX0_same 64 = .ok (.getfield 77, 3) := dk_180 0 77 (dk_at dksX0_same_2 19 rfl rfl)
theorem dX0_same_67 : decode cX0_same 67 = .ok (.iload 5, 2) := dk_21 5 (dk_at dksX0_same_2 22 rfl rfl)
theorem dX0_same_69 : decode cX0_same 69 = .ok (.invokestatic 194, 3) := dk_184 0 194 (dk_at dksX0_same_3 0 rfl rfl)
theorem dX0_same_72 : decode cX0_same 72 = .ok (.aload_n 0, 1) := dk_42 (dk_at dksX0_same_3 3 rfl rfl)
theorem dX0_same_73 : decode cX0_same 73 = .ok (.getfield 80, 3) := dk_180 0 80 (dk_at dksX0_same_3 4 rfl rfl)
theorem dX0_same_76 : decode cX0_same 76 = .ok (.iload 5, 2) := dk_21 5 (dk_at dksX0_same_3 7 rfl rfl)
theorem dX0_same_78 : decode cX0_same 78 = .ok (.invokestatic 194, 3) := dk_184 0 194 (dk_at dksX0_same_3 9 rfl rfl)
theorem dX0_same_81 : decode cX0_same 81 = .ok (.if_icmp .ne 7, 3) := dk_160 0 7 (dk_at dksX0_same_3 12 rfl rfl)
theorem dX0_same_84 : decode cX0_same 84 = .ok (.iconst 1, 1) := dk_4 (dk_at dksX0_same_3 15 rfl rfl)
theorem dX0_same_85 : decode cX0_same 85 = .ok (.goto 4, 3) := dk_167 0 4 (dk_at dksX0_same_3 16 rfl rfl)
theorem dX0_same_88 : decode cX0_same 88 = .ok (.iconst 0, 1) := dk_3 (dk_at dksX0_same_3 19 rfl rfl)
theorem dX0_same_89 : decode cX0_same 89 = .ok (.iand, 1) := dk_126 (dk_at dksX0_same_3 20 rfl rfl)
theorem dX0_same_90 : decode cX0_same 90 = .ok (.istore 4, 2) := dk_54 4 (dk_at dksX0_same_3 21 rfl rfl)
theorem dX0_same_92 : decode cX0_same 92 = .ok (.iinc 5 1, 3) := dk_132 5 1 (dk_at dksX0_same_4 0 rfl rfl)
theorem dX0_same_95 : decode cX0_same 95 = .ok (.goto (-41), 3) := dk_167 255 215 (dk_at dksX0_same_4 3 rfl rfl)
theorem dX0_same_98 : decode cX0_same 98 = .ok (.iconst 0, 1) := dk_3 (dk_at dksX0_same_4 6 rfl rfl)
theorem dX0_same_99 : decode cX0_same 99 = .ok (.istore 5, 2) := dk_54 5 (dk_at dksX0_same_4 7 rfl rfl)
theorem dX0_same_101 : decode cX0_same 101 = .ok (.iload 5, 2) := dk_21 5 (dk_at dksX0_same_4 9 rfl rfl)
theorem dX0_same_103 : decode cX0_same 103 = .ok (.aload_n 0, 1) := dk_42 (dk_at dksX0_same_4 11 rfl rfl)
theorem dX0_same_104 : decode cX0_same 104 = .ok (.getfield 77, 3) := dk_180 0 77 (dk_at dksX0_same_4 12 rfl rfl)
theorem dX0_same_107 : decode cX0_same 107 = .ok (.getfield 204, 3) := dk_180 0 204 (dk_at dksX0_same_4 15 rfl rfl)
theorem dX0_same_110 : decode cX0_same 110 = .ok (.if_icmp .ge 44, 3) := dk_162 0 44 (dk_at dksX0_same_4 18 rfl rfl)
theorem dX0_same_113 : decode cX0_same 113 = .ok (.iload 4, 2) := dk_21 4 (dk_at dksX0_same_4 21 rfl rfl)
theorem dX0_same_115 : decode cX0_same 115 = .ok (.ifCond .eq 39, 3) := dk_153 0 39 (dk_at dksX0_same_5 0 rfl rfl)
theorem dX0_same_118 : decode cX0_same 118 = .ok (.aload_n 0, 1) := dk_42 (dk_at dksX0_same_5 3 rfl rfl)
theorem dX0_same_119 : decode cX0_same 119 = .ok (.getfield 77, 3) := dk_180 0 77 (dk_at dksX0_same_5 4 rfl rfl)
theorem dX0_same_122 : decode cX0_same 122 = .ok (.getfield 225, 3) := dk_180 0 225 (dk_at dksX0_same_5 7 rfl rfl)
theorem dX0_same_125 : decode cX0_same 125 = .ok (.iload 5, 2) := dk_21 5 (dk_at dksX0_same_5 10 rfl rfl)
theorem dX0_same_127 : decode cX0_same 127 = .ok (.iaload, 1) := dk_46 (dk_at dksX0_same_5 12 rfl rfl)
theorem dX0_same_128 : decode cX0_same 128 = .ok (.aload_n 0, 1) := dk_42 (dk_at dksX0_same_5 13 rfl rfl)
theorem dX0_same_129 : decode cX0_same 129 = .ok (.getfield 80, 3) := dk_180 0 80 (dk_at dksX0_same_5 14 rfl rfl)
theorem dX0_same_132 : decode cX0_same 132 = .ok (.getfield 225, 3) := dk_180 0 225 (dk_at dksX0_same_5 17 rfl rfl)
theorem dX0_same_135 : decode cX0_same 135 = .ok (.iload 5, 2) := dk_21 5 (dk_at dksX0_same_5 20 rfl rfl)
theorem dX0_same_137 : decode cX0_same 137 = .ok (.iaload, 1) := dk_46 (dk_at dksX0_same_5 22 rfl rfl)
theorem dX0_same_138 : decode cX0_same 138 = .ok (.if_icmp .ne 7, 3) := dk_160 0 7 (dk_at dksX0_same_6 0 rfl rfl)
theorem dX0_same_141 : decode cX0_same 141 = .ok (.iconst 1, 1) := dk_4 (dk_at dksX0_same_6 3 rfl rfl)
theorem dX0_same_142 : decode cX0_same 142 = .ok (.goto 4, 3) := dk_167 0 4 (dk_at dksX0_same_6 4 rfl rfl)
theorem dX0_same_145 : decode cX0_same 145 = .ok (.iconst 0, 1) := dk_3 (dk_at dksX0_same_6 7 rfl rfl)
theorem dX0_same_146 : decode cX0_same 146 = .ok (.istore 4, 2) := dk_54 4 (dk_at dksX0_same_6 8 rfl rfl)
theorem dX0_same_148 : decode cX0_same 148 = .ok (.iinc 5 1, 3) := dk_132 5 1 (dk_at dksX0_same_6 10 rfl rfl)
theorem dX0_same_151 : decode cX0_same 151 = .ok (.goto (-50), 3) := dk_167 255 206 (dk_at dksX0_same_6 13 rfl rfl)
theorem dX0_same_154 : decode cX0_same 154 = .ok (.iconst 0, 1) := dk_3 (dk_at dksX0_same_6 16 rfl rfl)
theorem dX0_same_155 : decode cX0_same 155 = .ok (.istore 5, 2) := dk_54 5 (dk_at dksX0_same_6 17 rfl rfl)
theorem dX0_same_157 : decode cX0_same 157 = .ok (.iload 5, 2) := dk_21 5 (dk_at dksX0_same_6 19 rfl rfl)
theorem dX0_same_159 : decode cX0_same 159 = .ok (.aload_n 0, 1) := dk_42 (dk_at dksX0_same_6 21 rfl rfl)
theorem dX0_same_160 : decode cX0_same 160 = .ok (.getfield 77, 3) := dk_180 0 77 (dk_at dksX0_same_7 0 rfl rfl)
theorem dX0_same_163 : decode cX0_same 163 = .ok (.getfield 213, 3) := dk_180 0 213 (dk_at dksX0_same_7 3 rfl rfl)
theorem dX0_same_166 : decode cX0_same 166 = .ok (.if_icmp .ge 44, 3) := dk_162 0 44 (dk_at dksX0_same_7 6 rfl rfl)
theorem dX0_same_169 : decode cX0_same 169 = .ok (.iload 4, 2) := dk_21 4 (dk_at dksX0_same_7 9 rfl rfl)
theorem dX0_same_171 : decode cX0_same 171 = .ok (.ifCond .eq 39, 3) := dk_153 0 39 (dk_at dksX0_same_7 11 rfl rfl)
theorem dX0_same_174 : decode cX0_same 174 = .ok (.aload_n 0, 1) := dk_42 (dk_at dksX0_same_7 14 rfl rfl)
theorem dX0_same_175 : decode cX0_same 175 = .ok (.getfield 77, 3) := dk_180 0 77 (dk_at dksX0_same_7 15 rfl rfl)
theorem dX0_same_178 : decode cX0_same 178 = .ok (.getfield 251, 3) := dk_180 0 251 (dk_at dksX0_same_7 18 rfl rfl)
theorem dX0_same_181 : decode cX0_same 181 = .ok (.iload 5, 2) := dk_21 5 (dk_at dksX0_same_7 21 rfl rfl)
theorem dX0_same_183 : decode cX0_same 183 = .ok (.iaload, 1) := dk_46 (dk_at dksX0_same_7 23 rfl rfl)
theorem dX0_same_184 : decode cX0_same 184 = .ok (.aload_n 0, 1) := dk_42 (dk_at dksX0_same_8 0 rfl rfl)
theorem dX0_same_185 : decode cX0_same 185 = .ok (.getfield 80, 3) := dk_180 0 80 (dk_at dksX0_same_8 1 rfl rfl)
theorem dX0_same_188 : decode cX0_same 188 = .ok (.getfield 251, 3) := dk_180 0 251 (dk_at dksX0_same_8 4 rfl rfl)
theorem dX0_same_191 : decode cX0_same 191 = .ok (.iload 5, 2) := dk_21 5 (dk_at dksX0_same_8 7 rfl rfl)
theorem dX0_same_193 : decode cX0_same 193 = .ok (.iaload, 1) := dk_46 (dk_at dksX0_same_8 9 rfl rfl)
theorem dX0_same_194 : decode cX0_same 194 = .ok (.if_icmp .ne 7, 3) := dk_160 0 7 (dk_at dksX0_same_8 10 rfl rfl)
theorem dX0_same_197 : decode cX0_same 197 = .ok (.iconst 1, 1) := dk_4 (dk_at dksX0_same_8 13 rfl rfl)
theorem dX0_same_198 : decode cX0_same 198 = .ok (.goto 4, 3) := dk_167 0 4 (dk_at dksX0_same_8 14 rfl rfl)
theorem dX0_same_201 : decode cX0_same 201 = .ok (.iconst 0, 1) := dk_3 (dk_at dksX0_same_8 17 rfl rfl)
theorem dX0_same_202 : decode cX0_same 202 = .ok (.istore 4, 2) := dk_54 4 (dk_at dksX0_same_8 18 rfl rfl)
theorem dX0_same_204 : decode cX0_same 204 = .ok (.iinc 5 1, 3) := dk_132 5 1 (dk_at dksX0_same_8 20 rfl rfl)
theorem dX0_same_207 : decode cX0_same 207 = .ok (.goto (-50), 3) := dk_167 255 206 (dk_at dksX0_same_9 0 rfl rfl)
theorem dX0_same_210 : decode cX0_same 210 = .ok (.iconst 0, 1) := dk_3 (dk_at dksX0_same_9 3 rfl rfl)
theorem dX0_same_211 : decode cX0_same 211 = .ok (.istore 5, 2) := dk_54 5 (dk_at dksX0_same_9 4 rfl rfl)
theorem dX0_same_213 : decode cX0_same 213 = .ok (.iload 5, 2) := dk_21 5 (dk_at dksX0_same_9 6 rfl rfl)
theorem dX0_same_215 : decode cX0_same 215 = .ok (.aload_n 0, 1) := dk_42 (dk_at dksX0_same_9 8 rfl rfl)
theorem dX0_same_216 : decode cX0_same 216 = .ok (.getfield 77, 3) := dk_180 0 77 (dk_at dksX0_same_9 9 rfl rfl)
theorem dX0_same_219 : decode cX0_same 219 = .ok (.getfield 207, 3) := dk_180 0 207 (dk_at dksX0_same_9 12 rfl rfl)
theorem dX0_same_222 : decode cX0_same 222 = .ok (.if_icmp .ge 65, 3) := dk_162 0 65 (dk_at dksX0_same_9 15 rfl rfl)
theorem dX0_same_225 : decode cX0_same 225 = .ok (.iload 4, 2) := dk_21 4 (dk_at dksX0_same_9 18 rfl rfl)
theorem dX0_same_227 : decode cX0_same 227 = .ok (.ifCond .eq 60, 3) := dk_153 0 60 (dk_at dksX0_same_9 20 rfl rfl)
theorem dX0_same_230 : decode cX0_same 230 = .ok (.iconst 0, 1) := dk_3 (dk_at dksX0_same_9 23 rfl rfl)
theorem dX0_same_231 : decode cX0_same 231 = .ok (.istore 6, 2) := dk_54 6 (dk_at dksX0_same_10 0 rfl rfl)
theorem dX0_same_233 : decode cX0_same 233 = .ok (.iload 6, 2) := dk_21 6 (dk_at dksX0_same_10 2 rfl rfl)
theorem dX0_same_235 : decode cX0_same 235 = .ok (.bipush 6, 2) := dk_16 6 (dk_at dksX0_same_10 4 rfl rfl)
theorem dX0_same_237 : decode cX0_same 237 = .ok (.if_icmp .ge 44, 3) := dk_162 0 44 (dk_at dksX0_same_10 6 rfl rfl)
theorem dX0_same_240 : decode cX0_same 240 = .ok (.iload 4, 2) := dk_21 4 (dk_at dksX0_same_10 9 rfl rfl)
theorem dX0_same_242 : decode cX0_same 242 = .ok (.aload_n 0, 1) := dk_42 (dk_at dksX0_same_10 11 rfl rfl)
theorem dX0_same_243 : decode cX0_same 243 = .ok (.getfield 77, 3) := dk_180 0 77 (dk_at dksX0_same_10 12 rfl rfl)
theorem dX0_same_246 : decode cX0_same 246 = .ok (.iload 5, 2) := dk_21 5 (dk_at dksX0_same_10 15 rfl rfl)
theorem dX0_same_248 : decode cX0_same 248 = .ok (.iload 6, 2) := dk_21 6 (dk_at dksX0_same_10 17 rfl rfl)
theorem dX0_same_250 : decode cX0_same 250 = .ok (.invokestatic 228, 3) := dk_184 0 228 (dk_at dksX0_same_10 19 rfl rfl)
theorem dX0_same_253 : decode cX0_same 253 = .ok (.aload_n 0, 1) := dk_42 (dk_at dksX0_same_10 22 rfl rfl)
theorem dX0_same_254 : decode cX0_same 254 = .ok (.getfield 80, 3) := dk_180 0 80 (dk_at dksX0_same_11 0 rfl rfl)
theorem dX0_same_257 : decode cX0_same 257 = .ok (.iload 5, 2) := dk_21 5 (dk_at dksX0_same_11 3 rfl rfl)
theorem dX0_same_259 : decode cX0_same 259 = .ok (.iload 6, 2) := dk_21 6 (dk_at dksX0_same_11 5 rfl rfl)
theorem dX0_same_261 : decode cX0_same 261 = .ok (.invokestatic 228, 3) := dk_184 0 228 (dk_at dksX0_same_11 7 rfl rfl)
theorem dX0_same_264 : decode cX0_same 264 = .ok (.if_icmp .ne 7, 3) := dk_160 0 7 (dk_at dksX0_same_11 10 rfl rfl)
theorem dX0_same_267 : decode cX0_same 267 = .ok (.iconst 1, 1) := dk_4 (dk_at dksX0_same_11 13 rfl rfl)
theorem dX0_same_268 : decode cX0_same 268 = .ok (.goto 4, 3) := dk_167 0 4 (dk_at dksX0_same_11 14 rfl rfl)
theorem dX0_same_271 : decode cX0_same 271 = .ok (.iconst 0, 1) := dk_3 (dk_at dksX0_same_11 17 rfl rfl)
theorem dX0_same_272 : decode cX0_same 272 = .ok (.iand, 1) := dk_126 (dk_at dksX0_same_11 18 rfl rfl)
theorem dX0_same_273 : decode cX0_same 273 = .ok (.istore 4, 2) := dk_54 4 (dk_at dksX0_same_11 19 rfl rfl)
theorem dX0_same_275 : decode cX0_same 275 = .ok (.iinc 6 1, 3) := dk_132 6 1 (dk_at dksX0_same_11 21 rfl rfl)
theorem dX0_same_278 : decode cX0_same 278 = .ok (.goto (-45), 3) := dk_167 255 211 (dk_at dksX0_same_12 0 rfl rfl)
theorem dX0_same_281 : decode cX0_same 281 = .ok (.iinc 5 1, 3) := dk_132 5 1 (dk_at dksX0_same_12 3 rfl rfl)
theorem dX0_same_284 : decode cX0_same 284 = .ok (.goto (-71), 3) := dk_167 255 185 (dk_at dksX0_same_12 6 rfl rfl)
theorem dX0_same_287 : decode cX0_same 287 = .ok (.iconst 0, 1) := dk_3 (dk_at dksX0_same_12 9 rfl rfl)
theorem dX0_same_288 : decode cX0_same 288 = .ok (.istore 5, 2) := dk_54 5 (dk_at dksX0_same_12 10 rfl rfl)
theorem dX0_same_290 : decode cX0_same 290 = .ok (.iload 5, 2) := dk_21 5 (dk_at dksX0_same_12 12 rfl rfl)
theorem dX0_same_292 : decode cX0_same 292 = .ok (.bipush 80, 2) := dk_16 80 (dk_at dksX0_same_12 14 rfl rfl)
theorem dX0_same_294 : decode cX0_same 294 = .ok (.if_icmp .ge 44, 3) := dk_162 0 44 (dk_at dksX0_same_12 16 rfl rfl)
theorem dX0_same_297 : decode cX0_same 297 = .ok (.iload 4, 2) := dk_21 4 (dk_at dksX0_same_12 19 rfl rfl)
theorem dX0_same_299 : decode cX0_same 299 = .ok (.ifCond .eq 39, 3) := dk_153 0 39 (dk_at dksX0_same_12 21 rfl rfl)
theorem dX0_same_302 : decode cX0_same 302 = .ok (.aload_n 0, 1) := dk_42 (dk_at dksX0_same_13 0 rfl rfl)
theorem dX0_same_303 : decode cX0_same 303 = .ok (.getfield 77, 3) := dk_180 0 77 (dk_at dksX0_same_13 1 rfl rfl)
theorem dX0_same_306 : decode cX0_same 306 = .ok (.getfield 257, 3) := dk_180 1 1 (dk_at dksX0_same_13 4 rfl rfl)
theorem dX0_same_309 : decode cX0_same 309 = .ok (.iload 5, 2) := dk_21 5 (dk_at dksX0_same_13 7 rfl rfl)
theorem dX0_same_311 : decode cX0_same 311 = .ok (.iaload, 1) := dk_46 (dk_at dksX0_same_13 9 rfl rfl)
theorem dX0_same_312 : decode cX0_same 312 = .ok (.aload_n 0, 1) := dk_42 (dk_at dksX0_same_13 10 rfl rfl)
theorem dX0_same_313 : decode cX0_same 313 = .ok (.getfield 80, 3) := dk_180 0 80 (dk_at dksX0_same_13 11 rfl rfl)
theorem dX0_same_316 : decode cX0_same 316 = .ok (.getfield 257, 3) := dk_180 1 1 (dk_at dksX0_same_13 14 rfl rfl)
theorem dX0_same_319 : decode cX0_same 319 = .ok (.iload 5, 2) := dk_21 5 (dk_at dksX0_same_13 17 rfl rfl)
theorem dX0_same_321 : decode cX0_same 321 = .ok (.iaload, 1) := dk_46 (dk_at dksX0_same_13 19 rfl rfl)
theorem dX0_same_322 : decode cX0_same 322 = .ok (.if_icmp .ne 7, 3) := dk_160 0 7 (dk_at dksX0_same_13 20 rfl rfl)
theorem dX0_same_325 : decode cX0_same 325 = .ok (.iconst 1, 1) := dk_4 (dk_at dksX0_same_13 23 rfl rfl)
theorem dX0_same_326 : decode cX0_same 326 = .ok (.goto 4, 3) := dk_167 0 4 (dk_at dksX0_same_14 0 rfl rfl)
theorem dX0_same_329 : decode cX0_same 329 = .ok (.iconst 0, 1) := dk_3 (dk_at dksX0_same_14 3 rfl rfl)
theorem dX0_same_330 : decode cX0_same 330 = .ok (.istore 4, 2) := dk_54 4 (dk_at dksX0_same_14 4 rfl rfl)
theorem dX0_same_332 : decode cX0_same 332 = .ok (.iinc 5 1, 3) := dk_132 5 1 (dk_at dksX0_same_14 6 rfl rfl)
theorem dX0_same_335 : decode cX0_same 335 = .ok (.goto (-45), 3) := dk_167 255 211 (dk_at dksX0_same_14 9 rfl rfl)
theorem dX0_same_338 : decode cX0_same 338 = .ok (.iload 4, 2) := dk_21 4 (dk_at dksX0_same_14 12 rfl rfl)
theorem dX0_same_340 : decode cX0_same 340 = .ok (.ifCond .eq 7, 3) := dk_153 0 7 (dk_at dksX0_same_14 14 rfl rfl)
theorem dX0_same_343 : decode cX0_same 343 = .ok (.iconst 1, 1) := dk_4 (dk_at dksX0_same_14 17 rfl rfl)
theorem dX0_same_344 : decode cX0_same 344 = .ok (.goto 4, 3) := dk_167 0 4 (dk_at dksX0_same_14 18 rfl rfl)
theorem dX0_same_347 : decode cX0_same 347 = .ok (.iconst 0, 1) := dk_3 (dk_at dksX0_same_14 21 rfl rfl)
theorem dX0_same_348 : decode cX0_same 348 = .ok (.ireturn, 1) := dk_172 (dk_at dksX0_same_14 22 rfl rfl)
theorem okX0_same_0 : XOkL xms rX0_same bX0_same_0 := xcP (xok_aload_n dX0_same_0 rfl) rfl (xcP (xok_iload_n dX0_same_1 rfl) rfl (xcC0 (xokc_list (List.forall_mem_cons.mpr ⟨xokc_V (r := (RX0, TX0, 10)) xm12 (List.mem_of_getElem? (i := 0) rfl) (by decide) rfl dX0_same_2 q1541 q1543 qs42 q138 q1544 (by decide +kernel), fun _ h => nomatch h⟩)) rfl (xcP (xok_ifne dX0_same_5 (by decide)) rfl (xcP (xok_iconst dX0_same_8 rfl) rfl (xcR ⟨dX0_same_9, rfl⟩)))))
theorem okX0_same_10 : XOkL xms rX0_same bX0_same_10 := xcP (xok_aload_n dX0_same_10 rfl) rfl (xcP (xok_aload_n dX0_same_11 rfl) rfl (xcP (xok_getfield (ref := "WaysAtlas") (Or.inr ⟨rfl, by decide⟩) dX0_same_12 (Or.inl ⟨q653, (Or.inl rfl)⟩) xh1008) rfl (xcP (xok_iconst dX0_same_15 rfl) rfl (xcP (xok_aload_n dX0_same_16 rfl) rfl (xcP (xok_getfield (ref := "WaysAtlas") (Or.inr ⟨rfl, by decide⟩) dX0_same_17 (Or.inl ⟨q649, (Or.inl rfl)⟩) xh1004) rfl (xcP (xok_iload_n dX0_same_20 rfl) rfl (xcP (xok_iload_n dX0_same_21 rfl) rfl (xcP (xok_iload_n dX0_same_22 rfl) rfl (xcP (xok_sipush dX0_same_23 rfl) rfl (xcC0 (xokc_list (List.forall_mem_cons.mpr ⟨xokc_V (r := (RX0, TX0, 10)) xm13 (List.mem_of_getElem? (i := 0) rfl) (by decide) rfl dX0_same_26 q1545 q1547 qs43 q138 q1548 (by decide +kernel), fun _ h => nomatch h⟩)) rfl (xcP (xok_aload_n dX0_same_29 rfl) rfl (xcP (xok_aload_n dX0_same_30 rfl) rfl (xcP (xok_getfield (ref := "WaysAtlas") (Or.inr ⟨rfl, by decide⟩) dX0_same_31 (Or.inl ⟨q654, (Or.inl rfl)⟩) xh1009) rfl (xcP (xok_iconst dX0_same_34 rfl) rfl (xcP (xok_aload_n dX0_same_35 rfl) rfl (xcP (xok_getfield (ref := "WaysAtlas") (Or.inr ⟨rfl, by decide⟩) dX0_same_36 (Or.inl ⟨q649, (Or.inl rfl)⟩) xh1004) rfl (xcP (xok_iload_n dX0_same_39 rfl) rfl (xcP (xok_iload_n dX0_same_40 rfl) rfl (xcP (xok_iload_n dX0_same_41 rfl) rfl (xcP (xok_sipush dX0_same_42 rfl) rfl (xcC0 (xokc_list (List.forall_mem_cons.mpr ⟨xokc_V (r := (RX0, TX0, 10)) xm13 (List.mem_of_getElem? (i := 0) rfl) (by decide) rfl dX0_same_45 q1545 q1547 qs43 q138 q1548 (by decide +kernel), fun _ h => nomatch h⟩)) rfl (xcP (xok_iconst dX0_same_48 rfl) rfl (xcP (xok_istore dX0_same_49) rfl (xcP (xok_iconst dX0_same_51 rfl) rfl (xcP (xok_istore dX0_same_52) rfl (xcP xok_fal rfl trivial))))))))))))))))))))))))))
theorem okX0_same_54 : XOkL xms rX0_same bX0_same_54 := xcP (xok_iload dX0_same_54) rfl (xcP (xok_bipush dX0_same_56 rfl) rfl (xcP (xok_icmpge dX0_same_58 (by decide)) rfl (xcP (xok_iload dX0_same_61) rfl (xcP (xok_aload_n dX0_same_63 rfl) rfl (xcP (xok_getfield (ref := "WaysAtlas") (Or.inr ⟨rfl, by decide⟩) dX0_same_64 (Or.inl ⟨q653, (Or.inl rfl)⟩) xh1008) rfl (xcP (xok_iload dX0_same_67) rfl (xcC0 (xokc_S xm17 rfl dX0_same_69 q1831 q1832 q138 q1833 (by decide +kernel)) rfl (xcP (xok_aload_n dX0_same_72 rfl) rfl (xcP (xok_getfield (ref := "WaysAtlas") (Or.inr ⟨rfl, by decide⟩) dX0_same_73 (Or.inl ⟨q654, (Or.inl rfl)⟩) xh1009) rfl (xcP (xok_iload dX0_same_76) rfl (xcC0 (xokc_S xm17 rfl dX0_same_78 q1831 q1832 q138 q1833 (by decide +kernel)) rfl (xcP (xok_icmpne dX0_same_81 (by decide)) rfl (xcP (xok_iconst dX0_same_84 rfl) rfl (xcP (xok_goto dX0_same_85 (by decide)) rfl trivial))))))))))))))
theorem okX0_same_88 : XOkL xms rX0_same bX0_same_88 := xcP (xok_iconst dX0_same_88 rfl) rfl (xcP xok_fal rfl trivial)
theorem okX0_same_89 : XOkL xms rX0_same bX0_same_89 := xcP (xok_iand dX0_same_89) rfl (xcP (xok_istore dX0_same_90) rfl (xcP (xok_iinc dX0_same_92 rfl) rfl (xcP (xok_goto dX0_same_95 (by decide)) rfl trivial)))
theorem okX0_same_98 : XOkL xms rX0_same bX0_same_98 := xcP (xok_iconst dX0_same_98 rfl) rfl (xcP (xok_istore dX0_same_99) rfl (xcP xok_fal rfl trivial))
theorem okX0_same_101 : XOkL xms rX0_same bX0_same_101 := xcP (xok_iload dX0_same_101) rfl (xcP (xok_aload_n dX0_same_103 rfl) rfl (xcP (xok_getfield (ref := "WaysAtlas") (Or.inr ⟨rfl, by decide⟩) dX0_same_104 (Or.inl ⟨q653, (Or.inl rfl)⟩) xh1008) rfl (xcP (xok_getfield (ref := "WaysAtlas$Run") (Or.inl ⟨rfl, by decide⟩) dX0_same_107 (Or.inr ⟨⟨"WaysAtlas", (List.mem_of_getElem? (i := 109) rfl)⟩, (Or.inl rfl)⟩) xh21) rfl (xcP (xok_icmpge dX0_same_110 (by decide)) rfl (xcP (xok_iload dX0_same_113) rfl (xcP (xok_ifeq dX0_same_115 (by decide)) rfl (xcP (xok_aload_n dX0_same_118 rfl) rfl (xcP (xok_getfield (ref := "WaysAtlas") (Or.inr ⟨rfl, by decide⟩) dX0_same_119 (Or.inl ⟨q653, (Or.inl rfl)⟩) xh1008) rfl (xcP (xok_getfield (ref := "WaysAtlas$Run") (Or.inr ⟨rfl, by decide⟩) dX0_same_122 (Or.inr ⟨⟨"WaysAtlas", (List.mem_of_getElem? (i := 116) rfl)⟩, (Or.inl rfl)⟩) xh1032) rfl (xcP (xok_iload dX0_same_125) rfl (xcP (xok_iaload dX0_same_127) rfl (xcP (xok_aload_n dX0_same_128 rfl) rfl (xcP (xok_getfield (ref := "WaysAtlas") (Or.inr ⟨rfl, by decide⟩) dX0_same_129 (Or.inl ⟨q654, (Or.inl rfl)⟩) xh1009) rfl (xcP (xok_getfield (ref := "WaysAtlas$Run") (Or.inr ⟨rfl, by decide⟩) dX0_same_132 (Or.inr ⟨⟨"WaysAtlas", (List.mem_of_getElem? (i := 116) rfl)⟩, (Or.inl rfl)⟩) xh1032) rfl (xcP (xok_iload dX0_same_135) rfl (xcP (xok_iaload dX0_same_137) rfl (xcP (xok_icmpne dX0_same_138 (by decide)) rfl (xcP (xok_iconst dX0_same_141 rfl) rfl (xcP (xok_goto dX0_same_142 (by decide)) rfl trivial)))))))))))))))))))
theorem okX0_same_145 : XOkL xms rX0_same bX0_same_145 := xcP (xok_iconst dX0_same_145 rfl) rfl (xcP xok_fal rfl trivial)
theorem okX0_same_146 : XOkL xms rX0_same bX0_same_146 := xcP (xok_istore dX0_same_146) rfl (xcP (xok_iinc dX0_same_148 rfl) rfl (xcP (xok_goto dX0_same_151 (by decide)) rfl trivial))
theorem okX0_same_154 : XOkL xms rX0_same bX0_same_154 := xcP (xok_iconst dX0_same_154 rfl) rfl (xcP (xok_istore dX0_same_155) rfl (xcP xok_fal rfl trivial))
theorem okX0_same_157 : XOkL xms rX0_same bX0_same_157 := xcP (xok_iload dX0_same_157) rfl (xcP (xok_aload_n dX0_same_159 rfl) rfl (xcP (xok_getfield (ref := "WaysAtlas") (Or.inr ⟨rfl, by decide⟩) dX0_same_160 (Or.inl ⟨q653, (Or.inl rfl)⟩) xh1008) rfl (xcP (xok_getfield (ref := "WaysAtlas$Run") (Or.inl ⟨rfl, by decide⟩) dX0_same_163 (Or.inr ⟨⟨"WaysAtlas", (List.mem_of_getElem? (i := 112) rfl)⟩, (Or.inl rfl)⟩) xh24) rfl (xcP (xok_icmpge dX0_same_166 (by decide)) rfl (xcP (xok_iload dX0_same_169) rfl (xcP (xok_ifeq dX0_same_171 (by decide)) rfl (xcP (xok_aload_n dX0_same_174 rfl) rfl (xcP (xok_getfield (ref := "WaysAtlas") (Or.inr ⟨rfl, by decide⟩) dX0_same_175 (Or.inl ⟨q653, (Or.inl rfl)⟩) xh1008) rfl (xcP (xok_getfield (ref := "WaysAtlas$Run") (Or.inr ⟨rfl, by decide⟩) dX0_same_178 (Or.inr ⟨⟨"WaysAtlas", (List.mem_of_getElem? (i := 124) rfl)⟩, (Or.inl rfl)⟩) xh1040) rfl (xcP (xok_iload dX0_same_181) rfl (xcP (xok_iaload dX0_same_183) rfl (xcP (xok_aload_n dX0_same_184 rfl) rfl (xcP (xok_getfield (ref := "WaysAtlas") (Or.inr ⟨rfl, by decide⟩) dX0_same_185 (Or.inl ⟨q654, (Or.inl rfl)⟩) xh1009) rfl (xcP (xok_getfield (ref := "WaysAtlas$Run") (Or.inr ⟨rfl, by decide⟩) dX0_same_188 (Or.inr ⟨⟨"WaysAtlas", (List.mem_of_getElem? (i := 124) rfl)⟩, (Or.inl rfl)⟩) xh1040) rfl (xcP (xok_iload dX0_same_191) rfl (xcP (xok_iaload dX0_same_193) rfl (xcP (xok_icmpne dX0_same_194 (by decide)) rfl (xcP (xok_iconst dX0_same_197 rfl) rfl (xcP (xok_goto dX0_same_198 (by decide)) rfl trivial)))))))))))))))))))
theorem okX0_same_201 : XOkL xms rX0_same bX0_same_201 := xcP (xok_iconst dX0_same_201 rfl) rfl (xcP xok_fal rfl trivial)
theorem okX0_same_202 : XOkL xms rX0_same bX0_same_202 := xcP (xok_istore dX0_same_202) rfl (xcP (xok_iinc dX0_same_204 rfl) rfl (xcP (xok_goto dX0_same_207 (by decide)) rfl trivial))
theorem okX0_same_210 : XOkL xms rX0_same bX0_same_210 := xcP (xok_iconst dX0_same_210 rfl) rfl (xcP (xok_istore dX0_same_211) rfl (xcP xok_fal rfl trivial))
theorem okX0_same_213 : XOkL xms rX0_same bX0_same_213 := xcP (xok_iload dX0_same_213) rfl (xcP (xok_aload_n dX0_same_215 rfl) rfl (xcP (xok_getfield (ref := "WaysAtlas") (Or.inr ⟨rfl, by decide⟩) dX0_same_216 (Or.inl ⟨q653, (Or.inl rfl)⟩) xh1008) rfl (xcP (xok_getfield (ref := "WaysAtlas$Run") (Or.inl ⟨rfl, by decide⟩) dX0_same_219 (Or.inr ⟨⟨"WaysAtlas", (List.mem_of_getElem? (i := 110) rfl)⟩, (Or.inl rfl)⟩) xh22) rfl (xcP (xok_icmpge dX0_same_222 (by decide)) rfl (xcP (xok_iload dX0_same_225) rfl (xcP (xok_ifeq dX0_same_227 (by decide)) rfl (xcP (xok_iconst dX0_same_230 rfl) rfl (xcP (xok_istore dX0_same_231) rfl (xcP xok_fal rfl trivial)))))))))
theorem okX0_same_233 : XOkL xms rX0_same bX0_same_233 := xcP (xok_iload dX0_same_233) rfl (xcP (xok_bipush dX0_same_235 rfl) rfl (xcP (xok_icmpge dX0_same_237 (by decide)) rfl (xcP (xok_iload dX0_same_240) rfl (xcP (xok_aload_n dX0_same_242 rfl) rfl (xcP (xok_getfield (ref := "WaysAtlas") (Or.inr ⟨rfl, by decide⟩) dX0_same_243 (Or.inl ⟨q653, (Or.inl rfl)⟩) xh1008) rfl (xcP (xok_iload dX0_same_246) rfl (xcP (xok_iload dX0_same_248) rfl (xcC0 (xokc_S xm20 rfl dX0_same_250 q1842 q1843 q138 q1844 (by decide +kernel)) rfl (xcP (xok_aload_n dX0_same_253 rfl) rfl (xcP (xok_getfield (ref := "WaysAtlas") (Or.inr ⟨rfl, by decide⟩) dX0_same_254 (Or.inl ⟨q654, (Or.inl rfl)⟩) xh1009) rfl (xcP (xok_iload dX0_same_257) rfl (xcP (xok_iload dX0_same_259) rfl (xcC0 (xokc_S xm20 rfl dX0_same_261 q1842 q1843 q138 q1844 (by decide +kernel)) rfl (xcP (xok_icmpne dX0_same_264 (by decide)) rfl (xcP (xok_iconst dX0_same_267 rfl) rfl (xcP (xok_goto dX0_same_268 (by decide)) rfl trivial))))))))))))))))
theorem okX0_same_271 : XOkL xms rX0_same bX0_same_271 := xcP (xok_iconst dX0_same_271 rfl) rfl (xcP xok_fal rfl trivial)
theorem okX0_same_272 : XOkL xms rX0_same bX0_same_272 := xcP (xok_iand dX0_same_272) rfl (xcP (xok_istore dX0_same_273) rfl (xcP (xok_iinc dX0_same_275 rfl) rfl (xcP (xok_goto dX0_same_278 (by decide)) rfl trivial)))
theorem okX0_same_281 : XOkL xms rX0_same bX0_same_281 := xcP (xok_iinc dX0_same_281 rfl) rfl (xcP (xok_goto dX0_same_284 (by decide)) rfl trivial)
theorem okX0_same_287 : XOkL xms rX0_same bX0_same_287 := xcP (xok_iconst dX0_same_287 rfl) rfl (xcP (xok_istore dX0_same_288) rfl (xcP xok_fal rfl trivial))
theorem okX0_same_290 : XOkL xms rX0_same bX0_same_290 := xcP (xok_iload dX0_same_290) rfl (xcP (xok_bipush dX0_same_292 rfl) rfl (xcP (xok_icmpge dX0_same_294 (by decide)) rfl (xcP (xok_iload dX0_same_297) rfl (xcP (xok_ifeq dX0_same_299 (by decide)) rfl (xcP (xok_aload_n dX0_same_302 rfl) rfl (xcP (xok_getfield (ref := "WaysAtlas") (Or.inr ⟨rfl, by decide⟩) dX0_same_303 (Or.inl ⟨q653, (Or.inl rfl)⟩) xh1008) rfl (xcP (xok_getfield (ref := "WaysAtlas$Run") (Or.inr ⟨rfl, by decide⟩) dX0_same_306 (Or.inr ⟨⟨"WaysAtlas", (List.mem_of_getElem? (i := 125) rfl)⟩, (Or.inl rfl)⟩) xh1041) rfl (xcP (xok_iload dX0_same_309) rfl (xcP (xok_iaload dX0_same_311) rfl (xcP (xok_aload_n dX0_same_312 rfl) rfl (xcP (xok_getfield (ref := "WaysAtlas") (Or.inr ⟨rfl, by decide⟩) dX0_same_313 (Or.inl ⟨q654, (Or.inl rfl)⟩) xh1009) rfl (xcP (xok_getfield (ref := "WaysAtlas$Run") (Or.inr ⟨rfl, by decide⟩) dX0_same_316 (Or.inr ⟨⟨"WaysAtlas", (List.mem_of_getElem? (i := 125) rfl)⟩, (Or.inl rfl)⟩) xh1041) rfl (xcP (xok_iload dX0_same_319) rfl (xcP (xok_iaload dX0_same_321) rfl (xcP (xok_icmpne dX0_same_322 (by decide)) rfl (xcP (xok_iconst dX0_same_325 rfl) rfl (xcP (xok_goto dX0_same_326 (by decide)) rfl trivial)))))))))))))))))
theorem okX0_same_329 : XOkL xms rX0_same bX0_same_329 := xcP (xok_iconst dX0_same_329 rfl) rfl (xcP xok_fal rfl trivial)
theorem okX0_same_330 : XOkL xms rX0_same bX0_same_330 := xcP (xok_istore dX0_same_330) rfl (xcP (xok_iinc dX0_same_332 rfl) rfl (xcP (xok_goto dX0_same_335 (by decide)) rfl trivial))
theorem okX0_same_338 : XOkL xms rX0_same bX0_same_338 := xcP (xok_iload dX0_same_338) rfl (xcP (xok_ifeq dX0_same_340 (by decide)) rfl (xcP (xok_iconst dX0_same_343 rfl) rfl (xcP (xok_goto dX0_same_344 (by decide)) rfl trivial)))
theorem okX0_same_347 : XOkL xms rX0_same bX0_same_347 := xcP (xok_iconst dX0_same_347 rfl) rfl (xcP xok_fal rfl trivial)
theorem okX0_same_348 : XOkL xms rX0_same bX0_same_348 := xcR ⟨dX0_same_348, rfl⟩
theorem okM_X0_same : XOkM xms rX0_same := xokM0 (List.forall_mem_cons.mpr ⟨⟨rfl, okX0_same_0⟩, List.forall_mem_cons.mpr ⟨⟨rfl, okX0_same_10⟩, List.forall_mem_cons.mpr ⟨⟨rfl, okX0_same_54⟩, List.forall_mem_cons.mpr ⟨⟨rfl, okX0_same_88⟩, List.forall_mem_cons.mpr ⟨⟨rfl, okX0_same_89⟩, List.forall_mem_cons.mpr ⟨⟨rfl, okX0_same_98⟩, List.forall_mem_cons.mpr ⟨⟨rfl, okX0_same_101⟩, List.forall_mem_cons.mpr ⟨⟨rfl, okX0_same_145⟩, List.forall_mem_cons.mpr ⟨⟨rfl, okX0_same_146⟩, List.forall_mem_cons.mpr ⟨⟨rfl, okX0_same_154⟩, List.forall_mem_cons.mpr ⟨⟨rfl, okX0_same_157⟩, List.forall_mem_cons.mpr ⟨⟨rfl, okX0_same_201⟩, List.forall_mem_cons.mpr ⟨⟨rfl, okX0_same_202⟩, List.forall_mem_cons.mpr ⟨⟨rfl, okX0_same_210⟩, List.forall_mem_cons.mpr ⟨⟨rfl, okX0_same_213⟩, List.forall_mem_cons.mpr ⟨⟨rfl, okX0_same_233⟩, List.forall_mem_cons.mpr ⟨⟨rfl, okX0_same_271⟩, List.forall_mem_cons.mpr ⟨⟨rfl, okX0_same_272⟩, List.forall_mem_cons.mpr ⟨⟨rfl, okX0_same_281⟩, List.forall_mem_cons.mpr ⟨⟨rfl, okX0_same_287⟩, List.forall_mem_cons.mpr ⟨⟨rfl, okX0_same_290⟩, List.forall_mem_cons.mpr ⟨⟨rfl, okX0_same_329⟩, List.forall_mem_cons.mpr ⟨⟨rfl, okX0_same_330⟩, List.forall_mem_cons.mpr ⟨⟨rfl, okX0_same_338⟩, List.forall_mem_cons.mpr ⟨⟨rfl, okX0_same_347⟩, List.forall_mem_cons.mpr ⟨⟨rfl, okX0_same_348⟩, fun _ h => nomatch h⟩⟩⟩⟩⟩⟩⟩⟩⟩⟩⟩⟩⟩⟩⟩⟩⟩⟩⟩⟩⟩⟩⟩⟩⟩⟩) (xokH0 rfl (fun _ _ => rfl)) (by decide +kernel) (by decide)
abbrev cX1_init : ByteArray := prog_25_method_1_code
def dkwX1_init_1 : List UInt8 := [17, 3, 233, 188, 10, 181, 0, 19, 42, 17, 3, 233, 188, 10, 181, 0, 22, 177]
abbrev dktX1_init_1 : List UInt8 := dkwX1_init_1 ++ []
def dkwX1_init_0 : List UInt8 := [42, 183, 0, 3, 42, 17, 3, 232, 188, 8, 181, 0, 9, 42, 17, 3, 233, 188, 10, 181, 0, 15, 42]
abbrev dktX1_init_0 : List UInt8 := dkwX1_init_0 ++ dktX1_init_1
theorem dksX1_init_0 : cX1_init.data.toList.drop 0 = dktX1_init_0 := by decide +kernel
theorem dksX1_init_1 : cX1_init.data.toList.drop 23 = dktX1_init_1 := dk_seg dksX1_init_0 23 rfl rfl
theorem dX1_init_0 : decode cX1_init 0 = .ok (.aload_n 0, 1) := dk_42 (dk_at dksX1_init_0 0 rfl rfl)
theorem dX1_init_1 : decode cX1_init 1 = .ok (.invokespecial 3, 3) := dk_183 0 3 (dk_at dksX1_init_0 1 rfl rfl)
theorem dX1_init_4 : decode cX1_init 4 = .ok (.aload_n 0, 1) := dk_42 (dk_at dksX1_init_0 4 rfl rfl)
theorem dX1_init_5 : decode cX1_init 5 = .ok (.sipush 1000, 3) := dk_17 3 232 (dk_at dksX1_init_0 5 rfl rfl)
theorem dX1_init_8 : decode cX1_init 8 = .ok (.newarray .byte, 2) := dk_188_8 (dk_at dksX1_init_0 8 rfl rfl)
theorem dX1_init_10 : decode cX1_init 10 = .ok (.putfield 9, 3) := dk_181 0 9 (dk_at dksX1_init_0 10 rfl rfl)
theorem dX1_init_13 : decode cX1_init 13 = .ok (.aload_n 0, 1) := dk_42 (dk_at dksX1_init_0 13 rfl rfl)
theorem dX1_init_14 : decode cX1_init 14 = .ok (.sipush 1001, 3) := dk_17 3 233 (dk_at dksX1_init_0 14 rfl rfl)
theorem dX1_init_17 : decode cX1_init 17 = .ok (.newarray .int, 2) := dk_188_10 (dk_at dksX1_init_0 17 rfl rfl)
theorem dX1_init_19 : decode cX1_init 19 = .ok (.putfield 15, 3) := dk_181 0 15 (dk_at dksX1_init_0 19 rfl rfl)
theorem dX1_init_22 : decode cX1_init 22 = .ok (.aload_n 0, 1) := dk_42 (dk_at dksX1_init_0 22 rfl rfl)
theorem dX1_init_23 : decode cX1_init 23 = .ok (.sipush 1001, 3) := dk_17 3 233 (dk_at dksX1_init_1 0 rfl rfl)
theorem dX1_init_26 : decode cX1_init 26 = .ok (.newarray .int, 2) := dk_188_10 (dk_at dksX1_init_1 3 rfl rfl)
theorem dX1_init_28 : decode cX1_init 28 = .ok (.putfield 19, 3) := dk_181 0 19 (dk_at dksX1_init_1 5 rfl rfl)
theorem dX1_init_31 : decode cX1_init 31 = .ok (.aload_n 0, 1) := dk_42 (dk_at dksX1_init_1 8 rfl rfl)
theorem dX1_init_32 : decode cX1_init 32 = .ok (.sipush 1001, 3) := dk_17 3 233 (dk_at dksX1_init_1 9 rfl rfl)
theorem dX1_init_35 : decode cX1_init 35 = .ok (.newarray .int, 2) := dk_188_10 (dk_at dksX1_init_1 12 rfl rfl)
theorem dX1_init_37 : decode cX1_init 37 = .ok (.putfield 22, 3) := dk_181 0 22 (dk_at dksX1_init_1 14 rfl rfl)
theorem dX1_init_40 : decode cX1_init 40 = .ok (.return_, 1) := dk_177 (dk_at dksX1_init_1 17 rfl rfl)
theorem okX1_init_0 : XOkL xms rX1_init bX1_init_0 := xcP (xok_aload_n dX1_init_0 rfl) rfl (xcP (xok_objInit dX1_init_1 q193 q186 q187) rfl (xcP (xok_aload_n dX1_init_4 rfl) rfl (xcP (xok_sipush dX1_init_5 rfl) rfl (xcP (xok_newarray (atype := .byte) (by decide) rfl dX1_init_8 q221) rfl (xcP (xok_putfield (ref := "WaysAtlas$Scanner") (Or.inr (Or.inr ⟨rfl, by decide, rfl⟩)) dX1_init_10 (Or.inl ⟨q194, (Or.inl rfl)⟩) (Or.inr ⟨rfl, rfl, ⟨q194, (Or.inl rfl)⟩⟩) xh1010) rfl (xcP (xok_aload_n dX1_init_13 rfl) rfl (xcP (xok_sipush dX1_init_14 rfl) rfl (xcP (xok_newarray (atype := .int) (by decide) rfl dX1_init_17 q222) rfl (xcP (xok_putfield (ref := "WaysAtlas$Scanner") (Or.inr (Or.inr ⟨rfl, by decide, rfl⟩)) dX1_init_19 (Or.inl ⟨q198, (Or.inl rfl)⟩) (Or.inr ⟨rfl, rfl, ⟨q198, (Or.inl rfl)⟩⟩) xh1011) rfl (xcP (xok_aload_n dX1_init_22 rfl) rfl (xcP (xok_sipush dX1_init_23 rfl) rfl (xcP (xok_newarray (atype := .int) (by decide) rfl dX1_init_26 q222) rfl (xcP (xok_putfield (ref := "WaysAtlas$Scanner") (Or.inr (Or.inr ⟨rfl, by decide, rfl⟩)) dX1_init_28 (Or.inl ⟨q200, (Or.inl rfl)⟩) (Or.inr ⟨rfl, rfl, ⟨q200, (Or.inl rfl)⟩⟩) xh1012) rfl (xcP (xok_aload_n dX1_init_31 rfl) rfl (xcP (xok_sipush dX1_init_32 rfl) rfl (xcP (xok_newarray (atype := .int) (by decide) rfl dX1_init_35 q222) rfl (xcP (xok_putfield (ref := "WaysAtlas$Scanner") (Or.inr (Or.inr ⟨rfl, by decide, rfl⟩)) dX1_init_37 (Or.inl ⟨q202, (Or.inl rfl)⟩) (Or.inr ⟨rfl, rfl, ⟨q202, (Or.inl rfl)⟩⟩) xh1013) rfl (xcR ⟨dX1_init_40, rfl⟩))))))))))))))))))
theorem okM_X1_init : XOkM xms rX1_init := xokM0 (List.forall_mem_cons.mpr ⟨⟨rfl, okX1_init_0⟩, fun _ h => nomatch h⟩) (xokH0 rfl (fun _ _ => rfl)) (by decide +kernel) (by decide)
abbrev cX1_cut : ByteArray := prog_25_method_6_code
def dkwX1_cut_13 : List UInt8 := [167, 254, 218, 42, 3, 181, 0, 25, 177]
abbrev dktX1_cut_13 : List UInt8 := dkwX1_cut_13 ++ []
def dkwX1_cut_12 : List UInt8 := [181, 0, 32, 42, 180, 0, 15, 42, 180, 0, 29, 4, 100, 46, 4, 163, 0, 7, 4, 167, 0, 4, 3, 60]
abbrev dktX1_cut_12 : List UInt8 := dkwX1_cut_12 ++ dktX1_cut_13
def dkwX1_cut_11 : List UInt8 := [153, 0, 7, 28, 167, 0, 4, 4, 42, 180, 0, 32, 3, 182, 0, 39, 42, 89, 180, 0, 32, 4, 96]
abbrev dktX1_cut_11 : List UInt8 := dkwX1_cut_11 ++ dktX1_cut_12
def dkwX1_cut_10 : List UInt8 := [159, 0, 15, 28, 16, 44, 159, 0, 9, 28, 16, 59, 160, 0, 7, 4, 167, 0, 4, 3, 62, 42, 29]
abbrev dktX1_cut_10 : List UInt8 := dkwX1_cut_10 ++ dktX1_cut_11
def dkwX1_cut_9 : List UInt8 := [159, 0, 39, 28, 16, 125, 159, 0, 33, 28, 16, 61, 159, 0, 27, 28, 16, 60, 159, 0, 21, 28, 16, 62]
abbrev dktX1_cut_9 : List UInt8 := dkwX1_cut_9 ++ dktX1_cut_10
def dkwX1_cut_8 : List UInt8 := [159, 0, 63, 28, 16, 41, 159, 0, 57, 28, 16, 91, 159, 0, 51, 28, 16, 93, 159, 0, 45, 28, 16, 123]
abbrev dktX1_cut_8 : List UInt8 := dkwX1_cut_8 ++ dktX1_cut_9
def dkwX1_cut_7 : List UInt8 := [159, 0, 87, 28, 16, 42, 159, 0, 81, 28, 16, 47, 159, 0, 75, 28, 16, 37, 159, 0, 69, 28, 16, 40]
abbrev dktX1_cut_7 : List UInt8 := dkwX1_cut_7 ++ dktX1_cut_8
def dkwX1_cut_6 : List UInt8 := [4, 167, 0, 5, 16, 7, 29, 21, 4, 182, 0, 39, 167, 0, 133, 28, 16, 43, 159, 0, 93, 28, 16, 45]
abbrev dktX1_cut_6 : List UInt8 := dkwX1_cut_6 ++ dktX1_cut_7
def dkwX1_cut_5 : List UInt8 := [184, 0, 50, 153, 0, 36, 42, 180, 0, 32, 62, 42, 7, 182, 0, 53, 54, 4, 42, 21, 4, 156, 0, 7]
abbrev dktX1_cut_5 : List UInt8 := dkwX1_cut_5 ++ dktX1_cut_6
def dkwX1_cut_4 : List UInt8 := [3, 182, 0, 39, 167, 0, 187, 28, 184, 0, 43, 153, 0, 10, 42, 182, 0, 47, 167, 0, 173, 28]
abbrev dktX1_cut_4 : List UInt8 := dkwX1_cut_4 ++ dktX1_cut_5
def dkwX1_cut_3 : List UInt8 := [180, 0, 32, 182, 0, 35, 61, 42, 180, 0, 32, 42, 180, 0, 25, 160, 0, 16, 42, 3, 42, 180, 0, 32]
abbrev dktX1_cut_3 : List UInt8 := dkwX1_cut_3 ++ dktX1_cut_4
def dkwX1_cut_2 : List UInt8 := [180, 0, 32, 51, 16, 10, 160, 0, 16, 42, 89, 180, 0, 32, 4, 96, 181, 0, 32, 167, 255, 207, 42, 42]
abbrev dktX1_cut_2 : List UInt8 := dkwX1_cut_2 ++ dktX1_cut_3
def dkwX1_cut_1 : List UInt8 := [162, 0, 44, 42, 180, 0, 9, 42, 180, 0, 32, 51, 16, 32, 159, 0, 17, 42, 180, 0, 9, 42]
abbrev dktX1_cut_1 : List UInt8 := dkwX1_cut_1 ++ dktX1_cut_2
def dkwX1_cut_0 : List UInt8 := [42, 3, 181, 0, 29, 42, 3, 181, 0, 32, 3, 60, 27, 154, 1, 40, 42, 180, 0, 32, 42, 180, 0, 25]
abbrev dktX1_cut_0 : List UInt8 := dkwX1_cut_0 ++ dktX1_cut_1
theorem dksX1_cut_0 : cX1_cut.data.toList.drop 0 = dktX1_cut_0 := by decide +kernel
theorem dksX1_cut_1 : cX1_cut.data.toList.drop 24 = dktX1_cut_1 := dk_seg dksX1_cut_0 24 rfl rfl
theorem dksX1_cut_2 : cX1_cut.data.toList.drop 46 = dktX1_cut_2 := dk_seg dksX1_cut_1 22 rfl rfl
theorem dksX1_cut_3 : cX1_cut.data.toList.drop 70 = dktX1_cut_3 := dk_seg dksX1_cut_2 24 rfl rfl
theorem dksX1_cut_4 : cX1_cut.data.toList.drop 94 = dktX1_cut_4 := dk_seg dksX1_cut_3 24 rfl rfl
theorem dksX1_cut_5 : cX1_cut.data.toList.drop 116 = dktX1_cut_5 := dk_seg dksX1_cut_4 22 rfl rfl
theorem dksX1_cut_6 : cX1_cut.data.toList.drop 140 = dktX1_cut_6 := dk_seg dksX1_cut_5 24 rfl rfl
theorem dksX1_cut_7 : cX1_cut.data.toList.drop 164 = dktX1_cut_7 := dk_seg dksX1_cut_6 24 rfl rfl
theorem dksX1_cut_8 : cX1_cut.data.toList.drop 188 = dktX1_cut_8 := dk_seg dksX1_cut_7 24 rfl rfl
theorem dksX1_cut_9 : cX1_cut.data.toList.drop 212 = dktX1_cut_9 := dk_seg dksX1_cut_8 24 rfl rfl
theorem dksX1_cut_10 : cX1_cut.data.toList.drop 236 = dktX1_cut_10 := dk_seg dksX1_cut_9 24 rfl rfl
theorem dksX1_cut_11 : cX1_cut.data.toList.drop 259 = dktX1_cut_11 := dk_seg dksX1_cut_10 23 rfl rfl
theorem dksX1_cut_12 : cX1_cut.data.toList.drop 282 = dktX1_cut_12 := dk_seg dksX1_cut_11 23 rfl rfl
theorem dksX1_cut_13 : cX1_cut.data.toList.drop 306 = dktX1_cut_13 := dk_seg dksX1_cut_12 24 rfl rfl
theorem dX1_cut_0 : decode cX1_cut 0 = .ok (.aload_n 0, 1) := dk_42 (dk_at dksX1_cut_0 0 rfl rfl)
theorem dX1_cut_1 : decode cX1_cut 1 = .ok (.iconst 0, 1) := dk_3 (dk_at dksX1_cut_0 1 rfl rfl)
theorem dX1_cut_2 : decode cX1_cut 2 = .ok (.putfield 29, 3) := dk_181 0 29 (dk_at dksX1_cut_0 2 rfl rfl)
theorem dX1_cut_5 : decode cX1_cut 5 = .ok (.aload_n 0, 1) := dk_42 (dk_at dksX1_cut_0 5 rfl rfl)
theorem dX1_cut_6 : decode cX1_cut 6 = .ok (.iconst 0, 1) := dk_3 (dk_at dksX1_cut_0 6 rfl rfl)
theorem dX1_cut_7 : decode cX1_cut 7 = .ok (.putfield 32, 3) := dk_181 0 32 (dk_at dksX1_cut_0 7 rfl rfl)
theorem dX1_cut_10 : decode cX1_cut 10 = .ok (.iconst 0, 1) := dk_3 (dk_at dksX1_cut_0 10 rfl rfl)
theorem dX1_cut_11 : decode cX1_cut 11 = .ok (.istore_n 1, 1) := dk_60 (dk_at dksX1_cut_0 11 rfl rfl)
theorem dX1_cut_12 : decode cX1_cut 12 = .ok (.iload_n 1, 1) := dk_27 (dk_at dksX1_cut_0 12 rfl rfl)
theorem dX1_cut_13 : decode cX1_cut 13 = .ok (.ifCond .ne 296, 3) := dk_154 1 40 (dk_at dksX1_cut_0 13 rfl rfl)
theorem dX1_cut_16 : decode cX1_cut 16 = .ok (.aload_n 0, 1) := dk_42 (dk_at dksX1_cut_0 16 rfl rfl)
theorem dX1_cut_17 : decode cX1_cut 17 = .ok (.getfield 32, 3) := dk_180 0 32 (dk_at dksX1_cut_0 17 rfl rfl)
theorem dX1_cut_20 : decode cX1_cut 20 = .ok (.aload_n 0, 1) := dk_42 (dk_at dksX1_cut_0 20 rfl rfl)
theorem dX1_cut_21 : decode cX1_cut 21 = .ok (.getfield 25, 3) := dk_180 0 25 (dk_at dksX1_cut_0 21 rfl rfl)
theorem dX1_cut_24 : decode cX1_cut 24 = .ok (.if_icmp .ge 44, 3) := dk_162 0 44 (dk_at dksX1_cut_1 0 rfl rfl)
theorem dX1_cut_27 : decode cX1_cut 27 = .ok (.aload_n 0, 1) := dk_42 (dk_at dksX1_cut_1 3 rfl rfl)
theorem dX1_cut_28 : decode cX1_cut 28 = .ok (.getfield 9, 3) := dk_180 0 9 (dk_at dksX1_cut_1 4 rfl rfl)
theorem dX1_cut_31 : decode cX1_cut 31 = .ok (.aload_n 0, 1) := dk_42 (dk_at dksX1_cut_1 7 rfl rfl)
theorem dX1_cut_32 : decode cX1_cut 32 = .ok (.getfield 32, 3) := dk_180 0 32 (dk_at dksX1_cut_1 8 rfl rfl)
theorem dX1_cut_35 : decode cX1_cut 35 = .ok (.baload, 1) := dk_51 (dk_at dksX1_cut_1 11 rfl rfl)
theorem dX1_cut_36 : decode cX1_cut 36 = .ok (.bipush 32, 2) := dk_16 32 (dk_at dksX1_cut_1 12 rfl rfl)
theorem dX1_cut_38 : decode cX1_cut 38 = .ok (.if_icmp .eq 17, 3) := dk_159 0 17 (dk_at dksX1_cut_1 14 rfl rfl)
theorem dX1_cut_41 : decode cX1_cut 41 = .ok (.aload_n 0, 1) := dk_42 (dk_at dksX1_cut_1 17 rfl rfl)
theorem dX1_cut_42 : decode cX1_cut 42 = .ok (.getfield 9, 3) := dk_180 0 9 (dk_at dksX1_cut_1 18 rfl rfl)
theorem dX1_cut_45 : decode cX1_cut 45 = .ok (.aload_n 0, 1) := dk_42 (dk_at dksX1_cut_1 21 rfl rfl)
theorem dX1_cut_46 : decode cX1_cut 46 = .ok (.getfield 32, 3) := dk_180 0 32 (dk_at dksX1_cut_2 0 rfl rfl)
theorem dX1_cut_49 : decode cX1_cut 49 = .ok (.baload, 1) := dk_51 (dk_at dksX1_cut_2 3 rfl rfl)
theorem dX1_cut_50 : decode cX1_cut 50 = .ok (.bipush 10, 2) := dk_16 10 (dk_at dksX1_cut_2 4 rfl rfl)
theorem dX1_cut_52 : decode cX1_cut 52 = .ok (.if_icmp .ne 16, 3) := dk_160 0 16 (dk_at dksX1_cut_2 6 rfl rfl)
theorem dX1_cut_55 : decode cX1_cut 55 = .ok (.aload_n 0, 1) := dk_42 (dk_at dksX1_cut_2 9 rfl rfl)
theorem dX1_cut_56 : decode cX1_cut 56 = .ok (.dup, 1) := dk_89 (dk_at dksX1_cut_2 10 rfl rfl)
theorem dX1_cut_57 : decode cX1_cut 57 = .ok (.getfield 32, 3) := dk_180 0 32 (dk_at dksX1_cut_2 11 rfl rfl)
theorem dX1_cut_60 : decode cX1_cut 60 = .ok (.iconst 1, 1) := dk_4 (dk_at dksX1_cut_2 14 rfl rfl)
theorem dX1_cut_61 : decode cX1_cut 61 = .ok (.iadd, 1) := dk_96 (dk_at dksX1_cut_2 15 rfl rfl)
theorem dX1_cut_62 : decode cX1_cut 62 = .ok (.putfield 32, 3) := dk_181 0 32 (dk_at dksX1_cut_2 16 rfl rfl)
theorem dX1_cut_65 : decode cX1_cut 65 = .ok (.goto (-49), 3) := dk_167 255 207 (dk_at dksX1_cut_2 19 rfl rfl)
theorem dX1_cut_68 : decode cX1_cut 68 = .ok (.aload_n 0, 1) := dk_42 (dk_at dksX1_cut_2 22 rfl rfl)
theorem dX1_cut_69 : decode cX1_cut 69 = .ok (.aload_n 0, 1) := dk_42 (dk_at dksX1_cut_2 23 rfl rfl)
theorem dX1_cut_70 : decode cX1_cut 70 = .ok (.getfield 32, 3) := dk_180 0 32 (dk_at dksX1_cut_3 0 rfl rfl)
theorem dX1_cut_73 : decode cX1_cut 73 = .ok (.invokevirtual 35, 3) := dk_182 0 35 (dk_at dksX1_cut_3 3 rfl rfl)
theorem dX1_cut_76 : decode cX1_cut 76 = .ok (.istore_n 2, 1) := dk_61 (dk_at dksX1_cut_3 6 rfl rfl)
theorem dX1_cut_77 : decode cX1_cut 77 = .ok (.aload_n 0, 1) := dk_42 (dk_at dksX1_cut_3 7 rfl rfl)
theorem dX1_cut_78 : decode cX1_cut 78 = .ok (.getfield 32, 3) := dk_180 0 32 (dk_at dksX1_cut_3 8 rfl rfl)
theorem dX1_cut_81 : decode cX1_cut 81 = .ok (.aload_n 0, 1) := dk_42 (dk_at dksX1_cut_3 11 rfl rfl)
theorem dX1_cut_82 : decode cX1_cut 82 = .ok (.getfield 25, 3) := dk_180 0 25 (dk_at dksX1_cut_3 12 rfl rfl)
theorem dX1_cut_85 : decode cX1_cut 85 = .ok (.if_icmp .ne 16, 3) := dk_160 0 16 (dk_at dksX1_cut_3 15 rfl rfl)
theorem dX1_cut_88 : decode cX1_cut 88 = .ok (.aload_n 0, 1) := dk_42 (dk_at dksX1_cut_3 18 rfl rfl)
theorem dX1_cut_89 : decode cX1_cut 89 = .ok (.iconst 0, 1) := dk_3 (dk_at dksX1_cut_3 19 rfl rfl)
theorem dX1_cut_90 : decode cX1_cut 90 = .ok (.aload_n 0, 1) := dk_42 (dk_at dksX1_cut_3 20 rfl rfl)
theorem dX1_cut_91 : decode cX1_cut 91 = .ok (.getfield 32, 3) := dk_180 0 32 (dk_at dksX1_cut_3 21 rfl rfl)
theorem dX1_cut_94 : decode cX1_cut 94 = .ok (.iconst 0, 1) := dk_3 (dk_at dksX1_cut_4 0 rfl rfl)
theorem dX1_cut_95 : decode cX1_cut 95 = .ok (.invokevirtual 39, 3) := dk_182 0 39 (dk_at dksX1_cut_4 1 rfl rfl)
theorem dX1_cut_98 : decode cX1_cut 98 = .ok (.goto 187, 3) := dk_167 0 187 (dk_at dksX1_cut_4 4 rfl rfl)
theorem dX1_cut_101 : decode cX1_cut 101 = .ok (.iload_n 2, 1) := dk_28 (dk_at dksX1_cut_4 7 rfl rfl)
theorem dX1_cut_102 : decode cX1_cut 102 = .ok (.invokestatic 43, 3) := dk_184 0 43 (dk_at dksX1_cut_4 8 rfl rfl)
theorem dX1_cut_105 : decode cX1_cut 105 = .ok (.ifCond .eq 10, 3) := dk_153 0 10 (dk_at dksX1_cut_4 11 rfl rfl)
theorem dX1_cut_108 : decode cX1_cut 108 = .ok (.aload_n 0, 1) := dk_42 (dk_at dksX1_cut_4 14 rfl rfl)
theorem dX1_cut_109 : decode cX1_cut 109 = .ok (.invokevirtual 47, 3) := dk_182 0 47 (dk_at dksX1_cut_4 15 rfl rfl)
theorem dX1_cut_112 : decode cX1_cut 112 = .ok (.goto 173, 3) := dk_167 0 173 (dk_at dksX1_cut_4 18 rfl rfl)
theorem dX1_cut_115 : decode cX1_cut 115 = .ok (.iload_n 2, 1) := dk_28 (dk_at dksX1_cut_4 21 rfl rfl)
theorem dX1_cut_116 : decode cX1_cut 116 = .ok (.invokestatic 50, 3) := dk_184 0 50 (dk_at dksX1_cut_5 0 rfl rfl)
theorem dX1_cut_119 : decode cX1_cut 119 = .ok (.ifCond .eq 36, 3) := dk_153 0 36 (dk_at dksX1_cut_5 3 rfl rfl)
theorem dX1_cut_122 : decode cX1_cut 122 = .ok (.aload_n 0, 1) := dk_42 (dk_at dksX1_cut_5 6 rfl rfl)
theorem dX1_cut_123 : decode cX1_cut 123 = .ok (.getfield 32, 3) := dk_180 0 32 (dk_at dksX1_cut_5 7 rfl rfl)
theorem dX1_cut_126 : decode cX1_cut 126 = .ok (.istore_n 3, 1) := dk_62 (dk_at dksX1_cut_5 10 rfl rfl)
theorem dX1_cut_127 : decode cX1_cut 127 = .ok (.aload_n 0, 1) := dk_42 (dk_at dksX1_cut_5 11 rfl rfl)
theorem dX1_cut_128 : decode cX1_cut 128 = .ok (.iconst 4, 1) := dk_7 (dk_at dksX1_cut_5 12 rfl rfl)
theorem dX1_cut_129 : decode cX1_cut 129 = .ok (.invokevirtual 53, 3) := dk_182 0 53 (dk_at dksX1_cut_5 13 rfl rfl)
theorem dX1_cut_132 : decode cX1_cut 132 = .ok (.istore 4, 2) := dk_54 4 (dk_at dksX1_cut_5 16 rfl rfl)
theorem dX1_cut_134 : decode cX1_cut 134 = .ok (.aload_n 0, 1) := dk_42 (dk_at dksX1_cut_5 18 rfl rfl)
theorem dX1_cut_135 : decode cX1_cut 135 = .ok (.iload 4, 2) := dk_21 4 (dk_at dksX1_cut_5 19 rfl rfl)
theorem dX1_cut_137 : decode cX1_cut 137 = .ok (.ifCond .ge 7, 3) := dk_156 0 7 (dk_at dksX1_cut_5 21 rfl rfl)
theorem dX1_cut_140 : decode cX1_cut 140 = .ok (.iconst 1, 1) := dk_4 (dk_at dksX1_cut_6 0 rfl rfl)
theorem dX1_cut_141 : decode cX1_cut 141 = .ok (.goto 5, 3) := dk_167 0 5 (dk_at dksX1_cut_6 1 rfl rfl)
theorem dX1_cut_144 : decode cX1_cut 144 = .ok (.bipush 7, 2) := dk_16 7 (dk_at dksX1_cut_6 4 rfl rfl)
theorem dX1_cut_146 : decode cX1_cut 146 = .ok (.iload_n 3, 1) := dk_29 (dk_at dksX1_cut_6 6 rfl rfl)
theorem dX1_cut_147 : decode cX1_cut 147 = .ok (.iload 4, 2) := dk_21 4 (dk_at dksX1_cut_6 7 rfl rfl)
theorem dX1_cut_149 : decode cX1_cut 149 = .ok (.invokevirtual 39, 3) := dk_182 0 39 (dk_at dksX1_cut_6 9 rfl rfl)
theorem dX1_cut_152 : decode cX1_cut 152 = .ok (.goto 133, 3) := dk_167 0 133 (dk_at dksX1_cut_6 12 rfl rfl)
theorem dX1_cut_155 : decode cX1_cut 155 = .ok (.iload_n 2, 1) := dk_28 (dk_at dksX1_cut_6 15 rfl rfl)
theorem dX1_cut_156 : decode cX1_cut 156 = .ok (.bipush 43, 2) := dk_16 43 (dk_at dksX1_cut_6 16 rfl rfl)
theorem dX1_cut_158 : decode cX1_cut 158 = .ok (.if_icmp .eq 93, 3) := dk_159 0 93 (dk_at dksX1_cut_6 18 rfl rfl)
theorem dX1_cut_161 : decode cX1_cut 161 = .ok (.iload_n 2, 1) := dk_28 (dk_at dksX1_cut_6 21 rfl rfl)
theorem dX1_cut_162 : decode cX1_cut 162 = .ok (.bipush 45, 2) := dk_16 45 (dk_at dksX1_cut_6 22 rfl rfl)
theorem dX1_cut_164 : decode cX1_cut 164 = .ok (.if_icmp .eq 87, 3) := dk_159 0 87 (dk_at dksX1_cut_7 0 rfl rfl)
theorem dX1_cut_167 : decode cX1_cut 167 = .ok (.iload_n 2, 1) := dk_28 (dk_at dksX1_cut_7 3 rfl rfl)
theorem dX1_cut_168 : decode cX1_cut 168 = .ok (.bipush 42, 2) := dk_16 42 (dk_at dksX1_cut_7 4 rfl rfl)
theorem dX1_cut_170 : decode cX1_cut 170 = .ok (.if_icmp .eq 81, 3) := dk_159 0 81 (dk_at dksX1_cut_7 6 rfl rfl)
theorem dX1_cut_173 : decode cX1_cut 173 = .ok (.iload_n 2, 1) := dk_28 (dk_at dksX1_cut_7 9 rfl rfl)
theorem dX1_cut_174 : decode cX1_cut 174 = .ok (.bipush 47, 2) := dk_16 47 (dk_at dksX1_cut_7 10 rfl rfl)
theorem dX1_cut_176 : decode cX1_cut 176 = .ok (.if_icmp .eq 75, 3) := dk_159 0 75 (dk_at dksX1_cut_7 12 rfl rfl)
theorem dX1_cut_179 : decode cX1_cut 179 = .ok (.iload_n 2, 1) := dk_28 (dk_at dksX1_cut_7 15 rfl rfl)
theorem dX1_cut_180 : decode cX1_cut 180 = .ok (.bipush 37, 2) := dk_16 37 (dk_at dksX1_cut_7 16 rfl rfl)
theorem dX1_cut_182 : decode cX1_cut 182 = .ok (.if_icmp .eq 69, 3) := dk_159 0 69 (dk_at dksX1_cut_7 18 rfl rfl)
theorem dX1_cut_185 : decode cX1_cut 185 = .ok (.iload_n 2, 1) := dk_28 (dk_at dksX1_cut_7 21 rfl rfl)
theorem dX1_cut_186 : decode cX1_cut 186 = .ok (.bipush 40, 2) := dk_16 40 (dk_at dksX1_cut_7 22 rfl rfl)
theorem dX1_cut_188 : decode cX1_cut 188 = .ok (.if_icmp .eq 63, 3) := dk_159 0 63 (dk_at dksX1_cut_8 0 rfl rfl)
theorem dX1_cut_191 : decode cX1_cut 191 = .ok (.iload_n 2, 1) := dk_28 (dk_at dksX1_cut_8 3 rfl rfl)
theorem dX1_cut_192 : decode cX1_cut 192 = .ok (.bipush 41, 2) := dk_16 41 (dk_at dksX1_cut_8 4 rfl rfl)
theorem dX1_cut_194 : decode cX1_cut 194 = .ok (.if_icmp .eq 57, 3) := dk_159 0 57 (dk_at dksX1_cut_8 6 rfl rfl)
theorem dX1_cut_197 : decode cX1_cut 197 = .ok (.iload_n 2, 1) := dk_28 (dk_at dksX1_cut_8 9 rfl rfl)
theorem dX1_cut_198 : decode cX1_cut 198 = .ok (.bipush 91, 2) := dk_16 91 (dk_at dksX1_cut_8 10 rfl rfl)
theorem dX1_cut_200 : decode cX1_cut 200 = .ok (.if_icmp .eq 51, 3) := dk_159 0 51 (dk_at dksX1_cut_8 12 rfl rfl)
theorem dX1_cut_203 : decode cX1_cut 203 = .ok (.iload_n 2, 1) := dk_28 (dk_at dksX1_cut_8 15 rfl rfl)
theorem dX1_cut_204 : decode cX1_cut 204 = .ok (.bipush 93, 2) := dk_16 93 (dk_at dksX1_cut_8 16 rfl rfl)
theorem dX1_cut_206 : decode cX1_cut 206 = .ok (.if_icmp .eq 45, 3) := dk_159 0 45 (dk_at dksX1_cut_8 18 rfl rfl)
theorem dX1_cut_209 : decode cX1_cut 209 = .ok (.iload_n 2, 1) := dk_28 (dk_at dksX1_cut_8 21 rfl rfl)
theorem dX1_cut_210 : decode cX1_cut 210 = .ok (.bipush 123, 2) := dk_16 123 (dk_at dksX1_cut_8 22 rfl rfl)
theorem dX1_cut_212 : decode cX1_cut 212 = .ok (.if_icmp .eq 39, 3) := dk_159 0 39 (dk_at dksX1_cut_9 0 rfl rfl)
theorem dX1_cut_215 : decode cX1_cut 215 = .ok (.iload_n 2, 1) := dk_28 (dk_at dksX1_cut_9 3 rfl rfl)
theorem dX1_cut_216 : decode cX1_cut 216 = .ok (.bipush 125, 2) := dk_16 125 (dk_at dksX1_cut_9 4 rfl rfl)
theorem dX1_cut_218 : decode cX1_cut 218 = .ok (.if_icmp .eq 33, 3) := dk_159 0 33 (dk_at dksX1_cut_9 6 rfl rfl)
theorem dX1_cut_221 : decode cX1_cut 221 = .ok (.iload_n 2, 1) := dk_28 (dk_at dksX1_cut_9 9 rfl rfl)
theorem dX1_cut_222 : decode cX1_cut 222 = .ok (.bipush 61, 2) := dk_16 61 (dk_at dksX1_cut_9 10 rfl rfl)
theorem dX1_cut_224 : decode cX1_cut 224 = .ok (.if_icmp .eq 27, 3) := dk_159 0 27 (dk_at dksX1_cut_9 12 rfl rfl)
theorem dX1_cut_227 : decode cX1_cut 227 = .ok (.iload_n 2, 1) := dk_28 (dk_at dksX1_cut_9 15 rfl rfl)
theorem dX1_cut_228 : decode cX1_cut 228 = .ok (.bipush 60, 2) := dk_16 60 (dk_at dksX1_cut_9 16 rfl rfl)
theorem dX1_cut_230 : decode cX1_cut 230 = .ok (.if_icmp .eq 21, 3) := dk_159 0 21 (dk_at dksX1_cut_9 18 rfl rfl)
theorem dX1_cut_233 : decode cX1_cut 233 = .ok (.iload_n 2, 1) := dk_28 (dk_at dksX1_cut_9 21 rfl rfl)
theorem dX1_cut_234 : decode cX1_cut 234 = .ok (.bipush 62, 2) := dk_16 62 (dk_at dksX1_cut_9 22 rfl rfl)
theorem dX1_cut_236 : decode cX1_cut 236 = .ok (.if_icmp .eq 15, 3) := dk_159 0 15 (dk_at dksX1_cut_10 0 rfl rfl)
theorem dX1_cut_239 : decode cX1_cut 239 = .ok (.iload_n 2, 1) := dk_28 (dk_at dksX1_cut_10 3 rfl rfl)
theorem dX1_cut_240 : decode cX1_cut 240 = .ok (.bipush 44, 2) := dk_16 44 (dk_at dksX1_cut_10 4 rfl rfl)
theorem dX1_cut_242 : decode cX1_cut 242 = .ok (.if_icmp .eq 9, 3) := dk_159 0 9 (dk_at dksX1_cut_10 6 rfl rfl)
theorem dX1_cut_245 : decode cX1_cut 245 = .ok (.iload_n 2, 1) := dk_28 (dk_at dksX1_cut_10 9 rfl rfl)
theorem dX1_cut_246 : decode cX1_cut 246 = .ok (.bipush 59, 2) := dk_16 59 (dk_at dksX1_cut_10 10 rfl rfl)
theorem dX1_cut_248 : decode cX1_cut 248 = .ok (.if_icmp .ne 7, 3) := dk_160 0 7 (dk_at dksX1_cut_10 12 rfl rfl)
theorem dX1_cut_251 : decode cX1_cut 251 = .ok (.iconst 1, 1) := dk_4 (dk_at dksX1_cut_10 15 rfl rfl)
theorem dX1_cut_252 : decode cX1_cut 252 = .ok (.goto 4, 3) := dk_167 0 4 (dk_at dksX1_cut_10 16 rfl rfl)
theorem dX1_cut_255 : decode cX1_cut 255 = .ok (.iconst 0, 1) := dk_3 (dk_at dksX1_cut_10 19 rfl rfl)
theorem dX1_cut_256 : decode cX1_cut 256 = .ok (.istore_n 3, 1) := dk_62 (dk_at dksX1_cut_10 20 rfl rfl)
theorem dX1_cut_257 : decode cX1_cut 257 = .ok (.aload_n 0, 1) := dk_42 (dk_at dksX1_cut_10 21 rfl rfl)
theorem dX1_cut_258 : decode cX1_cut 258 = .ok (.iload_n 3, 1) := dk_29 (dk_at dksX1_cut_10 22 rfl rfl)
theorem dX1_cut_259 : decode cX1_cut 259 = .ok (.ifCond .eq 7, 3) := dk_153 0 7 (dk_at dksX1_cut_11 0 rfl rfl)
theorem dX1_cut_262 : decode cX1_cut 262 = .ok (.iload_n 2, 1) := dk_28 (dk_at dksX1_cut_11 3 rfl rfl)
theorem dX1_cut_263 : decode cX1_cut 263 = .ok (.goto 4, 3) := dk_167 0 4 (dk_at dksX1_cut_11 4 rfl rfl)
theorem dX1_cut_266 : decode cX1_cut 266 = .ok (.iconst 1, 1) := dk_4 (dk_at dksX1_cut_11 7 rfl rfl)
theorem dX1_cut_267 : decode cX1_cut 267 = .ok (.aload_n 0, 1) := dk_42 (dk_at dksX1_cut_11 8 rfl rfl)
theorem dX1_cut_268 : decode cX1_cut 268 = .ok (.getfield 32, 3) := dk_180 0 32 (dk_at dksX1_cut_11 9 rfl rfl)
theorem dX1_cut_271 : decode cX1_cut 271 = .ok (.iconst 0, 1) := dk_3 (dk_at dksX1_cut_11 12 rfl rfl)
theorem dX1_cut_272 : decode cX1_cut 272 = .ok (.invokevirtual 39, 3) := dk_182 0 39 (dk_at dksX1_cut_11 13 rfl rfl)
theorem dX1_cut_275 : decode cX1_cut 275 = .ok (.aload_n 0, 1) := dk_42 (dk_at dksX1_cut_11 16 rfl rfl)
theorem dX1_cut_276 : decode cX1_cut 276 = .ok (.dup, 1) := dk_89 (dk_at dksX1_cut_11 17 rfl rfl)
theorem dX1_cut_277 : decode cX1_cut 277 = .ok (.getfield 32, 3) := dk_180 0 32 (dk_at dksX1_cut_11 18 rfl rfl)
theorem dX1_cut_280 : decode cX1_cut 280 = .ok (.iconst 1, 1) := dk_4 (dk_at dksX1_cut_11 21 rfl rfl)
theorem dX1_cut_281 : decode cX1_cut 281 = .ok (.iadd, 1) := dk_96 (dk_at dksX1_cut_11 22 rfl rfl)
theorem dX1_cut_282 : decode cX1_cut 282 = .ok (.putfield 32, 3) := dk_181 0 32 (dk_at dksX1_cut_12 0 rfl rfl)
theorem dX1_cut_285 : decode cX1_cut 285 = .ok (.aload_n 0, 1) := dk_42 (dk_at dksX1_cut_12 3 rfl rfl)
theorem dX1_cut_286 : decode cX1_cut 286 = .ok (.getfield 15, 3) := dk_180 0 15 (dk_at dksX1_cut_12 4 rfl rfl)
theorem dX1_cut_289 : decode cX1_cut 289 = .ok (.aload_n 0, 1) := dk_42 (dk_at dksX1_cut_12 7 rfl rfl)
theorem dX1_cut_290 : decode cX1_cut 290 = .ok (.getfield 29, 3) := dk_180 0 29 (dk_at dksX1_cut_12 8 rfl rfl)
theorem dX1_cut_293 : decode cX1_cut 293 = .ok (.iconst 1, 1) := dk_4 (dk_at dksX1_cut_12 11 rfl rfl)
theorem dX1_cut_294 : decode cX1_cut 294 = .ok (.isub, 1) := dk_100 (dk_at dksX1_cut_12 12 rfl rfl)
theorem dX1_cut_295 : decode cX1_cut 295 = .ok (.iaload, 1) := dk_46 (dk_at dksX1_cut_12 13 rfl rfl)
theorem dX1_cut_296 : decode cX1_cut 296 = .ok (.iconst 1, 1) := dk_4 (dk_at dksX1_cut_12 14 rfl rfl)
theorem dX1_cut_297 : decode cX1_cut 297 = .ok (.if_icmp .gt 7, 3) := dk_163 0 7 (dk_at dksX1_cut_12 15 rfl rfl)
theorem dX1_cut_300 : decode cX1_cut 300 = .ok (.iconst 1, 1) := dk_4 (dk_at dksX1_cut_12 18 rfl rfl)
theorem dX1_cut_301 : decode cX1_cut 301 = .ok (.goto 4, 3) := dk_167 0 4 (dk_at dksX1_cut_12 19 rfl rfl)
theorem dX1_cut_304 : decode cX1_cut 304 = .ok (.iconst 0, 1) := dk_3 (dk_at dksX1_cut_12 22 rfl rfl)
theorem dX1_cut_305 : decode cX1_cut 305 = .ok (.istore_n 1, 1) := dk_60 (dk_at dksX1_cut_12 23 rfl rfl)
theorem dX1_cut_306 : decode cX1_cut 306 = .ok (.goto (-294), 3) := dk_167 254 218 (dk_at dksX1_cut_13 0 rfl rfl)
theorem dX1_cut_309 : decode cX1_cut 309 = .ok (.aload_n 0, 1) := dk_42 (dk_at dksX1_cut_13 3 rfl rfl)
theorem dX1_cut_310 : decode cX1_cut 310 = .ok (.iconst 0, 1) := dk_3 (dk_at dksX1_cut_13 4 rfl rfl)
theorem dX1_cut_311 : decode cX1_cut 311 = .ok (.putfield 25, 3) := dk_181 0 25 (dk_at dksX1_cut_13 5 rfl rfl)
theorem dX1_cut_314 : decode cX1_cut 314 = .ok (.return_, 1) := dk_177 (dk_at dksX1_cut_13 8 rfl rfl)
theorem okX1_cut_0 : XOkL xms rX1_cut bX1_cut_0 := xcP (xok_aload_n dX1_cut_0 rfl) rfl (xcP (xok_iconst dX1_cut_1 rfl) rfl (xcP (xok_putfield (ref := "WaysAtlas$Scanner") (Or.inl ⟨rfl, by decide, rfl⟩) dX1_cut_2 (Or.inl ⟨q204, (Or.inl rfl)⟩) (Or.inl rfl) xh3) rfl (xcP (xok_aload_n dX1_cut_5 rfl) rfl (xcP (xok_iconst dX1_cut_6 rfl) rfl (xcP (xok_putfield (ref := "WaysAtlas$Scanner") (Or.inl ⟨rfl, by decide, rfl⟩) dX1_cut_7 (Or.inl ⟨q205, (Or.inl rfl)⟩) (Or.inl rfl) xh4) rfl (xcP (xok_iconst dX1_cut_10 rfl) rfl (xcP (xok_istore_n dX1_cut_11 rfl) rfl (xcP xok_fal rfl trivial))))))))
theorem okX1_cut_12 : XOkL xms rX1_cut bX1_cut_12 := xcP (xok_iload_n dX1_cut_12 rfl) rfl (xcP (xok_ifne dX1_cut_13 (by decide)) rfl (xcP xok_fal rfl trivial))
theorem okX1_cut_16 : XOkL xms rX1_cut bX1_cut_16 := xcP (xok_aload_n dX1_cut_16 rfl) rfl (xcP (xok_getfield (ref := "WaysAtlas$Scanner") (Or.inl ⟨rfl, by decide⟩) dX1_cut_17 (Or.inl ⟨q205, (Or.inl rfl)⟩) xh4) rfl (xcP (xok_aload_n dX1_cut_20 rfl) rfl (xcP (xok_getfield (ref := "WaysAtlas$Scanner") (Or.inl ⟨rfl, by decide⟩) dX1_cut_21 (Or.inl ⟨q196, (Or.inl rfl)⟩) xh2) rfl (xcP (xok_icmpge dX1_cut_24 (by decide)) rfl (xcP (xok_aload_n dX1_cut_27 rfl) rfl (xcP (xok_getfield (ref := "WaysAtlas$Scanner") (Or.inr ⟨rfl, by decide⟩) dX1_cut_28 (Or.inl ⟨q194, (Or.inl rfl)⟩) xh1010) rfl (xcP (xok_aload_n dX1_cut_31 rfl) rfl (xcP (xok_getfield (ref := "WaysAtlas$Scanner") (Or.inl ⟨rfl, by decide⟩) dX1_cut_32 (Or.inl ⟨q205, (Or.inl rfl)⟩) xh4) rfl (xcP (xok_baload dX1_cut_35) rfl (xcP (xok_bipush dX1_cut_36 rfl) rfl (xcP (xok_icmpeq dX1_cut_38 (by decide)) rfl (xcP (xok_aload_n dX1_cut_41 rfl) rfl (xcP (xok_getfield (ref := "WaysAtlas$Scanner") (Or.inr ⟨rfl, by decide⟩) dX1_cut_42 (Or.inl ⟨q194, (Or.inl rfl)⟩) xh1010) rfl (xcP (xok_aload_n dX1_cut_45 rfl) rfl (xcP (xok_getfield (ref := "WaysAtlas$Scanner") (Or.inl ⟨rfl, by decide⟩) dX1_cut_46 (Or.inl ⟨q205, (Or.inl rfl)⟩) xh4) rfl (xcP (xok_baload dX1_cut_49) rfl (xcP (xok_bipush dX1_cut_50 rfl) rfl (xcP (xok_icmpne dX1_cut_52 (by decide)) rfl (xcP xok_fal rfl trivial)))))))))))))))))))
theorem okX1_cut_55 : XOkL xms rX1_cut bX1_cut_55 := xcP (xok_aload_n dX1_cut_55 rfl) rfl (xcP (xok_dup dX1_cut_56) rfl (xcP (xok_getfield (ref := "WaysAtlas$Scanner") (Or.inl ⟨rfl, by decide⟩) dX1_cut_57 (Or.inl ⟨q205, (Or.inl rfl)⟩) xh4) rfl (xcP (xok_iconst dX1_cut_60 rfl) rfl (xcP (xok_iadd dX1_cut_61) rfl (xcP (xok_putfield (ref := "WaysAtlas$Scanner") (Or.inl ⟨rfl, by decide, rfl⟩) dX1_cut_62 (Or.inl ⟨q205, (Or.inl rfl)⟩) (Or.inl rfl) xh4) rfl (xcP (xok_goto dX1_cut_65 (by decide)) rfl trivial))))))
theorem okX1_cut_68 : XOkL xms rX1_cut bX1_cut_68 := xcP (xok_aload_n dX1_cut_68 rfl) rfl (xcP (xok_aload_n dX1_cut_69 rfl) rfl (xcP (xok_getfield (ref := "WaysAtlas$Scanner") (Or.inl ⟨rfl, by decide⟩) dX1_cut_70 (Or.inl ⟨q205, (Or.inl rfl)⟩) xh4) rfl (xcC0 (xokc_list (List.forall_mem_cons.mpr ⟨xokc_V (r := (RX1, TX1, 7)) xm32 (List.mem_of_getElem? (i := 1) rfl) (by decide) rfl dX1_cut_73 q692 q694 qs2 q139 q695 (by decide +kernel), fun _ h => nomatch h⟩)) rfl (xcP (xok_istore_n dX1_cut_76 rfl) rfl (xcP (xok_aload_n dX1_cut_77 rfl) rfl (xcP (xok_getfield (ref := "WaysAtlas$Scanner") (Or.inl ⟨rfl, by decide⟩) dX1_cut_78 (Or.inl ⟨q205, (Or.inl rfl)⟩) xh4) rfl (xcP (xok_aload_n dX1_cut_81 rfl) rfl (xcP (xok_getfield (ref := "WaysAtlas$Scanner") (Or.inl ⟨rfl, by decide⟩) dX1_cut_82 (Or.inl ⟨q196, (Or.inl rfl)⟩) xh2) rfl (xcP (xok_icmpne dX1_cut_85 (by decide)) rfl (xcP (xok_aload_n dX1_cut_88 rfl) rfl (xcP (xok_iconst dX1_cut_89 rfl) rfl (xcP (xok_aload_n dX1_cut_90 rfl) rfl (xcP (xok_getfield (ref := "WaysAtlas$Scanner") (Or.inl ⟨rfl, by decide⟩) dX1_cut_91 (Or.inl ⟨q205, (Or.inl rfl)⟩) xh4) rfl (xcP (xok_iconst dX1_cut_94 rfl) rfl (xcC0 (xokc_list (List.forall_mem_cons.mpr ⟨xokc_V (r := (RX1, TX1, 7)) xm33 (List.mem_of_getElem? (i := 1) rfl) (by decide) rfl dX1_cut_95 q696 q698 qs3 q139 q699 (by decide +kernel), fun _ h => nomatch h⟩)) rfl (xcP (xok_goto dX1_cut_98 (by decide)) rfl trivial))))))))))))))))
theorem okX1_cut_101 : XOkL xms rX1_cut bX1_cut_101 := xcP (xok_iload_n dX1_cut_101 rfl) rfl (xcC0 (xokc_S xm34 rfl dX1_cut_102 q700 q701 q139 q702 (by decide +kernel)) rfl (xcP (xok_ifeq dX1_cut_105 (by decide)) rfl (xcP (xok_aload_n dX1_cut_108 rfl) rfl (xcC0 (xokc_list (List.forall_mem_cons.mpr ⟨xokc_V (r := (RX1, TX1, 7)) xm35 (List.mem_of_getElem? (i := 1) rfl) (by decide) rfl dX1_cut_109 q703 q705 qs4 q139 q706 (by decide +kernel), fun _ h => nomatch h⟩)) rfl (xcP (xok_goto dX1_cut_112 (by decide)) rfl trivial)))))
theorem okX1_cut_115 : XOkL xms rX1_cut bX1_cut_115 := xcP (xok_iload_n dX1_cut_115 rfl) rfl (xcC0 (xokc_S xm36 rfl dX1_cut_116 q707 q708 q139 q709 (by decide +kernel)) rfl (xcP (xok_ifeq dX1_cut_119 (by decide)) rfl (xcP (xok_aload_n dX1_cut_122 rfl) rfl (xcP (xok_getfield (ref := "WaysAtlas$Scanner") (Or.inl ⟨rfl, by decide⟩) dX1_cut_123 (Or.inl ⟨q205, (Or.inl rfl)⟩) xh4) rfl (xcP (xok_istore_n dX1_cut_126 rfl) rfl (xcP (xok_aload_n dX1_cut_127 rfl) rfl (xcP (xok_iconst dX1_cut_128 rfl) rfl (xcC0 (xokc_list (List.forall_mem_cons.mpr ⟨xokc_V (r := (RX1, TX1, 7)) xm37 (List.mem_of_getElem? (i := 1) rfl) (by decide) rfl dX1_cut_129 q710 q712 qs5 q139 q713 (by decide +kernel), fun _ h => nomatch h⟩)) rfl (xcP (xok_istore dX1_cut_132) rfl (xcP (xok_aload_n dX1_cut_134 rfl) rfl (xcP (xok_iload dX1_cut_135) rfl (xcP (xok_ifge dX1_cut_137 (by decide)) rfl (xcP (xok_iconst dX1_cut_140 rfl) rfl (xcP (xok_goto dX1_cut_141 (by decide)) rfl trivial))))))))))))))
theorem okX1_cut_144 : XOkL xms rX1_cut bX1_cut_144 := xcP (xok_bipush dX1_cut_144 rfl) rfl (xcP xok_fal rfl trivial)
theorem okX1_cut_146 : XOkL xms rX1_cut bX1_cut_146 := xcP (xok_iload_n dX1_cut_146 rfl) rfl (xcP (xok_iload dX1_cut_147) rfl (xcC0 (xokc_list (List.forall_mem_cons.mpr ⟨xokc_V (r := (RX1, TX1, 7)) xm33 (List.mem_of_getElem? (i := 1) rfl) (by decide) rfl dX1_cut_149 q696 q698 qs3 q139 q699 (by decide +kernel), fun _ h => nomatch h⟩)) rfl (xcP (xok_goto dX1_cut_152 (by decide)) rfl trivial)))
theorem okX1_cut_155 : XOkL xms rX1_cut bX1_cut_155 := xcP (xok_iload_n dX1_cut_155 rfl) rfl (xcP (xok_bipush dX1_cut_156 rfl) rfl (xcP (xok_icmpeq dX1_cut_158 (by decide)) rfl (xcP (xok_iload_n dX1_cut_161 rfl) rfl (xcP (xok_bipush dX1_cut_162 rfl) rfl (xcP (xok_icmpeq dX1_cut_164 (by decide)) rfl (xcP (xok_iload_n dX1_cut_167 rfl) rfl (xcP (xok_bipush dX1_cut_168 rfl) rfl (xcP (xok_icmpeq dX1_cut_170 (by decide)) rfl (xcP (xok_iload_n dX1_cut_173 rfl) rfl (xcP (xok_bipush dX1_cut_174 rfl) rfl (xcP (xok_icmpeq dX1_cut_176 (by decide)) rfl (xcP (xok_iload_n dX1_cut_179 rfl) rfl (xcP (xok_bipush dX1_cut_180 rfl) rfl (xcP (xok_icmpeq dX1_cut_182 (by decide)) rfl (xcP (xok_iload_n dX1_cut_185 rfl) rfl (xcP (xok_bipush dX1_cut_186 rfl) rfl (xcP (xok_icmpeq dX1_cut_188 (by decide)) rfl (xcP (xok_iload_n dX1_cut_191 rfl) rfl (xcP (xok_bipush dX1_cut_192 rfl) rfl (xcP (xok_icmpeq dX1_cut_194 (by decide)) rfl (xcP (xok_iload_n dX1_cut_197 rfl) rfl (xcP (xok_bipush dX1_cut_198 rfl) rfl (xcP (xok_icmpeq dX1_cut_200 (by decide)) rfl (xcP (xok_iload_n dX1_cut_203 rfl) rfl (xcP (xok_bipush dX1_cut_204 rfl) rfl (xcP (xok_icmpeq dX1_cut_206 (by decide)) rfl (xcP (xok_iload_n dX1_cut_209 rfl) rfl (xcP (xok_bipush dX1_cut_210 rfl) rfl (xcP (xok_icmpeq dX1_cut_212 (by decide)) rfl (xcP (xok_iload_n dX1_cut_215 rfl) rfl (xcP (xok_bipush dX1_cut_216 rfl) rfl (xcP (xok_icmpeq dX1_cut_218 (by decide)) rfl (xcP (xok_iload_n dX1_cut_221 rfl) rfl (xcP (xok_bipush dX1_cut_222 rfl) rfl (xcP (xok_icmpeq dX1_cut_224 (by decide)) rfl (xcP (xok_iload_n dX1_cut_227 rfl) rfl (xcP (xok_bipush dX1_cut_228 rfl) rfl (xcP (xok_icmpeq dX1_cut_230 (by decide)) rfl (xcP (xok_iload_n dX1_cut_233 rfl) rfl (xcP (xok_bipush dX1_cut_234 rfl) rfl (xcP (xok_icmpeq dX1_cut_236 (by decide)) rfl (xcP (xok_iload_n dX1_cut_239 rfl) rfl (xcP (xok_bipush dX1_cut_240 rfl) rfl (xcP (xok_icmpeq dX1_cut_242 (by decide)) rfl (xcP (xok_iload_n dX1_cut_245 rfl) rfl (xcP (xok_bipush dX1_cut_246 rfl) rfl (xcP (xok_icmpne dX1_cut_248 (by decide)) rfl (xcP xok_fal rfl trivial))))))))))))))))))))))))))))))))))))))))))))))))
theorem okX1_cut_251 : XOkL xms rX1_cut bX1_cut_251 := xcP (xok_iconst dX1_cut_251 rfl) rfl (xcP (xok_goto dX1_cut_252 (by decide)) rfl trivial)
theorem okX1_cut_255 : XOkL xms rX1_cut bX1_cut_255 := xcP (xok_iconst dX1_cut_255 rfl) rfl (xcP xok_fal rfl trivial)
theorem okX1_cut_256 : XOkL xms rX1_cut bX1_cut_256 := xcP (xok_istore_n dX1_cut_256 rfl) rfl (xcP (xok_aload_n dX1_cut_257 rfl) rfl (xcP (xok_iload_n dX1_cut_258 rfl) rfl (xcP (xok_ifeq dX1_cut_259 (by decide)) rfl (xcP (xok_iload_n dX1_cut_262 rfl) rfl (xcP (xok_goto dX1_cut_263 (by decide)) rfl trivial)))))
theorem okX1_cut_266 : XOkL xms rX1_cut bX1_cut_266 := xcP (xok_iconst dX1_cut_266 rfl) rfl (xcP xok_fal rfl trivial)
theorem okX1_cut_267 : XOkL xms rX1_cut bX1_cut_267 := xcP (xok_aload_n dX1_cut_267 rfl) rfl (xcP (xok_getfield (ref := "WaysAtlas$Scanner") (Or.inl ⟨rfl, by decide⟩) dX1_cut_268 (Or.inl ⟨q205, (Or.inl rfl)⟩) xh4) rfl (xcP (xok_iconst dX1_cut_271 rfl) rfl (xcC0 (xokc_list (List.forall_mem_cons.mpr ⟨xokc_V (r := (RX1, TX1, 7)) xm33 (List.mem_of_getElem? (i := 1) rfl) (by decide) rfl dX1_cut_272 q696 q698 qs3 q139 q699 (by decide +kernel), fun _ h => nomatch h⟩)) rfl (xcP (xok_aload_n dX1_cut_275 rfl) rfl (xcP (xok_dup dX1_cut_276) rfl (xcP (xok_getfield (ref := "WaysAtlas$Scanner") (Or.inl ⟨rfl, by decide⟩) dX1_cut_277 (Or.inl ⟨q205, (Or.inl rfl)⟩) xh4) rfl (xcP (xok_iconst dX1_cut_280 rfl) rfl (xcP (xok_iadd dX1_cut_281) rfl (xcP (xok_putfield (ref := "WaysAtlas$Scanner") (Or.inl ⟨rfl, by decide, rfl⟩) dX1_cut_282 (Or.inl ⟨q205, (Or.inl rfl)⟩) (Or.inl rfl) xh4) rfl (xcP xok_fal rfl trivial))))))))))
theorem okX1_cut_285 : XOkL xms rX1_cut bX1_cut_285 := xcP (xok_aload_n dX1_cut_285 rfl) rfl (xcP (xok_getfield (ref := "WaysAtlas$Scanner") (Or.inr ⟨rfl, by decide⟩) dX1_cut_286 (Or.inl ⟨q198, (Or.inl rfl)⟩) xh1011) rfl (xcP (xok_aload_n dX1_cut_289 rfl) rfl (xcP (xok_getfield (ref := "WaysAtlas$Scanner") (Or.inl ⟨rfl, by decide⟩) dX1_cut_290 (Or.inl ⟨q204, (Or.inl rfl)⟩) xh3) rfl (xcP (xok_iconst dX1_cut_293 rfl) rfl (xcP (xok_isub dX1_cut_294) rfl (xcP (xok_iaload dX1_cut_295) rfl (xcP (xok_iconst dX1_cut_296 rfl) rfl (xcP (xok_icmpgt dX1_cut_297 (by decide)) rfl (xcP (xok_iconst dX1_cut_300 rfl) rfl (xcP (xok_goto dX1_cut_301 (by decide)) rfl trivial))))))))))
theorem okX1_cut_304 : XOkL xms rX1_cut bX1_cut_304 := xcP (xok_iconst dX1_cut_304 rfl) rfl (xcP xok_fal rfl trivial)
theorem okX1_cut_305 : XOkL xms rX1_cut bX1_cut_305 := xcP (xok_istore_n dX1_cut_305 rfl) rfl (xcP (xok_goto dX1_cut_306 (by decide)) rfl trivial)
theorem okX1_cut_309 : XOkL xms rX1_cut bX1_cut_309 := xcP (xok_aload_n dX1_cut_309 rfl) rfl (xcP (xok_iconst dX1_cut_310 rfl) rfl (xcP (xok_putfield (ref := "WaysAtlas$Scanner") (Or.inl ⟨rfl, by decide, rfl⟩) dX1_cut_311 (Or.inl ⟨q196, (Or.inl rfl)⟩) (Or.inl rfl) xh2) rfl (xcR ⟨dX1_cut_314, rfl⟩)))
theorem okM_X1_cut : XOkM xms rX1_cut := xokM0 (List.forall_mem_cons.mpr ⟨⟨rfl, okX1_cut_0⟩, List.forall_mem_cons.mpr ⟨⟨rfl, okX1_cut_12⟩, List.forall_mem_cons.mpr ⟨⟨rfl, okX1_cut_16⟩, List.forall_mem_cons.mpr ⟨⟨rfl, okX1_cut_55⟩, List.forall_mem_cons.mpr ⟨⟨rfl, okX1_cut_68⟩, List.forall_mem_cons.mpr ⟨⟨rfl, okX1_cut_101⟩, List.forall_mem_cons.mpr ⟨⟨rfl, okX1_cut_115⟩, List.forall_mem_cons.mpr ⟨⟨rfl, okX1_cut_144⟩, List.forall_mem_cons.mpr ⟨⟨rfl, okX1_cut_146⟩, List.forall_mem_cons.mpr ⟨⟨rfl, okX1_cut_155⟩, List.forall_mem_cons.mpr ⟨⟨rfl, okX1_cut_251⟩, List.forall_mem_cons.mpr ⟨⟨rfl, okX1_cut_255⟩, List.forall_mem_cons.mpr ⟨⟨rfl, okX1_cut_256⟩, List.forall_mem_cons.mpr ⟨⟨rfl, okX1_cut_266⟩, List.forall_mem_cons.mpr ⟨⟨rfl, okX1_cut_267⟩, List.forall_mem_cons.mpr ⟨⟨rfl, okX1_cut_285⟩, List.forall_mem_cons.mpr ⟨⟨rfl, okX1_cut_304⟩, List.forall_mem_cons.mpr ⟨⟨rfl, okX1_cut_305⟩, List.forall_mem_cons.mpr ⟨⟨rfl, okX1_cut_309⟩, fun _ h => nomatch h⟩⟩⟩⟩⟩⟩⟩⟩⟩⟩⟩⟩⟩⟩⟩⟩⟩⟩⟩) (xokH0 rfl (fun _ _ => rfl)) (by decide +kernel) (by decide)
abbrev cX1_byteAt : ByteArray := prog_25_method_2_code
def dkwX1_byteAt_0 : List UInt8 := [27, 42, 180, 0, 25, 162, 0, 16, 42, 180, 0, 9, 27, 51, 17, 0, 255, 126, 167, 0, 4, 3, 172]
abbrev dktX1_byteAt_0 : List UInt8 := dkwX1_byteAt_0 ++ []
theorem dksX1_byteAt_0 : cX1_byteAt.data.toList.drop 0 = dktX1_byteAt_0 := by decide +kernel
theorem dX1_byteAt_0 : decode cX1_byteAt 0 = .ok (.iload_n 1, 1) := dk_27 (dk_at dksX1_byteAt_0 0 rfl rfl)
theorem dX1_byteAt_1 : decode cX1_byteAt 1 = .ok (.aload_n 0, 1) := dk_42 (dk_at dksX1_byteAt_0 1 rfl rfl)
theorem dX1_byteAt_2 : decode cX1_byteAt 2 = .ok (.getfield 25, 3) := dk_180 0 25 (dk_at dksX1_byteAt_0 2 rfl rfl)
theorem dX1_byteAt_5 : decode cX1_byteAt 5 = .ok (.if_icmp .ge 16, 3) := dk_162 0 16 (dk_at dksX1_byteAt_0 5 rfl rfl)
theorem dX1_byteAt_8 : decode cX1_byteAt 8 = .ok (.aload_n 0, 1) := dk_42 (dk_at dksX1_byteAt_0 8 rfl rfl)
theorem dX1_byteAt_9 : decode cX1_byteAt 9 = .ok (.getfield 9, 3) := dk_180 0 9 (dk_at dksX1_byteAt_0 9 rfl rfl)
theorem dX1_byteAt_12 : decode cX1_byteAt 12 = .ok (.iload_n 1, 1) := dk_27 (dk_at dksX1_byteAt_0 12 rfl rfl)
theorem dX1_byteAt_13 : decode cX1_byteAt 13 = .ok (.baload, 1) := dk_51 (dk_at dksX1_byteAt_0 13 rfl rfl)
theorem dX1_byteAt_14 : decode cX1_byteAt 14 = .ok (.sipush 255, 3) := dk_17 0 255 (dk_at dksX1_byteAt_0 14 rfl rfl)
theorem dX1_byteAt_17 : decode cX1_byteAt 17 = .ok (.iand, 1) := dk_126 (dk_at dksX1_byteAt_0 17 rfl rfl)
theorem dX1_byteAt_18 : decode cX1_byteAt 18 = .ok (.goto 4, 3) := dk_167 0 4 (dk_at dksX1_byteAt_0 18 rfl rfl)
theorem dX1_byteAt_21 : decode cX1_byteAt 21 = .ok (.iconst 0, 1) := dk_3 (dk_at dksX1_byteAt_0 21 rfl rfl)
theorem dX1_byteAt_22 : decode cX1_byteAt 22 = .ok (.ireturn, 1) := dk_172 (dk_at dksX1_byteAt_0 22 rfl rfl)
theorem okX1_byteAt_0 : XOkL xms rX1_byteAt bX1_byteAt_0 := xcP (xok_iload_n dX1_byteAt_0 rfl) rfl (xcP (xok_aload_n dX1_byteAt_1 rfl) rfl (xcP (xok_getfield (ref := "WaysAtlas$Scanner") (Or.inl ⟨rfl, by decide⟩) dX1_byteAt_2 (Or.inl ⟨q196, (Or.inl rfl)⟩) xh2) rfl (xcP (xok_icmpge dX1_byteAt_5 (by decide)) rfl (xcP (xok_aload_n dX1_byteAt_8 rfl) rfl (xcP (xok_getfield (ref := "WaysAtlas$Scanner") (Or.inr ⟨rfl, by decide⟩) dX1_byteAt_9 (Or.inl ⟨q194, (Or.inl rfl)⟩) xh1010) rfl (xcP (xok_iload_n dX1_byteAt_12 rfl) rfl (xcP (xok_baload dX1_byteAt_13) rfl (xcP (xok_sipush dX1_byteAt_14 rfl) rfl (xcP (xok_iand dX1_byteAt_17) rfl (xcP (xok_goto dX1_byteAt_18 (by decide)) rfl trivial))))))))))
theorem okX1_byteAt_21 : XOkL xms rX1_byteAt bX1_byteAt_21 := xcP (xok_iconst dX1_byteAt_21 rfl) rfl (xcP xok_fal rfl trivial)
theorem okX1_byteAt_22 : XOkL xms rX1_byteAt bX1_byteAt_22 := xcR ⟨dX1_byteAt_22, rfl⟩
theorem okM_X1_byteAt : XOkM xms rX1_byteAt := xokM0 (List.forall_mem_cons.mpr ⟨⟨rfl, okX1_byteAt_0⟩, List.forall_mem_cons.mpr ⟨⟨rfl, okX1_byteAt_21⟩, List.forall_mem_cons.mpr ⟨⟨rfl, okX1_byteAt_22⟩, fun _ h => nomatch h⟩⟩⟩) (xokH0 rfl (fun _ _ => rfl)) (by decide +kernel) (by decide)
abbrev cX1_add : ByteArray := prog_25_method_5_code
def dkwX1_add_1 : List UInt8 := [42, 180, 0, 29, 29, 79, 42, 89, 180, 0, 29, 4, 96, 181, 0, 29, 177]
abbrev dktX1_add_1 : List UInt8 := dkwX1_add_1 ++ []
def dkwX1_add_0 : List UInt8 := [42, 180, 0, 15, 42, 180, 0, 29, 27, 79, 42, 180, 0, 19, 42, 180, 0, 29, 28, 79, 42, 180, 0, 22]
abbrev dktX1_add_0 : List UInt8 := dkwX1_add_0 ++ dktX1_add_1
theorem dksX1_add_0 : cX1_add.data.toList.drop 0 = dktX1_add_0 := by decide +kernel
theorem dksX1_add_1 : cX1_add.data.toList.drop 24 = dktX1_add_1 := dk_seg dksX1_add_0 24 rfl rfl
theorem dX1_add_0 : decode cX1_add 0 = .ok (.aload_n 0, 1) := dk_42 (dk_at dksX1_add_0 0 rfl rfl)
theorem dX1_add_1 : decode cX1_add 1 = .ok (.getfield 15, 3) := dk_180 0 15 (dk_at dksX1_add_0 1 rfl rfl)
theorem dX1_add_4 : decode cX1_add 4 = .ok (.aload_n 0, 1) := dk_42 (dk_at dksX1_add_0 4 rfl rfl)
theorem dX1_add_5 : decode cX1_add 5 = .ok (.getfield 29, 3) := dk_180 0 29 (dk_at dksX1_add_0 5 rfl rfl)
theorem dX1_add_8 : decode cX1_add 8 = .ok (.iload_n 1, 1) := dk_27 (dk_at dksX1_add_0 8 rfl rfl)
theorem dX1_add_9 : decode cX1_add 9 = .ok (.iastore, 1) := dk_79 (dk_at dksX1_add_0 9 rfl rfl)
theorem dX1_add_10 : decode cX1_add 10 = .ok (.aload_n 0, 1) := dk_42 (dk_at dksX1_add_0 10 rfl rfl)
theorem dX1_add_11 : decode cX1_add 11 = .ok (.getfield 19, 3) := dk_180 0 19 (dk_at dksX1_add_0 11 rfl rfl)
theorem dX1_add_14 : decode cX1_add 14 = .ok (.aload_n 0, 1) := dk_42 (dk_at dksX1_add_0 14 rfl rfl)
theorem dX1_add_15 : decode cX1_add 15 = .ok (.getfield 29, 3) := dk_180 0 29 (dk_at dksX1_add_0 15 rfl rfl)
theorem dX1_add_18 : decode cX1_add 18 = .ok (.iload_n 2, 1) := dk_28 (dk_at dksX1_add_0 18 rfl rfl)
theorem dX1_add_19 : decode cX1_add 19 = .ok (.iastore, 1) := dk_79 (dk_at dksX1_add_0 19 rfl rfl)
theorem dX1_add_20 : decode cX1_add 20 = .ok (.aload_n 0, 1) := dk_42 (dk_at dksX1_add_0 20 rfl rfl)
theorem dX1_add_21 : decode cX1_add 21 = .ok (.getfield 22, 3) := dk_180 0 22 (dk_at dksX1_add_0 21 rfl rfl)
theorem dX1_add_24 : decode cX1_add 24 = .ok (.aload_n 0, 1) := dk_42 (dk_at dksX1_add_1 0 rfl rfl)
theorem dX1_add_25 : decode cX1_add 25 = .ok (.getfield 29, 3) := dk_180 0 29 (dk_at dksX1_add_1 1 rfl rfl)
theorem dX1_add_28 : decode cX1_add 28 = .ok (.iload_n 3, 1) := dk_29 (dk_at dksX1_add_1 4 rfl rfl)
theorem dX1_add_29 : decode cX1_add 29 = .ok (.iastore, 1) := dk_79 (dk_at dksX1_add_1 5 rfl rfl)
theorem dX1_add_30 : decode cX1_add 30 = .ok (.aload_n 0, 1) := dk_42 (dk_at dksX1_add_1 6 rfl rfl)
theorem dX1_add_31 : decode cX1_add 31 = .ok (.dup, 1) := dk_89 (dk_at dksX1_add_1 7 rfl rfl)
theorem dX1_add_32 : decode cX1_add 32 = .ok (.getfield 29, 3) := dk_180 0 29 (dk_at dksX1_add_1 8 rfl rfl)
theorem dX1_add_35 : decode cX1_add 35 = .ok (.iconst 1, 1) := dk_4 (dk_at dksX1_add_1 11 rfl rfl)
theorem dX1_add_36 : decode cX1_add 36 = .ok (.iadd, 1) := dk_96 (dk_at dksX1_add_1 12 rfl rfl)
theorem dX1_add_37 : decode cX1_add 37 = .ok (.putfield 29, 3) := dk_181 0 29 (dk_at dksX1_add_1 13 rfl rfl)
theorem dX1_add_40 : decode cX1_add 40 = .ok (.return_, 1) := dk_177 (dk_at dksX1_add_1 16 rfl rfl)
theorem okX1_add_0 : XOkL xms rX1_add bX1_add_0 := xcP (xok_aload_n dX1_add_0 rfl) rfl (xcP (xok_getfield (ref := "WaysAtlas$Scanner") (Or.inr ⟨rfl, by decide⟩) dX1_add_1 (Or.inl ⟨q198, (Or.inl rfl)⟩) xh1011) rfl (xcP (xok_aload_n dX1_add_4 rfl) rfl (xcP (xok_getfield (ref := "WaysAtlas$Scanner") (Or.inl ⟨rfl, by decide⟩) dX1_add_5 (Or.inl ⟨q204, (Or.inl rfl)⟩) xh3) rfl (xcP (xok_iload_n dX1_add_8 rfl) rfl (xcP (xok_iastore dX1_add_9) rfl (xcP (xok_aload_n dX1_add_10 rfl) rfl (xcP (xok_getfield (ref := "WaysAtlas$Scanner") (Or.inr ⟨rfl, by decide⟩) dX1_add_11 (Or.inl ⟨q200, (Or.inl rfl)⟩) xh1012) rfl (xcP (xok_aload_n dX1_add_14 rfl) rfl (xcP (xok_getfield (ref := "WaysAtlas$Scanner") (Or.inl ⟨rfl, by decide⟩) dX1_add_15 (Or.inl ⟨q204, (Or.inl rfl)⟩) xh3) rfl (xcP (xok_iload_n dX1_add_18 rfl) rfl (xcP (xok_iastore dX1_add_19) rfl (xcP (xok_aload_n dX1_add_20 rfl) rfl (xcP (xok_getfield (ref := "WaysAtlas$Scanner") (Or.inr ⟨rfl, by decide⟩) dX1_add_21 (Or.inl ⟨q202, (Or.inl rfl)⟩) xh1013) rfl (xcP (xok_aload_n dX1_add_24 rfl) rfl (xcP (xok_getfield (ref := "WaysAtlas$Scanner") (Or.inl ⟨rfl, by decide⟩) dX1_add_25 (Or.inl ⟨q204, (Or.inl rfl)⟩) xh3) rfl (xcP (xok_iload_n dX1_add_28 rfl) rfl (xcP (xok_iastore dX1_add_29) rfl (xcP (xok_aload_n dX1_add_30 rfl) rfl (xcP (xok_dup dX1_add_31) rfl (xcP (xok_getfield (ref := "WaysAtlas$Scanner") (Or.inl ⟨rfl, by decide⟩) dX1_add_32 (Or.inl ⟨q204, (Or.inl rfl)⟩) xh3) rfl (xcP (xok_iconst dX1_add_35 rfl) rfl (xcP (xok_iadd dX1_add_36) rfl (xcP (xok_putfield (ref := "WaysAtlas$Scanner") (Or.inl ⟨rfl, by decide, rfl⟩) dX1_add_37 (Or.inl ⟨q204, (Or.inl rfl)⟩) (Or.inl rfl) xh3) rfl (xcR ⟨dX1_add_40, rfl⟩))))))))))))))))))))))))
theorem okM_X1_add : XOkM xms rX1_add := xokM0 (List.forall_mem_cons.mpr ⟨⟨rfl, okX1_add_0⟩, fun _ h => nomatch h⟩) (xokH0 rfl (fun _ _ => rfl)) (by decide +kernel) (by decide)
abbrev cX1_isLetter : ByteArray := prog_25_method_3_code
def dkwX1_isLetter_0 : List UInt8 := [26, 16, 97, 161, 0, 13, 26, 16, 122, 163, 0, 7, 4, 167, 0, 4, 3, 172]
abbrev dktX1_isLetter_0 : List UInt8 := dkwX1_isLetter_0 ++ []
theorem dksX1_isLetter_0 : cX1_isLetter.data.toList.drop 0 = dktX1_isLetter_0 := by decide +kernel
theorem dX1_isLetter_0 : decode cX1_isLetter 0 = .ok (.iload_n 0, 1) := dk_26 (dk_at dksX1_isLetter_0 0 rfl rfl)
theorem dX1_isLetter_1 : decode cX1_isLetter 1 = .ok (.bipush 97, 2) := dk_16 97 (dk_at dksX1_isLetter_0 1 rfl rfl)
theorem dX1_isLetter_3 : decode cX1_isLetter 3 = .ok (.if_icmp .lt 13, 3) := dk_161 0 13 (dk_at dksX1_isLetter_0 3 rfl rfl)
theorem dX1_isLetter_6 : decode cX1_isLetter 6 = .ok (.iload_n 0, 1) := dk_26 (dk_at dksX1_isLetter_0 6 rfl rfl)
theorem dX1_isLetter_7 : decode cX1_isLetter 7 = .ok (.bipush 122, 2) := dk_16 122 (dk_at dksX1_isLetter_0 7 rfl rfl)
theorem dX1_isLetter_9 : decode cX1_isLetter 9 = .ok (.if_icmp .gt 7, 3) := dk_163 0 7 (dk_at dksX1_isLetter_0 9 rfl rfl)
theorem dX1_isLetter_12 : decode cX1_isLetter 12 = .ok (.iconst 1, 1) := dk_4 (dk_at dksX1_isLetter_0 12 rfl rfl)
theorem dX1_isLetter_13 : decode cX1_isLetter 13 = .ok (.goto 4, 3) := dk_167 0 4 (dk_at dksX1_isLetter_0 13 rfl rfl)
theorem dX1_isLetter_16 : decode cX1_isLetter 16 = .ok (.iconst 0, 1) := dk_3 (dk_at dksX1_isLetter_0 16 rfl rfl)
theorem dX1_isLetter_17 : decode cX1_isLetter 17 = .ok (.ireturn, 1) := dk_172 (dk_at dksX1_isLetter_0 17 rfl rfl)
theorem okX1_isLetter_0 : XOkL xms rX1_isLetter bX1_isLetter_0 := xcP (xok_iload_n dX1_isLetter_0 rfl) rfl (xcP (xok_bipush dX1_isLetter_1 rfl) rfl (xcP (xok_icmplt dX1_isLetter_3 (by decide)) rfl (xcP (xok_iload_n dX1_isLetter_6 rfl) rfl (xcP (xok_bipush dX1_isLetter_7 rfl) rfl (xcP (xok_icmpgt dX1_isLetter_9 (by decide)) rfl (xcP (xok_iconst dX1_isLetter_12 rfl) rfl (xcP (xok_goto dX1_isLetter_13 (by decide)) rfl trivial)))))))
theorem okX1_isLetter_16 : XOkL xms rX1_isLetter bX1_isLetter_16 := xcP (xok_iconst dX1_isLetter_16 rfl) rfl (xcP xok_fal rfl trivial)
theorem okX1_isLetter_17 : XOkL xms rX1_isLetter bX1_isLetter_17 := xcR ⟨dX1_isLetter_17, rfl⟩
theorem okM_X1_isLetter : XOkM xms rX1_isLetter := xokM0 (List.forall_mem_cons.mpr ⟨⟨rfl, okX1_isLetter_0⟩, List.forall_mem_cons.mpr ⟨⟨rfl, okX1_isLetter_16⟩, List.forall_mem_cons.mpr ⟨⟨rfl, okX1_isLetter_17⟩, fun _ h => nomatch h⟩⟩⟩) (xokH0 rfl (fun _ _ => rfl)) (by decide +kernel) (by decide)
abbrev cX1_word : ByteArray := prog_25_method_8_code
def dkwX1_word_7 : List UInt8 := [132, 2, 1, 167, 255, 224, 42, 4, 27, 3, 182, 0, 39, 177]
abbrev dktX1_word_7 : List UInt8 := dkwX1_word_7 ++ []
def dkwX1_word_6 : List UInt8 := [162, 0, 30, 42, 178, 0, 56, 28, 50, 27, 182, 0, 60, 153, 0, 11, 42, 5, 27, 28, 182, 0, 39, 177]
abbrev dktX1_word_6 : List UInt8 := dkwX1_word_6 ++ dktX1_word_7
def dkwX1_word_5 : List UInt8 := [156, 0, 7, 4, 167, 0, 4, 29, 27, 21, 4, 182, 0, 39, 177, 3, 61, 28, 178, 0, 56, 190]
abbrev dktX1_word_5 : List UInt8 := dkwX1_word_5 ++ dktX1_word_6
def dkwX1_word_4 : List UInt8 := [28, 16, 114, 160, 0, 8, 16, 6, 167, 0, 4, 4, 62, 42, 5, 182, 0, 53, 54, 4, 42, 21, 4]
abbrev dktX1_word_4 : List UInt8 := dkwX1_word_4 ++ dktX1_word_5
def dkwX1_word_3 : List UInt8 := [6, 167, 0, 35, 28, 16, 109, 160, 0, 7, 7, 167, 0, 25, 28, 16, 118, 160, 0, 7, 8, 167, 0, 15]
abbrev dktX1_word_3 : List UInt8 := dkwX1_word_3 ++ dktX1_word_4
def dkwX1_word_2 : List UInt8 := [182, 0, 35, 61, 42, 180, 0, 32, 27, 100, 4, 164, 0, 7, 4, 167, 0, 45, 28, 16, 107, 160, 0, 7]
abbrev dktX1_word_2 : List UInt8 := dkwX1_word_2 ++ dktX1_word_3
def dkwX1_word_1 : List UInt8 := [4, 96, 181, 0, 32, 167, 255, 232, 42, 42, 180, 0, 32, 182, 0, 35, 184, 0, 50, 153, 0, 91, 42, 27]
abbrev dktX1_word_1 : List UInt8 := dkwX1_word_1 ++ dktX1_word_2
def dkwX1_word_0 : List UInt8 := [42, 180, 0, 32, 60, 42, 42, 180, 0, 32, 182, 0, 35, 184, 0, 43, 153, 0, 16, 42, 89, 180, 0, 32]
abbrev dktX1_word_0 : List UInt8 := dkwX1_word_0 ++ dktX1_word_1
theorem dksX1_word_0 : cX1_word.data.toList.drop 0 = dktX1_word_0 := by decide +kernel
theorem dksX1_word_1 : cX1_word.data.toList.drop 24 = dktX1_word_1 := dk_seg dksX1_word_0 24 rfl rfl
theorem dksX1_word_2 : cX1_word.data.toList.drop 48 = dktX1_word_2 := dk_seg dksX1_word_1 24 rfl rfl
theorem dksX1_word_3 : cX1_word.data.toList.drop 72 = dktX1_word_3 := dk_seg dksX1_word_2 24 rfl rfl
theorem dksX1_word_4 : cX1_word.data.toList.drop 96 = dktX1_word_4 := dk_seg dksX1_word_3 24 rfl rfl
theorem dksX1_word_5 : cX1_word.data.toList.drop 119 = dktX1_word_5 := dk_seg dksX1_word_4 23 rfl rfl
theorem dksX1_word_6 : cX1_word.data.toList.drop 141 = dktX1_word_6 := dk_seg dksX1_word_5 22 rfl rfl
theorem dksX1_word_7 : cX1_word.data.toList.drop 165 = dktX1_word_7 := dk_seg dksX1_word_6 24 rfl rfl
theorem dX1_word_0 : decode cX1_word 0 = .ok (.aload_n 0, 1) := dk_42 (dk_at dksX1_word_0 0 rfl rfl)
theorem dX1_word_1 : decode cX1_word 1 = .ok (.getfield 32, 3) := dk_180 0 32 (dk_at dksX1_word_0 1 rfl rfl)
theorem dX1_word_4 : decode cX1_word 4 = .ok (.istore_n 1, 1) := dk_60 (dk_at dksX1_word_0 4 rfl rfl)
theorem dX1_word_5 : decode cX1_word 5 = .ok (.aload_n 0, 1) := dk_42 (dk_at dksX1_word_0 5 rfl rfl)
theorem dX1_word_6 : decode cX1_word 6 = .ok (.aload_n 0, 1) := dk_42 (dk_at dksX1_word_0 6 rfl rfl)
theorem dX1_word_7 : decode cX1_word 7 = .ok (.getfield 32, 3) := dk_180 0 32 (dk_at dksX1_word_0 7 rfl rfl)
theorem dX1_word_10 : decode cX1_word 10 = .ok (.invokevirtual 35, 3) := dk_182 0 35 (dk_at dksX1_word_0 10 rfl rfl)
theorem dX1_word_13 : decode cX1_word 13 = .ok (.invokestatic 43, 3) := dk_184 0 43 (dk_at dksX1_word_0 13 rfl rfl)
theorem dX1_word_16 : decode cX1_word 16 = .ok (.ifCond .eq 16, 3) := dk_153 0 16 (dk_at dksX1_word_0 16 rfl rfl)
theorem dX1_word_19 : decode cX1_word 19 = .ok (.aload_n 0, 1) := dk_42 (dk_at dksX1_word_0 19 rfl rfl)
theorem dX1_word_20 : decode cX1_word 20 = .ok (.dup, 1) := dk_89 (dk_at dksX1_word_0 20 rfl rfl)
theorem dX1_word_21 : decode cX1_word 21 = .ok (.getfield 32, 3) := dk_180 0 32 (dk_at dksX1_word_0 21 rfl rfl)
theorem dX1_word_24 : decode cX1_word 24 = .ok (.iconst 1, 1) := dk_4 (dk_at dksX1_word_1 0 rfl rfl)
theorem dX1_word_25 : decode cX1_word 25 = .ok (.iadd, 1) := dk_96 (dk_at dksX1_word_1 1 rfl rfl)
theorem dX1_word_26 : decode cX1_word 26 = .ok (.putfield 32, 3) := dk_181 0 32 (dk_at dksX1_word_1 2 rfl rfl)
theorem dX1_word_29 : decode cX1_word 29 = .ok (.goto (-24), 3) := dk_167 255 232 (dk_at dksX1_word_1 5 rfl rfl)
theorem dX1_word_32 : decode cX1_word 32 = .ok (.aload_n 0, 1) := dk_42 (dk_at dksX1_word_1 8 rfl rfl)
theorem dX1_word_33 : decode cX1_word 33 = .ok (.aload_n 0, 1) := dk_42 (dk_at dksX1_word_1 9 rfl rfl)
theorem dX1_word_34 : decode cX1_word 34 = .ok (.getfield 32, 3) := dk_180 0 32 (dk_at dksX1_word_1 10 rfl rfl)
theorem dX1_word_37 : decode cX1_word 37 = .ok (.invokevirtual 35, 3) := dk_182 0 35 (dk_at dksX1_word_1 13 rfl rfl)
theorem dX1_word_40 : decode cX1_word 40 = .ok (.invokestatic 50, 3) := dk_184 0 50 (dk_at dksX1_word_1 16 rfl rfl)
theorem dX1_word_43 : decode cX1_word 43 = .ok (.ifCond .eq 91, 3) := dk_153 0 91 (dk_at dksX1_word_1 19 rfl rfl)
theorem dX1_word_46 : decode cX1_word 46 = .ok (.aload_n 0, 1) := dk_42 (dk_at dksX1_word_1 22 rfl rfl)
theorem dX1_word_47 : decode cX1_word 47 = .ok (.iload_n 1, 1) := dk_27 (dk_at dksX1_word_1 23 rfl rfl)
theorem dX1_word_48 : decode cX1_word 48 = .ok (.invokevirtual 35, 3) := dk_182 0 35 (dk_at dksX1_word_2 0 rfl rfl)
theorem dX1_word_51 : decode cX1_word 51 = .ok (.istore_n 2, 1) := dk_61 (dk_at dksX1_word_2 3 rfl rfl)
theorem dX1_word_52 : decode cX1_word 52 = .ok (.aload_n 0, 1) := dk_42 (dk_at dksX1_word_2 4 rfl rfl)
theorem dX1_word_53 : decode cX1_word 53 = .ok (.getfield 32, 3) := dk_180 0 32 (dk_at dksX1_word_2 5 rfl rfl)
theorem dX1_word_56 : decode cX1_word 56 = .ok (.iload_n 1, 1) := dk_27 (dk_at dksX1_word_2 8 rfl rfl)
theorem dX1_word_57 : decode cX1_word 57 = .ok (.isub, 1) := dk_100 (dk_at dksX1_word_2 9 rfl rfl)
theorem dX1_word_58 : decode cX1_word 58 = .ok (.iconst 1, 1) := dk_4 (dk_at dksX1_word_2 10 rfl rfl)
theorem dX1_word_59 : decode cX1_word 59 = .ok (.if_icmp .le 7, 3) := dk_164 0 7 (dk_at dksX1_word_2 11 rfl rfl)
theorem dX1_word_62 : decode cX1_word 62 = .ok (.iconst 1, 1) := dk_4 (dk_at dksX1_word_2 14 rfl rfl)
theorem dX1_word_63 : decode cX1_word 63 = .ok (.goto 45, 3) := dk_167 0 45 (dk_at dksX1_word_2 15 rfl rfl)
theorem dX1_word_66 : decode cX1_word 66 = .ok (.iload_n 2, 1) := dk_28 (dk_at dksX1_word_2 18 rfl rfl)
theorem dX1_word_67 : decode cX1_word 67 = .ok (.bipush 107, 2) := dk_16 107 (dk_at dksX1_word_2 19 rfl rfl)
theorem dX1_word_69 : decode cX1_word 69 = .ok (.if_icmp .ne 7, 3) := dk_160 0 7 (dk_at dksX1_word_2 21 rfl rfl)
theorem dX1_word_72 : decode cX1_word 72 = .ok (.iconst 3, 1) := dk_6 (dk_at dksX1_word_3 0 rfl rfl)
theorem dX1_word_73 : decode cX1_word 73 = .ok (.goto 35, 3) := dk_167 0 35 (dk_at dksX1_word_3 1 rfl rfl)
theorem dX1_word_76 : decode cX1_word 76 = .ok (.iload_n 2, 1) := dk_28 (dk_at dksX1_word_3 4 rfl rfl)
theorem dX1_word_77 : decode cX1_word 77 = .ok (.bipush 109, 2) := dk_16 109 (dk_at dksX1_word_3 5 rfl rfl)
theorem dX1_word_79 : decode cX1_word 79 = .ok (.if_icmp .ne 7, 3) := dk_160 0 7 (dk_at dksX1_word_3 7 rfl rfl)
theorem dX1_word_82 : decode cX1_word 82 = .ok (.iconst 4, 1) := dk_7 (dk_at dksX1_word_3 10 rfl rfl)
theorem dX1_word_83 : decode cX1_word 83 = .ok (.goto 25, 3) := dk_167 0 25 (dk_at dksX1_word_3 11 rfl rfl)
theorem dX1_word_86 : decode cX1_word 86 = .ok (.iload_n 2, 1) := dk_28 (dk_at dksX1_word_3 14 rfl rfl)
theorem dX1_word_87 : decode cX1_word 87 = .ok (.bipush 118, 2) := dk_16 118 (dk_at dksX1_word_3 15 rfl rfl)
theorem dX1_word_89 : decode cX1_word 89 = .ok (.if_icmp .ne 7, 3) := dk_160 0 7 (dk_at dksX1_word_3 17 rfl rfl)
theorem dX1_word_92 : decode cX1_word 92 = .ok (.iconst 5, 1) := dk_8 (dk_at dksX1_word_3 20 rfl rfl)
theorem dX1_word_93 : decode cX1_word 93 = .ok (.goto 15, 3) := dk_167 0 15 (dk_at dksX1_word_3 21 rfl rfl)
theorem dX1_word_96 : decode cX1_word 96 = .ok (.iload_n 2, 1) := dk_28 (dk_at dksX1_word_4 0 rfl rfl)
theorem dX1_word_97 : decode cX1_word 97 = .ok (.bipush 114, 2) := dk_16 114 (dk_at dksX1_word_4 1 rfl rfl)
theorem dX1_word_99 : decode cX1_word 99 = .ok (.if_icmp .ne 8, 3) := dk_160 0 8 (dk_at dksX1_word_4 3 rfl rfl)
theorem dX1_word_102 : decode cX1_word 102 = .ok (.bipush 6, 2) := dk_16 6 (dk_at dksX1_word_4 6 rfl rfl)
theorem dX1_word_104 : decode cX1_word 104 = .ok (.goto 4, 3) := dk_167 0 4 (dk_at dksX1_word_4 8 rfl rfl)
theorem dX1_word_107 : decode cX1_word 107 = .ok (.iconst 1, 1) := dk_4 (dk_at dksX1_word_4 11 rfl rfl)
theorem dX1_word_108 : decode cX1_word 108 = .ok (.istore_n 3, 1) := dk_62 (dk_at dksX1_word_4 12 rfl rfl)
theorem dX1_word_109 : decode cX1_word 109 = .ok (.aload_n 0, 1) := dk_42 (dk_at dksX1_word_4 13 rfl rfl)
theorem dX1_word_110 : decode cX1_word 110 = .ok (.iconst 2, 1) := dk_5 (dk_at dksX1_word_4 14 rfl rfl)
theorem dX1_word_111 : decode cX1_word 111 = .ok (.invokevirtual 53, 3) := dk_182 0 53 (dk_at dksX1_word_4 15 rfl rfl)
theorem dX1_word_114 : decode cX1_word 114 = .ok (.istore 4, 2) := dk_54 4 (dk_at dksX1_word_4 18 rfl rfl)
theorem dX1_word_116 : decode cX1_word 116 = .ok (.aload_n 0, 1) := dk_42 (dk_at dksX1_word_4 20 rfl rfl)
theorem dX1_word_117 : decode cX1_word 117 = .ok (.iload 4, 2) := dk_21 4 (dk_at dksX1_word_4 21 rfl rfl)
theorem dX1_word_119 : decode cX1_word 119 = .ok (.ifCond .ge 7, 3) := dk_156 0 7 (dk_at dksX1_word_5 0 rfl rfl)
theorem dX1_word_122 : decode cX1_word 122 = .ok (.iconst 1, 1) := dk_4 (dk_at dksX1_word_5 3 rfl rfl)
theorem dX1_word_123 : decode cX1_word 123 = .ok (.goto 4, 3) := dk_167 0 4 (dk_at dksX1_word_5 4 rfl rfl)
theorem dX1_word_126 : decode cX1_word 126 = .ok (.iload_n 3, 1) := dk_29 (dk_at dksX1_word_5 7 rfl rfl)
theorem dX1_word_127 : decode cX1_word 127 = .ok (.iload_n 1, 1) := dk_27 (dk_at dksX1_word_5 8 rfl rfl)
theorem dX1_word_128 : decode cX1_word 128 = .ok (.iload 4, 2) := dk_21 4 (dk_at dksX1_word_5 9 rfl rfl)
theorem dX1_word_130 : decode cX1_word 130 = .ok (.invokevirtual 39, 3) := dk_182 0 39 (dk_at dksX1_word_5 11 rfl rfl)
theorem dX1_word_133 : decode cX1_word 133 = .ok (.return_, 1) := dk_177 (dk_at dksX1_word_5 14 rfl rfl)
theorem dX1_word_134 : decode cX1_word 134 = .ok (.iconst 0, 1) := dk_3 (dk_at dksX1_word_5 15 rfl rfl)
theorem dX1_word_135 : decode cX1_word 135 = .ok (.istore_n 2, 1) := dk_61 (dk_at dksX1_word_5 16 rfl rfl)
theorem dX1_word_136 : decode cX1_word 136 = .ok (.iload_n 2, 1) := dk_28 (dk_at dksX1_word_5 17 rfl rfl)
theorem dX1_word_137 : decode cX1_word 137 = .ok (.getstatic 56, 3) := dk_178 0 56 (dk_at dksX1_word_5 18 rfl rfl)
theorem dX1_word_140 : decode cX1_word 140 = .ok (.arraylength, 1) := dk_190 (dk_at dksX1_word_5 21 rfl rfl)
theorem dX1_word_141 : decode cX1_word 141 = .ok (.if_icmp .ge 30, 3) := dk_162 0 30 (dk_at dksX1_word_6 0 rfl rfl)
theorem dX1_word_144 : decode cX1_word 144 = .ok (.aload_n 0, 1) := dk_42 (dk_at dksX1_word_6 3 rfl rfl)
theorem dX1_word_145 : decode cX1_word 145 = .ok (.getstatic 56, 3) := dk_178 0 56 (dk_at dksX1_word_6 4 rfl rfl)
theorem dX1_word_148 : decode cX1_word 148 = .ok (.iload_n 2, 1) := dk_28 (dk_at dksX1_word_6 7 rfl rfl)
theorem dX1_word_149 : decode cX1_word 149 = .ok (.aaload, 1) := dk_50 (dk_at dksX1_word_6 8 rfl rfl)
theorem dX1_word_150 : decode cX1_word 150 = .ok (.iload_n 1, 1) := dk_27 (dk_at dksX1_word_6 9 rfl rfl)
theorem dX1_word_151 : decode cX1_word 151 = .ok (.invokevirtual 60, 3) := dk_182 0 60 (dk_at dksX1_word_6 10 rfl rfl)
theorem dX1_word_154 : decode cX1_word 154 = .ok (.ifCond .eq 11, 3) := dk_153 0 11 (dk_at dksX1_word_6 13 rfl rfl)
theorem dX1_word_157 : decode cX1_word 157 = .ok (.aload_n 0, 1) := dk_42 (dk_at dksX1_word_6 16 rfl rfl)
theorem dX1_word_158 : decode cX1_word 158 = .ok (.iconst 2, 1) := dk_5 (dk_at dksX1_word_6 17 rfl rfl)
theorem dX1_word_159 : decode cX1_word 159 = .ok (.iload_n 1, 1) := dk_27 (dk_at dksX1_word_6 18 rfl rfl)
theorem dX1_word_160 : decode cX1_word 160 = .ok (.iload_n 2, 1) := dk_28 (dk_at dksX1_word_6 19 rfl rfl)
theorem dX1_word_161 : decode cX1_word 161 = .ok (.invokevirtual 39, 3) := dk_182 0 39 (dk_at dksX1_word_6 20 rfl rfl)
theorem dX1_word_164 : decode cX1_word 164 = .ok (.return_, 1) := dk_177 (dk_at dksX1_word_6 23 rfl rfl)
theorem dX1_word_165 : decode cX1_word 165 = .ok (.iinc 2 1, 3) := dk_132 2 1 (dk_at dksX1_word_7 0 rfl rfl)
theorem dX1_word_168 : decode cX1_word 168 = .ok (.goto (-32), 3) := dk_167 255 224 (dk_at dksX1_word_7 3 rfl rfl)
theorem dX1_word_171 : decode cX1_word 171 = .ok (.aload_n 0, 1) := dk_42 (dk_at dksX1_word_7 6 rfl rfl)
theorem dX1_word_172 : decode cX1_word 172 = .ok (.iconst 1, 1) := dk_4 (dk_at dksX1_word_7 7 rfl rfl)
theorem dX1_word_173 : decode cX1_word 173 = .ok (.iload_n 1, 1) := dk_27 (dk_at dksX1_word_7 8 rfl rfl)
theorem dX1_word_174 : decode cX1_word 174 = .ok (.iconst 0, 1) := dk_3 (dk_at dksX1_word_7 9 rfl rfl)
theorem dX1_word_175 : decode cX1_word 175 = .ok (.invokevirtual 39, 3) := dk_182 0 39 (dk_at dksX1_word_7 10 rfl rfl)
theorem dX1_word_178 : decode cX1_word 178 = .ok (.return_, 1) := dk_177 (dk_at dksX1_word_7 13 rfl rfl)
theorem okX1_word_0 : XOkL xms rX1_word bX1_word_0 := xcP (xok_aload_n dX1_word_0 rfl) rfl (xcP (xok_getfield (ref := "WaysAtlas$Scanner") (Or.inl ⟨rfl, by decide⟩) dX1_word_1 (Or.inl ⟨q205, (Or.inl rfl)⟩) xh4) rfl (xcP (xok_istore_n dX1_word_4 rfl) rfl (xcP xok_fal rfl trivial)))
theorem okX1_word_5 : XOkL xms rX1_word bX1_word_5 := xcP (xok_aload_n dX1_word_5 rfl) rfl (xcP (xok_aload_n dX1_word_6 rfl) rfl (xcP (xok_getfield (ref := "WaysAtlas$Scanner") (Or.inl ⟨rfl, by decide⟩) dX1_word_7 (Or.inl ⟨q205, (Or.inl rfl)⟩) xh4) rfl (xcC0 (xokc_list (List.forall_mem_cons.mpr ⟨xokc_V (r := (RX1, TX1, 7)) xm32 (List.mem_of_getElem? (i := 1) rfl) (by decide) rfl dX1_word_10 q692 q694 qs2 q139 q695 (by decide +kernel), fun _ h => nomatch h⟩)) rfl (xcC0 (xokc_S xm34 rfl dX1_word_13 q700 q701 q139 q702 (by decide +kernel)) rfl (xcP (xok_ifeq dX1_word_16 (by decide)) rfl (xcP (xok_aload_n dX1_word_19 rfl) rfl (xcP (xok_dup dX1_word_20) rfl (xcP (xok_getfield (ref := "WaysAtlas$Scanner") (Or.inl ⟨rfl, by decide⟩) dX1_word_21 (Or.inl ⟨q205, (Or.inl rfl)⟩) xh4) rfl (xcP (xok_iconst dX1_word_24 rfl) rfl (xcP (xok_iadd dX1_word_25) rfl (xcP (xok_putfield (ref := "WaysAtlas$Scanner") (Or.inl ⟨rfl, by decide, rfl⟩) dX1_word_26 (Or.inl ⟨q205, (Or.inl rfl)⟩) (Or.inl rfl) xh4) rfl (xcP (xok_goto dX1_word_29 (by decide)) rfl trivial))))))))))))
theorem okX1_word_32 : XOkL xms rX1_word bX1_word_32 := xcP (xok_aload_n dX1_word_32 rfl) rfl (xcP (xok_aload_n dX1_word_33 rfl) rfl (xcP (xok_getfield (ref := "WaysAtlas$Scanner") (Or.inl ⟨rfl, by decide⟩) dX1_word_34 (Or.inl ⟨q205, (Or.inl rfl)⟩) xh4) rfl (xcC0 (xokc_list (List.forall_mem_cons.mpr ⟨xokc_V (r := (RX1, TX1, 7)) xm32 (List.mem_of_getElem? (i := 1) rfl) (by decide) rfl dX1_word_37 q692 q694 qs2 q139 q695 (by decide +kernel), fun _ h => nomatch h⟩)) rfl (xcC0 (xokc_S xm36 rfl dX1_word_40 q707 q708 q139 q709 (by decide +kernel)) rfl (xcP (xok_ifeq dX1_word_43 (by decide)) rfl (xcP (xok_aload_n dX1_word_46 rfl) rfl (xcP (xok_iload_n dX1_word_47 rfl) rfl (xcC0 (xokc_list (List.forall_mem_cons.mpr ⟨xokc_V (r := (RX1, TX1, 7)) xm32 (List.mem_of_getElem? (i := 1) rfl) (by decide) rfl dX1_word_48 q692 q694 qs2 q139 q695 (by decide +kernel), fun _ h => nomatch h⟩)) rfl (xcP (xok_istore_n dX1_word_51 rfl) rfl (xcP (xok_aload_n dX1_word_52 rfl) rfl (xcP (xok_getfield (ref := "WaysAtlas$Scanner") (Or.inl ⟨rfl, by decide⟩) dX1_word_53 (Or.inl ⟨q205, (Or.inl rfl)⟩) xh4) rfl (xcP (xok_iload_n dX1_word_56 rfl) rfl (xcP (xok_isub dX1_word_57) rfl (xcP (xok_iconst dX1_word_58 rfl) rfl (xcP (xok_icmple dX1_word_59 (by decide)) rfl (xcP (xok_iconst dX1_word_62 rfl) rfl (xcP (xok_goto dX1_word_63 (by decide)) rfl trivial)))))))))))))))))
theorem okX1_word_66 : XOkL xms rX1_word bX1_word_66 := xcP (xok_iload_n dX1_word_66 rfl) rfl (xcP (xok_bipush dX1_word_67 rfl) rfl (xcP (xok_icmpne dX1_word_69 (by decide)) rfl (xcP (xok_iconst dX1_word_72 rfl) rfl (xcP (xok_goto dX1_word_73 (by decide)) rfl trivial))))
theorem okX1_word_76 : XOkL xms rX1_word bX1_word_76 := xcP (xok_iload_n dX1_word_76 rfl) rfl (xcP (xok_bipush dX1_word_77 rfl) rfl (xcP (xok_icmpne dX1_word_79 (by decide)) rfl (xcP (xok_iconst dX1_word_82 rfl) rfl (xcP (xok_goto dX1_word_83 (by decide)) rfl trivial))))
theorem okX1_word_86 : XOkL xms rX1_word bX1_word_86 := xcP (xok_iload_n dX1_word_86 rfl) rfl (xcP (xok_bipush dX1_word_87 rfl) rfl (xcP (xok_icmpne dX1_word_89 (by decide)) rfl (xcP (xok_iconst dX1_word_92 rfl) rfl (xcP (xok_goto dX1_word_93 (by decide)) rfl trivial))))
theorem okX1_word_96 : XOkL xms rX1_word bX1_word_96 := xcP (xok_iload_n dX1_word_96 rfl) rfl (xcP (xok_bipush dX1_word_97 rfl) rfl (xcP (xok_icmpne dX1_word_99 (by decide)) rfl (xcP (xok_bipush dX1_word_102 rfl) rfl (xcP (xok_goto dX1_word_104 (by decide)) rfl trivial))))
theorem okX1_word_107 : XOkL xms rX1_word bX1_word_107 := xcP (xok_iconst dX1_word_107 rfl) rfl (xcP xok_fal rfl trivial)
theorem okX1_word_108 : XOkL xms rX1_word bX1_word_108 := xcP (xok_istore_n dX1_word_108 rfl) rfl (xcP (xok_aload_n dX1_word_109 rfl) rfl (xcP (xok_iconst dX1_word_110 rfl) rfl (xcC0 (xokc_list (List.forall_mem_cons.mpr ⟨xokc_V (r := (RX1, TX1, 7)) xm37 (List.mem_of_getElem? (i := 1) rfl) (by decide) rfl dX1_word_111 q710 q712 qs5 q139 q713 (by decide +kernel), fun _ h => nomatch h⟩)) rfl (xcP (xok_istore dX1_word_114) rfl (xcP (xok_aload_n dX1_word_116 rfl) rfl (xcP (xok_iload dX1_word_117) rfl (xcP (xok_ifge dX1_word_119 (by decide)) rfl (xcP (xok_iconst dX1_word_122 rfl) rfl (xcP (xok_goto dX1_word_123 (by decide)) rfl trivial)))))))))
theorem okX1_word_126 : XOkL xms rX1_word bX1_word_126 := xcP (xok_iload_n dX1_word_126 rfl) rfl (xcP xok_fal rfl trivial)
theorem okX1_word_127 : XOkL xms rX1_word bX1_word_127 := xcP (xok_iload_n dX1_word_127 rfl) rfl (xcP (xok_iload dX1_word_128) rfl (xcC0 (xokc_list (List.forall_mem_cons.mpr ⟨xokc_V (r := (RX1, TX1, 7)) xm33 (List.mem_of_getElem? (i := 1) rfl) (by decide) rfl dX1_word_130 q696 q698 qs3 q139 q699 (by decide +kernel), fun _ h => nomatch h⟩)) rfl (xcR ⟨dX1_word_133, rfl⟩)))
theorem okX1_word_134 : XOkL xms rX1_word bX1_word_134 := xcP (xok_iconst dX1_word_134 rfl) rfl (xcP (xok_istore_n dX1_word_135 rfl) rfl (xcP xok_fal rfl trivial))
theorem okX1_word_136 : XOkL xms rX1_word bX1_word_136 := xcP (xok_iload_n dX1_word_136 rfl) rfl (xcP (xok_getsN (C := "WaysAtlas") (n := "WORDS") (t := "[Ljava/lang/String;") (host := "WaysAtlas") dX1_word_137 (List.mem_of_getElem? (i := 0) rfl) (List.mem_of_getElem? (i := 88) rfl)) rfl (xcP (xok_len dX1_word_140) rfl (xcP (xok_icmpge dX1_word_141 (by decide)) rfl (xcP (xok_aload_n dX1_word_144 rfl) rfl (xcP (xok_getsN (C := "WaysAtlas") (n := "WORDS") (t := "[Ljava/lang/String;") (host := "WaysAtlas") dX1_word_145 (List.mem_of_getElem? (i := 0) rfl) (List.mem_of_getElem? (i := 88) rfl)) rfl (xcP (xok_iload_n dX1_word_148 rfl) rfl (xcP (xok_aaload (by decide) rfl dX1_word_149) rfl (xcP (xok_iload_n dX1_word_150 rfl) rfl (xcC0 (xokc_list (List.forall_mem_cons.mpr ⟨xokc_V (r := (RX1, TX1, 7)) xm38 (List.mem_of_getElem? (i := 1) rfl) (by decide) rfl dX1_word_151 q716 q718 qs6 q139 q719 (by decide +kernel), fun _ h => nomatch h⟩)) rfl (xcP (xok_ifeq dX1_word_154 (by decide)) rfl (xcP (xok_aload_n dX1_word_157 rfl) rfl (xcP (xok_iconst dX1_word_158 rfl) rfl (xcP (xok_iload_n dX1_word_159 rfl) rfl (xcP (xok_iload_n dX1_word_160 rfl) rfl (xcC0 (xokc_list (List.forall_mem_cons.mpr ⟨xokc_V (r := (RX1, TX1, 7)) xm33 (List.mem_of_getElem? (i := 1) rfl) (by decide) rfl dX1_word_161 q696 q698 qs3 q139 q699 (by decide +kernel), fun _ h => nomatch h⟩)) rfl (xcR ⟨dX1_word_164, rfl⟩))))))))))))))))
theorem okX1_word_165 : XOkL xms rX1_word bX1_word_165 := xcP (xok_iinc dX1_word_165 rfl) rfl (xcP (xok_goto dX1_word_168 (by decide)) rfl trivial)
theorem okX1_word_171 : XOkL xms rX1_word bX1_word_171 := xcP (xok_aload_n dX1_word_171 rfl) rfl (xcP (xok_iconst dX1_word_172 rfl) rfl (xcP (xok_iload_n dX1_word_173 rfl) rfl (xcP (xok_iconst dX1_word_174 rfl) rfl (xcC0 (xokc_list (List.forall_mem_cons.mpr ⟨xokc_V (r := (RX1, TX1, 7)) xm33 (List.mem_of_getElem? (i := 1) rfl) (by decide) rfl dX1_word_175 q696 q698 qs3 q139 q699 (by decide +kernel), fun _ h => nomatch h⟩)) rfl (xcR ⟨dX1_word_178, rfl⟩)))))
theorem okM_X1_word : XOkM xms rX1_word := xokM0 (List.forall_mem_cons.mpr ⟨⟨rfl, okX1_word_0⟩, List.forall_mem_cons.mpr ⟨⟨rfl, okX1_word_5⟩, List.forall_mem_cons.mpr ⟨⟨rfl, okX1_word_32⟩, List.forall_mem_cons.mpr ⟨⟨rfl, okX1_word_66⟩, List.forall_mem_cons.mpr ⟨⟨rfl, okX1_word_76⟩, List.forall_mem_cons.mpr ⟨⟨rfl, okX1_word_86⟩, List.forall_mem_cons.mpr ⟨⟨rfl, okX1_word_96⟩, List.forall_mem_cons.mpr ⟨⟨rfl, okX1_word_107⟩, List.forall_mem_cons.mpr ⟨⟨rfl, okX1_word_108⟩, List.forall_mem_cons.mpr ⟨⟨rfl, okX1_word_126⟩, List.forall_mem_cons.mpr ⟨⟨rfl, okX1_word_127⟩, List.forall_mem_cons.mpr ⟨⟨rfl, okX1_word_134⟩, List.forall_mem_cons.mpr ⟨⟨rfl, okX1_word_136⟩, List.forall_mem_cons.mpr ⟨⟨rfl, okX1_word_165⟩, List.forall_mem_cons.mpr ⟨⟨rfl, okX1_word_171⟩, fun _ h => nomatch h⟩⟩⟩⟩⟩⟩⟩⟩⟩⟩⟩⟩⟩⟩⟩) (xokH0 rfl (fun _ _ => rfl)) (by decide +kernel) (by decide)
abbrev cX1_isDigit : ByteArray := prog_25_method_4_code
def dkwX1_isDigit_0 : List UInt8 := [26, 16, 48, 161, 0, 13, 26, 16, 57, 163, 0, 7, 4, 167, 0, 4, 3, 172]
abbrev dktX1_isDigit_0 : List UInt8 := dkwX1_isDigit_0 ++ []
theorem dksX1_isDigit_0 : cX1_isDigit.data.toList.drop 0 = dktX1_isDigit_0 := by decide +kernel
theorem dX1_isDigit_0 : decode cX1_isDigit 0 = .ok (.iload_n 0, 1) := dk_26 (dk_at dksX1_isDigit_0 0 rfl rfl)
theorem dX1_isDigit_1 : decode cX1_isDigit 1 = .ok (.bipush 48, 2) := dk_16 48 (dk_at dksX1_isDigit_0 1 rfl rfl)
theorem dX1_isDigit_3 : decode cX1_isDigit 3 = .ok (.if_icmp .lt 13, 3) := dk_161 0 13 (dk_at dksX1_isDigit_0 3 rfl rfl)
theorem dX1_isDigit_6 : decode cX1_isDigit 6 = .ok (.iload_n 0, 1) := dk_26 (dk_at dksX1_isDigit_0 6 rfl rfl)
theorem dX1_isDigit_7 : decode cX1_isDigit 7 = .ok (.bipush 57, 2) := dk_16 57 (dk_at dksX1_isDigit_0 7 rfl rfl)
theorem dX1_isDigit_9 : decode cX1_isDigit 9 = .ok (.if_icmp .gt 7, 3) := dk_163 0 7 (dk_at dksX1_isDigit_0 9 rfl rfl)
theorem dX1_isDigit_12 : decode cX1_isDigit 12 = .ok (.iconst 1, 1) := dk_4 (dk_at dksX1_isDigit_0 12 rfl rfl)
theorem dX1_isDigit_13 : decode cX1_isDigit 13 = .ok (.goto 4, 3) := dk_167 0 4 (dk_at dksX1_isDigit_0 13 rfl rfl)
theorem dX1_isDigit_16 : decode cX1_isDigit 16 = .ok (.iconst 0, 1) := dk_3 (dk_at dksX1_isDigit_0 16 rfl rfl)
theorem dX1_isDigit_17 : decode cX1_isDigit 17 = .ok (.ireturn, 1) := dk_172 (dk_at dksX1_isDigit_0 17 rfl rfl)
theorem okX1_isDigit_0 : XOkL xms rX1_isDigit bX1_isDigit_0 := xcP (xok_iload_n dX1_isDigit_0 rfl) rfl (xcP (xok_bipush dX1_isDigit_1 rfl) rfl (xcP (xok_icmplt dX1_isDigit_3 (by decide)) rfl (xcP (xok_iload_n dX1_isDigit_6 rfl) rfl (xcP (xok_bipush dX1_isDigit_7 rfl) rfl (xcP (xok_icmpgt dX1_isDigit_9 (by decide)) rfl (xcP (xok_iconst dX1_isDigit_12 rfl) rfl (xcP (xok_goto dX1_isDigit_13 (by decide)) rfl trivial)))))))
theorem okX1_isDigit_16 : XOkL xms rX1_isDigit bX1_isDigit_16 := xcP (xok_iconst dX1_isDigit_16 rfl) rfl (xcP xok_fal rfl trivial)
theorem okX1_isDigit_17 : XOkL xms rX1_isDigit bX1_isDigit_17 := xcR ⟨dX1_isDigit_17, rfl⟩
theorem okM_X1_isDigit : XOkM xms rX1_isDigit := xokM0 (List.forall_mem_cons.mpr ⟨⟨rfl, okX1_isDigit_0⟩, List.forall_mem_cons.mpr ⟨⟨rfl, okX1_isDigit_16⟩, List.forall_mem_cons.mpr ⟨⟨rfl, okX1_isDigit_17⟩, fun _ h => nomatch h⟩⟩⟩) (xokH0 rfl (fun _ _ => rfl)) (by decide +kernel) (by decide)
abbrev cX1_digits : ByteArray := prog_25_method_7_code
def dkwX1_digits_3 : List UInt8 := [100, 27, 164, 0, 7, 2, 167, 0, 4, 29, 172]
abbrev dktX1_digits_3 : List UInt8 := dkwX1_digits_3 ++ []
def dkwX1_digits_2 : List UInt8 := [100, 167, 0, 4, 29, 62, 42, 89, 180, 0, 32, 4, 96, 181, 0, 32, 167, 255, 201, 42, 180, 0, 32, 28]
abbrev dktX1_digits_2 : List UInt8 := dkwX1_digits_2 ++ dktX1_digits_3
def dkwX1_digits_1 : List UInt8 := [180, 0, 32, 28, 100, 27, 162, 0, 22, 16, 10, 29, 104, 42, 42, 180, 0, 32, 182, 0, 35, 96, 16, 48]
abbrev dktX1_digits_1 : List UInt8 := dkwX1_digits_1 ++ dktX1_digits_2
def dkwX1_digits_0 : List UInt8 := [42, 180, 0, 32, 61, 3, 62, 42, 42, 180, 0, 32, 182, 0, 35, 184, 0, 50, 153, 0, 47, 42]
abbrev dktX1_digits_0 : List UInt8 := dkwX1_digits_0 ++ dktX1_digits_1
theorem dksX1_digits_0 : cX1_digits.data.toList.drop 0 = dktX1_digits_0 := by decide +kernel
theorem dksX1_digits_1 : cX1_digits.data.toList.drop 22 = dktX1_digits_1 := dk_seg dksX1_digits_0 22 rfl rfl
theorem dksX1_digits_2 : cX1_digits.data.toList.drop 46 = dktX1_digits_2 := dk_seg dksX1_digits_1 24 rfl rfl
theorem dksX1_digits_3 : cX1_digits.data.toList.drop 70 = dktX1_digits_3 := dk_seg dksX1_digits_2 24 rfl rfl
theorem dX1_digits_0 : decode cX1_digits 0 = .ok (.aload_n 0, 1) := dk_42 (dk_at dksX1_digits_0 0 rfl rfl)
theorem dX1_digits_1 : decode cX1_digits 1 = .ok (.getfield 32, 3) := dk_180 0 32 (dk_at dksX1_digits_0 1 rfl rfl)
theorem dX1_digits_4 : decode cX1_digits 4 = .ok (.istore_n 2, 1) := dk_61 (dk_at dksX1_digits_0 4 rfl rfl)
theorem dX1_digits_5 : decode cX1_digits 5 = .ok (.iconst 0, 1) := dk_3 (dk_at dksX1_digits_0 5 rfl rfl)
theorem dX1_digits_6 : decode cX1_digits 6 = .ok (.istore_n 3, 1) := dk_62 (dk_at dksX1_digits_0 6 rfl rfl)
theorem dX1_digits_7 : decode cX1_digits 7 = .ok (.aload_n 0, 1) := dk_42 (dk_at dksX1_digits_0 7 rfl rfl)
theorem dX1_digits_8 : decode cX1_digits 8 = .ok (.aload_n 0, 1) := dk_42 (dk_at dksX1_digits_0 8 rfl rfl)
theorem dX1_digits_9 : decode cX1_digits 9 = .ok (.getfield 32, 3) := dk_180 0 32 (dk_at dksX1_digits_0 9 rfl rfl)
theorem dX1_digits_12 : decode cX1_digits 12 = .ok (.invokevirtual 35, 3) := dk_182 0 35 (dk_at dksX1_digits_0 12 rfl rfl)
theorem dX1_digits_15 : decode cX1_digits 15 = .ok (.invokestatic 50, 3) := dk_184 0 50 (dk_at dksX1_digits_0 15 rfl rfl)
theorem dX1_digits_18 : decode cX1_digits 18 = .ok (.ifCond .eq 47, 3) := dk_153 0 47 (dk_at dksX1_digits_0 18 rfl rfl)
theorem dX1_digits_21 : decode cX1_digits 21 = .ok (.aload_n 0, 1) := dk_42 (dk_at dksX1_digits_0 21 rfl rfl)
theorem dX1_digits_22 : decode cX1_digits 22 = .ok (.getfield 32, 3) := dk_180 0 32 (dk_at dksX1_digits_1 0 rfl rfl)
theorem dX1_digits_25 : decode cX1_digits 25 = .ok (.iload_n 2, 1) := dk_28 (dk_at dksX1_digits_1 3 rfl rfl)
theorem dX1_digits_26 : decode cX1_digits 26 = .ok (.isub, 1) := dk_100 (dk_at dksX1_digits_1 4 rfl rfl)
theorem dX1_digits_27 : decode cX1_digits 27 = .ok (.iload_n 1, 1) := dk_27 (dk_at dksX1_digits_1 5 rfl rfl)
theorem dX1_digits_28 : decode cX1_digits 28 = .ok (.if_icmp .ge 22, 3) := dk_162 0 22 (dk_at dksX1_digits_1 6 rfl rfl)
theorem dX1_digits_31 : decode cX1_digits 31 = .ok (.bipush 10, 2) := dk_16 10 (dk_at dksX1_digits_1 9 rfl rfl)
theorem dX1_digits_33 : decode cX1_digits 33 = .ok (.iload_n 3, 1) := dk_29 (dk_at dksX1_digits_1 11 rfl rfl)
theorem dX1_digits_34 : decode cX1_digits 34 = .ok (.imul, 1) := dk_104 (dk_at dksX1_digits_1 12 rfl rfl)
theorem dX1_digits_35 : decode cX1_digits 35 = .ok (.aload_n 0, 1) := dk_42 (dk_at dksX1_digits_1 13 rfl rfl)
theorem dX1_digits_36 : decode cX1_digits 36 = .ok (.aload_n 0, 1) := dk_42 (dk_at dksX1_digits_1 14 rfl rfl)
theorem dX1_digits_37 : decode cX1_digits 37 = .ok (.getfield 32, 3) := dk_180 0 32 (dk_at dksX1_digits_1 15 rfl rfl)
theorem dX1_digits_40 : decode cX1_digits 40 = .ok (.invokevirtual 35, 3) := dk_182 0 35 (dk_at dksX1_digits_1 18 rfl rfl)
theorem dX1_digits_43 : decode cX1_digits 43 = .ok (.iadd, 1) := dk_96 (dk_at dksX1_digits_1 21 rfl rfl)
theorem dX1_digits_44 : decode cX1_digits 44 = .ok (.bipush 48, 2) := dk_16 48 (dk_at dksX1_digits_1 22 rfl rfl)
theorem dX1_digits_46 : decode cX1_digits 46 = .ok (.isub, 1) := dk_100 (dk_at dksX1_digits_2 0 rfl rfl)
theorem dX1_digits_47 : decode cX1_digits 47 = .ok (.goto 4, 3) := dk_167 0 4 (dk_at dksX1_digits_2 1 rfl rfl)
theorem dX1_digits_50 : decode cX1_digits 50 = .ok (.iload_n 3, 1) := dk_29 (dk_at dksX1_digits_2 4 rfl rfl)
theorem dX1_digits_51 : decode cX1_digits 51 = .ok (.istore_n 3, 1) := dk_62 (dk_at dksX1_digits_2 5 rfl rfl)
theorem dX1_digits_52 : decode cX1_digits 52 = .ok (.aload_n 0, 1) := dk_42 (dk_at dksX1_digits_2 6 rfl rfl)
theorem dX1_digits_53 : decode cX1_digits 53 = .ok (.dup, 1) := dk_89 (dk_at dksX1_digits_2 7 rfl rfl)
theorem dX1_digits_54 : decode cX1_digits 54 = .ok (.getfield 32, 3) := dk_180 0 32 (dk_at dksX1_digits_2 8 rfl rfl)
theorem dX1_digits_57 : decode cX1_digits 57 = .ok (.iconst 1, 1) := dk_4 (dk_at dksX1_digits_2 11 rfl rfl)
theorem dX1_digits_58 : decode cX1_digits 58 = .ok (.iadd, 1) := dk_96 (dk_at dksX1_digits_2 12 rfl rfl)
theorem dX1_digits_59 : decode cX1_digits 59 = .ok (.putfield 32, 3) := dk_181 0 32 (dk_at dksX1_digits_2 13 rfl rfl)
theorem dX1_digits_62 : decode cX1_digits 62 = .ok (.goto (-55), 3) := dk_167 255 201 (dk_at dksX1_digits_2 16 rfl rfl)
theorem dX1_digits_65 : decode cX1_digits 65 = .ok (.aload_n 0, 1) := dk_42 (dk_at dksX1_digits_2 19 rfl rfl)
theorem dX1_digits_66 : decode cX1_digits 66 = .ok (.getfield 32, 3) := dk_180 0 32 (dk_at dksX1_digits_2 20 rfl rfl)
theorem dX1_digits_69 : decode cX1_digits 69 = .ok (.iload_n 2, 1) := dk_28 (dk_at dksX1_digits_2 23 rfl rfl)
theorem dX1_digits_70 : decode cX1_digits 70 = .ok (.isub, 1) := dk_100 (dk_at dksX1_digits_3 0 rfl rfl)
theorem dX1_digits_71 : decode cX1_digits 71 = .ok (.iload_n 1, 1) := dk_27 (dk_at dksX1_digits_3 1 rfl rfl)
theorem dX1_digits_72 : decode cX1_digits 72 = .ok (.if_icmp .le 7, 3) := dk_164 0 7 (dk_at dksX1_digits_3 2 rfl rfl)
theorem dX1_digits_75 : decode cX1_digits 75 = .ok (.iconst (-1), 1) := dk_2 (dk_at dksX1_digits_3 5 rfl rfl)
theorem dX1_digits_76 : decode cX1_digits 76 = .ok (.goto 4, 3) := dk_167 0 4 (dk_at dksX1_digits_3 6 rfl rfl)
theorem dX1_digits_79 : decode cX1_digits 79 = .ok (.iload_n 3, 1) := dk_29 (dk_at dksX1_digits_3 9 rfl rfl)
theorem dX1_digits_80 : decode cX1_digits 80 = .ok (.ireturn, 1) := dk_172 (dk_at dksX1_digits_3 10 rfl rfl)
theorem okX1_digits_0 : XOkL xms rX1_digits bX1_digits_0 := xcP (xok_aload_n dX1_digits_0 rfl) rfl (xcP (xok_getfield (ref := "WaysAtlas$Scanner") (Or.inl ⟨rfl, by decide⟩) dX1_digits_1 (Or.inl ⟨q205, (Or.inl rfl)⟩) xh4) rfl (xcP (xok_istore_n dX1_digits_4 rfl) rfl (xcP (xok_iconst dX1_digits_5 rfl) rfl (xcP (xok_istore_n dX1_digits_6 rfl) rfl (xcP xok_fal rfl trivial)))))
theorem okX1_digits_7 : XOkL xms rX1_digits bX1_digits_7 := xcP (xok_aload_n dX1_digits_7 rfl) rfl (xcP (xok_aload_n dX1_digits_8 rfl) rfl (xcP (xok_getfield (ref := "WaysAtlas$Scanner") (Or.inl ⟨rfl, by decide⟩) dX1_digits_9 (Or.inl ⟨q205, (Or.inl rfl)⟩) xh4) rfl (xcC0 (xokc_list (List.forall_mem_cons.mpr ⟨xokc_V (r := (RX1, TX1, 7)) xm32 (List.mem_of_getElem? (i := 1) rfl) (by decide) rfl dX1_digits_12 q692 q694 qs2 q139 q695 (by decide +kernel), fun _ h => nomatch h⟩)) rfl (xcC0 (xokc_S xm36 rfl dX1_digits_15 q707 q708 q139 q709 (by decide +kernel)) rfl (xcP (xok_ifeq dX1_digits_18 (by decide)) rfl (xcP (xok_aload_n dX1_digits_21 rfl) rfl (xcP (xok_getfield (ref := "WaysAtlas$Scanner") (Or.inl ⟨rfl, by decide⟩) dX1_digits_22 (Or.inl ⟨q205, (Or.inl rfl)⟩) xh4) rfl (xcP (xok_iload_n dX1_digits_25 rfl) rfl (xcP (xok_isub dX1_digits_26) rfl (xcP (xok_iload_n dX1_digits_27 rfl) rfl (xcP (xok_icmpge dX1_digits_28 (by decide)) rfl (xcP (xok_bipush dX1_digits_31 rfl) rfl (xcP (xok_iload_n dX1_digits_33 rfl) rfl (xcP (xok_imul dX1_digits_34) rfl (xcP (xok_aload_n dX1_digits_35 rfl) rfl (xcP (xok_aload_n dX1_digits_36 rfl) rfl (xcP (xok_getfield (ref := "WaysAtlas$Scanner") (Or.inl ⟨rfl, by decide⟩) dX1_digits_37 (Or.inl ⟨q205, (Or.inl rfl)⟩) xh4) rfl (xcC0 (xokc_list (List.forall_mem_cons.mpr ⟨xokc_V (r := (RX1, TX1, 7)) xm32 (List.mem_of_getElem? (i := 1) rfl) (by decide) rfl dX1_digits_40 q692 q694 qs2 q139 q695 (by decide +kernel), fun _ h => nomatch h⟩)) rfl (xcP (xok_iadd dX1_digits_43) rfl (xcP (xok_bipush dX1_digits_44 rfl) rfl (xcP (xok_isub dX1_digits_46) rfl (xcP (xok_goto dX1_digits_47 (by decide)) rfl trivial))))))))))))))))))))))
theorem okX1_digits_50 : XOkL xms rX1_digits bX1_digits_50 := xcP (xok_iload_n dX1_digits_50 rfl) rfl (xcP xok_fal rfl trivial)
theorem okX1_digits_51 : XOkL xms rX1_digits bX1_digits_51 := xcP (xok_istore_n dX1_digits_51 rfl) rfl (xcP (xok_aload_n dX1_digits_52 rfl) rfl (xcP (xok_dup dX1_digits_53) rfl (xcP (xok_getfield (ref := "WaysAtlas$Scanner") (Or.inl ⟨rfl, by decide⟩) dX1_digits_54 (Or.inl ⟨q205, (Or.inl rfl)⟩) xh4) rfl (xcP (xok_iconst dX1_digits_57 rfl) rfl (xcP (xok_iadd dX1_digits_58) rfl (xcP (xok_putfield (ref := "WaysAtlas$Scanner") (Or.inl ⟨rfl, by decide, rfl⟩) dX1_digits_59 (Or.inl ⟨q205, (Or.inl rfl)⟩) (Or.inl rfl) xh4) rfl (xcP (xok_goto dX1_digits_62 (by decide)) rfl trivial)))))))
theorem okX1_digits_65 : XOkL xms rX1_digits bX1_digits_65 := xcP (xok_aload_n dX1_digits_65 rfl) rfl (xcP (xok_getfield (ref := "WaysAtlas$Scanner") (Or.inl ⟨rfl, by decide⟩) dX1_digits_66 (Or.inl ⟨q205, (Or.inl rfl)⟩) xh4) rfl (xcP (xok_iload_n dX1_digits_69 rfl) rfl (xcP (xok_isub dX1_digits_70) rfl (xcP (xok_iload_n dX1_digits_71 rfl) rfl (xcP (xok_icmple dX1_digits_72 (by decide)) rfl (xcP (xok_iconst dX1_digits_75 rfl) rfl (xcP (xok_goto dX1_digits_76 (by decide)) rfl trivial)))))))
theorem okX1_digits_79 : XOkL xms rX1_digits bX1_digits_79 := xcP (xok_iload_n dX1_digits_79 rfl) rfl (xcP xok_fal rfl trivial)
theorem okX1_digits_80 : XOkL xms rX1_digits bX1_digits_80 := xcR ⟨dX1_digits_80, rfl⟩
theorem okM_X1_digits : XOkM xms rX1_digits := xokM0 (List.forall_mem_cons.mpr ⟨⟨rfl, okX1_digits_0⟩, List.forall_mem_cons.mpr ⟨⟨rfl, okX1_digits_7⟩, List.forall_mem_cons.mpr ⟨⟨rfl, okX1_digits_50⟩, List.forall_mem_cons.mpr ⟨⟨rfl, okX1_digits_51⟩, List.forall_mem_cons.mpr ⟨⟨rfl, okX1_digits_65⟩, List.forall_mem_cons.mpr ⟨⟨rfl, okX1_digits_79⟩, List.forall_mem_cons.mpr ⟨⟨rfl, okX1_digits_80⟩, fun _ h => nomatch h⟩⟩⟩⟩⟩⟩⟩) (xokH0 rfl (fun _ _ => rfl)) (by decide +kernel) (by decide)
abbrev cX1_is : ByteArray := prog_25_method_9_code
def dkwX1_is_2 : List UInt8 := [21, 4, 96, 51, 160, 0, 7, 4, 167, 0, 4, 3, 62, 132, 4, 1, 167, 255, 214, 29, 172]
abbrev dktX1_is_2 : List UInt8 := dkwX1_is_2 ++ []
def dkwX1_is_1 : List UInt8 := [42, 180, 0, 32, 28, 100, 162, 0, 37, 29, 153, 0, 33, 43, 21, 4, 182, 0, 70, 42, 180, 0, 9, 28]
abbrev dktX1_is_1 : List UInt8 := dkwX1_is_1 ++ dktX1_is_2
def dkwX1_is_0 : List UInt8 := [43, 182, 0, 64, 42, 180, 0, 32, 28, 100, 160, 0, 7, 4, 167, 0, 4, 3, 62, 3, 54, 4, 21, 4]
abbrev dktX1_is_0 : List UInt8 := dkwX1_is_0 ++ dktX1_is_1
theorem dksX1_is_0 : cX1_is.data.toList.drop 0 = dktX1_is_0 := by decide +kernel
theorem dksX1_is_1 : cX1_is.data.toList.drop 24 = dktX1_is_1 := dk_seg dksX1_is_0 24 rfl rfl
theorem dksX1_is_2 : cX1_is.data.toList.drop 48 = dktX1_is_2 := dk_seg dksX1_is_1 24 rfl rfl
theorem dX1_is_0 : decode cX1_is 0 = .ok (.aload_n 1, 1) := dk_43 (dk_at dksX1_is_0 0 rfl rfl)
theorem dX1_is_1 : decode cX1_is 1 = .ok (.invokevirtual 64, 3) := dk_182 0 64 (dk_at dksX1_is_0 1 rfl rfl)
theorem dX1_is_4 : decode cX1_is 4 = .ok (.aload_n 0, 1) := dk_42 (dk_at dksX1_is_0 4 rfl rfl)
theorem dX1_is_5 : decode cX1_is 5 = .ok (.getfield 32, 3) := dk_180 0 32 (dk_at dksX1_is_0 5 rfl rfl)
theorem dX1_is_8 : decode cX1_is 8 = .ok (.iload_n 2, 1) := dk_28 (dk_at dksX1_is_0 8 rfl rfl)
theorem dX1_is_9 : decode cX1_is 9 = .ok (.isub, 1) := dk_100 (dk_at dksX1_is_0 9 rfl rfl)
theorem dX1_is_10 : decode cX1_is 10 = .ok (.if_icmp .ne 7, 3) := dk_160 0 7 (dk_at dksX1_is_0 10 rfl rfl)
theorem dX1_is_13 : decode cX1_is 13 = .ok (.iconst 1, 1) := dk_4 (dk_at dksX1_is_0 13 rfl rfl)
theorem dX1_is_14 : decode cX1_is 14 = .ok (.goto 4, 3) := dk_167 0 4 (dk_at dksX1_is_0 14 rfl rfl)
theorem dX1_is_17 : decode cX1_is 17 = .ok (.iconst 0, 1) := dk_3 (dk_at dksX1_is_0 17 rfl rfl)
theorem dX1_is_18 : decode cX1_is 18 = .ok (.istore_n 3, 1) := dk_62 (dk_at dksX1_is_0 18 rfl rfl)
theorem dX1_is_19 : decode cX1_is 19 = .ok (.iconst 0, 1) := dk_3 (dk_at dksX1_is_0 19 rfl rfl)
theorem dX1_is_20 : decode cX1_is 20 = .ok (.istore 4, 2) := dk_54 4 (dk_at dksX1_is_0 20 rfl rfl)
theorem dX1_is_22 : decode cX1_is 22 = .ok (.iload 4, 2) := dk_21 4 (dk_at dksX1_is_0 22 rfl rfl)
theorem dX1_is_24 : decode cX1_is 24 = .ok (.aload_n 0, 1) := dk_42 (dk_at dksX1_is_1 0 rfl rfl)
theorem dX1_is_25 : decode cX1_is 25 = .ok (.getfield 32, 3) := dk_180 0 32 (dk_at dksX1_is_1 1 rfl rfl)
theorem dX1_is_28 : decode cX1_is 28 = .ok (.iload_n 2, 1) := dk_28 (dk_at dksX1_is_1 4 rfl rfl)
theorem dX1_is_29 : decode cX1_is 29 = .ok (.isub, 1) := dk_100 (dk_at dksX1_is_1 5 rfl rfl)
theorem dX1_is_30 : decode cX1_is 30 = .ok (.if_icmp .ge 37, 3) := dk_162 0 37 (dk_at dksX1_is_1 6 rfl rfl)
theorem dX1_is_33 : decode cX1_is 33 = .ok (.iload_n 3, 1) := dk_29 (dk_at dksX1_is_1 9 rfl rfl)
theorem dX1_is_34 : decode cX1_is 34 = .ok (.ifCond .eq 33, 3) := dk_153 0 33 (dk_at dksX1_is_1 10 rfl rfl)
theorem dX1_is_37 : decode cX1_is 37 = .ok (.aload_n 1, 1) := dk_43 (dk_at dksX1_is_1 13 rfl rfl)
theorem dX1_is_38 : decode cX1_is 38 = .ok (.iload 4, 2) := dk_21 4 (dk_at dksX1_is_1 14 rfl rfl)
theorem dX1_is_40 : decode cX1_is 40 = .ok (.invokevirtual 70, 3) := dk_182 0 70 (dk_at dksX1_is_1 16 rfl rfl)
theorem dX1_is_43 : decode cX1_is 43 = .ok (.aload_n 0, 1) := dk_42 (dk_at dksX1_is_1 19 rfl rfl)
theorem dX1_is_44 : decode cX1_is 44 = .ok (.getfield 9, 3) := dk_180 0 9 (dk_at dksX1_is_1 20 rfl rfl)
theorem dX1_is_47 : decode cX1_is 47 = .ok (.iload_n 2, 1) := dk_28 (dk_at dksX1_is_1 23 rfl rfl)
theorem dX1_is_48 : decode cX1_is 48 = .ok (.iload 4, 2) := dk_21 4 (dk_at dksX1_is_2 0 rfl rfl)
theorem dX1_is_50 : decode cX1_is 50 = .ok (.iadd, 1) := dk_96 (dk_at dksX1_is_2 2 rfl rfl)
theorem dX1_is_51 : decode cX1_is 51 = .ok (.baload, 1) := dk_51 (dk_at dksX1_is_2 3 rfl rfl)
theorem dX1_is_52 : decode cX1_is 52 = .ok (.if_icmp .ne 7, 3) := dk_160 0 7 (dk_at dksX1_is_2 4 rfl rfl)
theorem dX1_is_55 : decode cX1_is 55 = .ok (.iconst 1, 1) := dk_4 (dk_at dksX1_is_2 7 rfl rfl)
theorem dX1_is_56 : decode cX1_is 56 = .ok (.goto 4, 3) := dk_167 0 4 (dk_at dksX1_is_2 8 rfl rfl)
theorem dX1_is_59 : decode cX1_is 59 = .ok (.iconst 0, 1) := dk_3 (dk_at dksX1_is_2 11 rfl rfl)
theorem dX1_is_60 : decode cX1_is 60 = .ok (.istore_n 3, 1) := dk_62 (dk_at dksX1_is_2 12 rfl rfl)
theorem dX1_is_61 : decode cX1_is 61 = .ok (.iinc 4 1, 3) := dk_132 4 1 (dk_at dksX1_is_2 13 rfl rfl)
theorem dX1_is_64 : decode cX1_is 64 = .ok (.goto (-42), 3) := dk_167 255 214 (dk_at dksX1_is_2 16 rfl rfl)
theorem dX1_is_67 : decode cX1_is 67 = .ok (.iload_n 3, 1) := dk_29 (dk_at dksX1_is_2 19 rfl rfl)
theorem dX1_is_68 : decode cX1_is 68 = .ok (.ireturn, 1) := dk_172 (dk_at dksX1_is_2 20 rfl rfl)
theorem okX1_is_0 : XOkL xms rX1_is bX1_is_0 := xcP (xok_aload_n dX1_is_0 rfl) rfl (xcP (xok_strlen dX1_is_1 q720) rfl (xcP (xok_aload_n dX1_is_4 rfl) rfl (xcP (xok_getfield (ref := "WaysAtlas$Scanner") (Or.inl ⟨rfl, by decide⟩) dX1_is_5 (Or.inl ⟨q205, (Or.inl rfl)⟩) xh4) rfl (xcP (xok_iload_n dX1_is_8 rfl) rfl (xcP (xok_isub dX1_is_9) rfl (xcP (xok_icmpne dX1_is_10 (by decide)) rfl (xcP (xok_iconst dX1_is_13 rfl) rfl (xcP (xok_goto dX1_is_14 (by decide)) rfl trivial))))))))
theorem okX1_is_17 : XOkL xms rX1_is bX1_is_17 := xcP (xok_iconst dX1_is_17 rfl) rfl (xcP xok_fal rfl trivial)
theorem okX1_is_18 : XOkL xms rX1_is bX1_is_18 := xcP (xok_istore_n dX1_is_18 rfl) rfl (xcP (xok_iconst dX1_is_19 rfl) rfl (xcP (xok_istore dX1_is_20) rfl (xcP xok_fal rfl trivial)))
theorem okX1_is_22 : XOkL xms rX1_is bX1_is_22 := xcP (xok_iload dX1_is_22) rfl (xcP (xok_aload_n dX1_is_24 rfl) rfl (xcP (xok_getfield (ref := "WaysAtlas$Scanner") (Or.inl ⟨rfl, by decide⟩) dX1_is_25 (Or.inl ⟨q205, (Or.inl rfl)⟩) xh4) rfl (xcP (xok_iload_n dX1_is_28 rfl) rfl (xcP (xok_isub dX1_is_29) rfl (xcP (xok_icmpge dX1_is_30 (by decide)) rfl (xcP (xok_iload_n dX1_is_33 rfl) rfl (xcP (xok_ifeq dX1_is_34 (by decide)) rfl (xcP (xok_aload_n dX1_is_37 rfl) rfl (xcP (xok_iload dX1_is_38) rfl (xcP (xok_strchr dX1_is_40 q730) rfl (xcP (xok_aload_n dX1_is_43 rfl) rfl (xcP (xok_getfield (ref := "WaysAtlas$Scanner") (Or.inr ⟨rfl, by decide⟩) dX1_is_44 (Or.inl ⟨q194, (Or.inl rfl)⟩) xh1010) rfl (xcP (xok_iload_n dX1_is_47 rfl) rfl (xcP (xok_iload dX1_is_48) rfl (xcP (xok_iadd dX1_is_50) rfl (xcP (xok_baload dX1_is_51) rfl (xcP (xok_icmpne dX1_is_52 (by decide)) rfl (xcP (xok_iconst dX1_is_55 rfl) rfl (xcP (xok_goto dX1_is_56 (by decide)) rfl trivial)))))))))))))))))))
theorem okX1_is_59 : XOkL xms rX1_is bX1_is_59 := xcP (xok_iconst dX1_is_59 rfl) rfl (xcP xok_fal rfl trivial)
theorem okX1_is_60 : XOkL xms rX1_is bX1_is_60 := xcP (xok_istore_n dX1_is_60 rfl) rfl (xcP (xok_iinc dX1_is_61 rfl) rfl (xcP (xok_goto dX1_is_64 (by decide)) rfl trivial))
theorem okX1_is_67 : XOkL xms rX1_is bX1_is_67 := xcP (xok_iload_n dX1_is_67 rfl) rfl (xcR ⟨dX1_is_68, rfl⟩)
theorem okM_X1_is : XOkM xms rX1_is := xokM0 (List.forall_mem_cons.mpr ⟨⟨rfl, okX1_is_0⟩, List.forall_mem_cons.mpr ⟨⟨rfl, okX1_is_17⟩, List.forall_mem_cons.mpr ⟨⟨rfl, okX1_is_18⟩, List.forall_mem_cons.mpr ⟨⟨rfl, okX1_is_22⟩, List.forall_mem_cons.mpr ⟨⟨rfl, okX1_is_59⟩, List.forall_mem_cons.mpr ⟨⟨rfl, okX1_is_60⟩, List.forall_mem_cons.mpr ⟨⟨rfl, okX1_is_67⟩, fun _ h => nomatch h⟩⟩⟩⟩⟩⟩⟩) (xokH0 rfl (fun _ _ => rfl)) (by decide +kernel) (by decide)
abbrev cX2_init : ByteArray := prog_21_method_1_code
def dkwX2_init_1 : List UInt8 := [188, 10, 181, 0, 21, 42, 43, 181, 0, 24, 177]
abbrev dktX2_init_1 : List UInt8 := dkwX2_init_1 ++ []
def dkwX2_init_0 : List UInt8 := [42, 183, 0, 3, 42, 16, 80, 189, 0, 9, 181, 0, 11, 42, 16, 80, 188, 10, 181, 0, 17, 42, 16, 80]
abbrev dktX2_init_0 : List UInt8 := dkwX2_init_0 ++ dktX2_init_1
theorem dksX2_init_0 : cX2_init.data.toList.drop 0 = dktX2_init_0 := by decide +kernel
theorem dksX2_init_1 : cX2_init.data.toList.drop 24 = dktX2_init_1 := dk_seg dksX2_init_0 24 rfl rfl
theorem dX2_init_0 : decode cX2_init 0 = .ok (.aload_n 0, 1) := dk_42 (dk_at dksX2_init_0 0 rfl rfl)
theorem dX2_init_1 : decode cX2_init 1 = .ok (.invokespecial 3, 3) := dk_183 0 3 (dk_at dksX2_init_0 1 rfl rfl)
theorem dX2_init_4 : decode cX2_init 4 = .ok (.aload_n 0, 1) := dk_42 (dk_at dksX2_init_0 4 rfl rfl)
theorem dX2_init_5 : decode cX2_init 5 = .ok (.bipush 80, 2) := dk_16 80 (dk_at dksX2_init_0 5 rfl rfl)
theorem dX2_init_7 : decode cX2_init 7 = .ok (.anewarray 9, 3) := dk_189 0 9 (dk_at dksX2_init_0 7 rfl rfl)
theorem dX2_init_10 : decode cX2_init 10 = .ok (.putfield 11, 3) := dk_181 0 11 (dk_at dksX2_init_0 10 rfl rfl)
theorem dX2_init_13 : decode cX2_init 13 = .ok (.aload_n 0, 1) := dk_42 (dk_at dksX2_init_0 13 rfl rfl)
theorem dX2_init_14 : decode cX2_init 14 = .ok (.bipush 80, 2) := dk_16 80 (dk_at dksX2_init_0 14 rfl rfl)
theorem dX2_init_16 : decode cX2_init 16 = .ok (.newarray .int, 2) := dk_188_10 (dk_at dksX2_init_0 16 rfl rfl)
theorem dX2_init_18 : decode cX2_init 18 = .ok (.putfield 17, 3) := dk_181 0 17 (dk_at dksX2_init_0 18 rfl rfl)
theorem dX2_init_21 : decode cX2_init 21 = .ok (.aload_n 0, 1) := dk_42 (dk_at dksX2_init_0 21 rfl rfl)
theorem dX2_init_22 : decode cX2_init 22 = .ok (.bipush 80, 2) := dk_16 80 (dk_at dksX2_init_0 22 rfl rfl)
theorem dX2_init_24 : decode cX2_init 24 = .ok (.newarray .int, 2) := dk_188_10 (dk_at dksX2_init_1 0 rfl rfl)
theorem dX2_init_26 : decode cX2_init 26 = .ok (.putfield 21, 3) := dk_181 0 21 (dk_at dksX2_init_1 2 rfl rfl)
theorem dX2_init_29 : decode cX2_init 29 = .ok (.aload_n 0, 1) := dk_42 (dk_at dksX2_init_1 5 rfl rfl)
theorem dX2_init_30 : decode cX2_init 30 = .ok (.aload_n 1, 1) := dk_43 (dk_at dksX2_init_1 6 rfl rfl)
theorem dX2_init_31 : decode cX2_init 31 = .ok (.putfield 24, 3) := dk_181 0 24 (dk_at dksX2_init_1 7 rfl rfl)
theorem dX2_init_34 : decode cX2_init 34 = .ok (.return_, 1) := dk_177 (dk_at dksX2_init_1 10 rfl rfl)
theorem okX2_init_0 : XOkL xms rX2_init bX2_init_0 := xcP (xok_aload_n dX2_init_0 rfl) rfl (xcP (xok_objInit dX2_init_1 q228 q186 q187) rfl (xcP (xok_aload_n dX2_init_4 rfl) rfl (xcP (xok_bipush dX2_init_5 rfl) rfl (xcP (xok_anewarray (by decide) (by decide) rfl dX2_init_7 q229 (List.mem_of_getElem? (i := 4) rfl)) rfl (xcP (xok_putfield (ref := "WaysAtlas$Reader") (Or.inr (Or.inr ⟨rfl, by decide, rfl⟩)) dX2_init_10 (Or.inl ⟨q239, (Or.inl rfl)⟩) (Or.inr ⟨rfl, rfl, ⟨q239, (Or.inl rfl)⟩⟩) xh1017) rfl (xcP (xok_aload_n dX2_init_13 rfl) rfl (xcP (xok_bipush dX2_init_14 rfl) rfl (xcP (xok_newarray (atype := .int) (by decide) rfl dX2_init_16 q222) rfl (xcP (xok_putfield (ref := "WaysAtlas$Reader") (Or.inr (Or.inr ⟨rfl, by decide, rfl⟩)) dX2_init_18 (Or.inl ⟨q241, (Or.inl rfl)⟩) (Or.inr ⟨rfl, rfl, ⟨q241, (Or.inl rfl)⟩⟩) xh1018) rfl (xcP (xok_aload_n dX2_init_21 rfl) rfl (xcP (xok_bipush dX2_init_22 rfl) rfl (xcP (xok_newarray (atype := .int) (by decide) rfl dX2_init_24 q222) rfl (xcP (xok_putfield (ref := "WaysAtlas$Reader") (Or.inr (Or.inr ⟨rfl, by decide, rfl⟩)) dX2_init_26 (Or.inl ⟨q242, (Or.inl rfl)⟩) (Or.inr ⟨rfl, rfl, ⟨q242, (Or.inl rfl)⟩⟩) xh1019) rfl (xcP (xok_aload_n dX2_init_29 rfl) rfl (xcP (xok_aload_n dX2_init_30 rfl) rfl (xcP (xok_putfield (ref := "WaysAtlas$Reader") (Or.inr (Or.inr ⟨rfl, by decide, rfl⟩)) dX2_init_31 (Or.inl ⟨q231, (Or.inl rfl)⟩) (Or.inr ⟨rfl, rfl, ⟨q231, (Or.inl rfl)⟩⟩) xh1014) rfl (xcR ⟨dX2_init_34, rfl⟩)))))))))))))))))
theorem okM_X2_init : XOkM xms rX2_init := xokM0 (List.forall_mem_cons.mpr ⟨⟨rfl, okX2_init_0⟩, fun _ h => nomatch h⟩) (xokH0 rfl (fun _ _ => rfl)) (by decide +kernel) (by decide)
abbrev cX2_read : ByteArray := prog_21_method_13_code
def dkwX2_read_12 : List UInt8 := [191, 42, 180, 0, 73, 176]
abbrev dktX2_read_12 : List UInt8 := dkwX2_read_12 ++ []
def dkwX2_read_11 : List UInt8 := [167, 255, 190, 42, 180, 0, 55, 16, 247, 159, 0, 16, 187, 0, 47, 89, 6, 42, 180, 0, 55, 183, 0, 52]
abbrev dktX2_read_11 : List UInt8 := dkwX2_read_11 ++ dktX2_read_12
def dkwX2_read_10 : List UInt8 := [162, 0, 12, 42, 180, 0, 21, 27, 46, 167, 0, 7, 42, 180, 0, 55, 181, 0, 55, 132, 1, 1]
abbrev dktX2_read_10 : List UInt8 := dkwX2_read_10 ++ dktX2_read_11
def dkwX2_read_9 : List UInt8 := [161, 0, 34, 42, 180, 0, 55, 16, 247, 159, 0, 16, 42, 180, 0, 21, 27, 46, 42, 180, 0, 55]
abbrev dktX2_read_9 : List UInt8 := dkwX2_read_9 ++ dktX2_read_10
def dkwX2_read_8 : List UInt8 := [60, 27, 42, 180, 0, 102, 162, 0, 64, 42, 42, 180, 0, 17, 27, 46, 42, 180, 0, 73, 180, 0, 124]
abbrev dktX2_read_8 : List UInt8 := dkwX2_read_8 ++ dktX2_read_9
def dkwX2_read_7 : List UInt8 := [42, 182, 0, 121, 167, 255, 244, 42, 42, 182, 0, 40, 154, 0, 7, 4, 167, 0, 4, 3, 182, 0, 62, 3]
abbrev dktX2_read_7 : List UInt8 := dkwX2_read_7 ++ dktX2_read_8
def dkwX2_read_6 : List UInt8 := [89, 180, 0, 77, 4, 96, 181, 0, 77, 167, 255, 159, 42, 182, 0, 121, 42, 5, 182, 0, 58, 153, 0, 10]
abbrev dktX2_read_6 : List UInt8 := dkwX2_read_6 ++ dktX2_read_7
def dkwX2_read_5 : List UInt8 := [180, 0, 73, 180, 0, 77, 27, 42, 180, 0, 73, 180, 0, 77, 4, 100, 184, 0, 115, 79, 42, 180, 0, 73]
abbrev dktX2_read_5 : List UInt8 := dkwX2_read_5 ++ dktX2_read_6
def dkwX2_read_4 : List UInt8 := [182, 0, 105, 42, 182, 0, 109, 60, 42, 16, 59, 182, 0, 69, 87, 42, 180, 0, 73, 180, 0, 112, 42]
abbrev dktX2_read_4 : List UInt8 := dkwX2_read_4 ++ dktX2_read_5
def dkwX2_read_3 : List UInt8 := [162, 0, 7, 4, 167, 0, 4, 3, 182, 0, 66, 42, 89, 180, 0, 33, 4, 96, 181, 0, 33, 42, 4]
abbrev dktX2_read_3 : List UInt8 := dkwX2_read_3 ++ dktX2_read_4
def dkwX2_read_2 : List UInt8 := [42, 3, 181, 0, 102, 42, 3, 182, 0, 58, 153, 0, 95, 42, 42, 180, 0, 73, 180, 0, 77, 16, 16]
abbrev dktX2_read_2 : List UInt8 := dkwX2_read_2 ++ dktX2_read_3
def dkwX2_read_1 : List UInt8 := [181, 0, 89, 42, 3, 181, 0, 92, 42, 1, 181, 0, 95, 42, 16, 247, 181, 0, 55, 42, 3, 181, 0, 99]
abbrev dktX2_read_1 : List UInt8 := dkwX2_read_1 ++ dktX2_read_2
def dkwX2_read_0 : List UInt8 := [42, 187, 0, 78, 89, 183, 0, 85, 181, 0, 73, 42, 3, 181, 0, 33, 42, 3, 181, 0, 86, 42, 3]
abbrev dktX2_read_0 : List UInt8 := dkwX2_read_0 ++ dktX2_read_1
theorem dksX2_read_0 : cX2_read.data.toList.drop 0 = dktX2_read_0 := by decide +kernel
theorem dksX2_read_1 : cX2_read.data.toList.drop 23 = dktX2_read_1 := dk_seg dksX2_read_0 23 rfl rfl
theorem dksX2_read_2 : cX2_read.data.toList.drop 47 = dktX2_read_2 := dk_seg dksX2_read_1 24 rfl rfl
theorem dksX2_read_3 : cX2_read.data.toList.drop 70 = dktX2_read_3 := dk_seg dksX2_read_2 23 rfl rfl
theorem dksX2_read_4 : cX2_read.data.toList.drop 93 = dktX2_read_4 := dk_seg dksX2_read_3 23 rfl rfl
theorem dksX2_read_5 : cX2_read.data.toList.drop 116 = dktX2_read_5 := dk_seg dksX2_read_4 23 rfl rfl
theorem dksX2_read_6 : cX2_read.data.toList.drop 140 = dktX2_read_6 := dk_seg dksX2_read_5 24 rfl rfl
theorem dksX2_read_7 : cX2_read.data.toList.drop 164 = dktX2_read_7 := dk_seg dksX2_read_6 24 rfl rfl
theorem dksX2_read_8 : cX2_read.data.toList.drop 188 = dktX2_read_8 := dk_seg dksX2_read_7 24 rfl rfl
theorem dksX2_read_9 : cX2_read.data.toList.drop 211 = dktX2_read_9 := dk_seg dksX2_read_8 23 rfl rfl
theorem dksX2_read_10 : cX2_read.data.toList.drop 233 = dktX2_read_10 := dk_seg dksX2_read_9 22 rfl rfl
theorem dksX2_read_11 : cX2_read.data.toList.drop 255 = dktX2_read_11 := dk_seg dksX2_read_10 22 rfl rfl
theorem dksX2_read_12 : cX2_read.data.toList.drop 279 = dktX2_read_12 := dk_seg dksX2_read_11 24 rfl rfl
theorem dX2_read_0 : decode cX2_read 0 = .ok (.aload_n 0, 1) := dk_42 (dk_at dksX2_read_0 0 rfl rfl)
theorem dX2_read_1 : decode cX2_read 1 = .ok (.new 78, 3) := dk_187 0 78 (dk_at dksX2_read_0 1 rfl rfl)
theorem dX2_read_4 : decode cX2_read 4 = .ok (.dup, 1) := dk_89 (dk_at dksX2_read_0 4 rfl rfl)
theorem dX2_read_5 : decode cX2_read 5 = .ok (.invokespecial 85, 3) := dk_183 0 85 (dk_at dksX2_read_0 5 rfl rfl)
theorem dX2_read_8 : decode cX2_read 8 = .ok (.putfield 73, 3) := dk_181 0 73 (dk_at dksX2_read_0 8 rfl rfl)
theorem dX2_read_11 : decode cX2_read 11 = .ok (.aload_n 0, 1) := dk_42 (dk_at dksX2_read_0 11 rfl rfl)
theorem dX2_read_12 : decode cX2_read 12 = .ok (.iconst 0, 1) := dk_3 (dk_at dksX2_read_0 12 rfl rfl)
theorem dX2_read_13 : decode cX2_read 13 = .ok (.putfield 33, 3) := dk_181 0 33 (dk_at dksX2_read_0 13 rfl rfl)
theorem dX2_read_16 : decode cX2_read 16 = .ok (.aload_n 0, 1) := dk_42 (dk_at dksX2_read_0 16 rfl rfl)
theorem dX2_read_17 : decode cX2_read 17 = .ok (.iconst 0, 1) := dk_3 (dk_at dksX2_read_0 17 rfl rfl)
theorem dX2_read_18 : decode cX2_read 18 = .ok (.putfield 86, 3) := dk_181 0 86 (dk_at dksX2_read_0 18 rfl rfl)
theorem dX2_read_21 : decode cX2_read 21 = .ok (.aload_n 0, 1) := dk_42 (dk_at dksX2_read_0 21 rfl rfl)
theorem dX2_read_22 : decode cX2_read 22 = .ok (.iconst 0, 1) := dk_3 (dk_at dksX2_read_0 22 rfl rfl)
theorem dX2_read_23 : decode cX2_read 23 = .ok (.putfield 89, 3) := dk_181 0 89 (dk_at dksX2_read_1 0 rfl rfl)
theorem dX2_read_26 : decode cX2_read 26 = .ok (.aload_n 0, 1) := dk_42 (dk_at dksX2_read_1 3 rfl rfl)
theorem dX2_read_27 : decode cX2_read 27 = .ok (.iconst 0, 1) := dk_3 (dk_at dksX2_read_1 4 rfl rfl)
theorem dX2_read_28 : decode cX2_read 28 = .ok (.putfield 92, 3) := dk_181 0 92 (dk_at dksX2_read_1 5 rfl rfl)
theorem dX2_read_31 : decode cX2_read 31 = .ok (.aload_n 0, 1) := dk_42 (dk_at dksX2_read_1 8 rfl rfl)
theorem dX2_read_32 : decode cX2_read 32 = .ok (.aconst_null, 1) := dk_1 (dk_at dksX2_read_1 9 rfl rfl)
theorem dX2_read_33 : decode cX2_read 33 = .ok (.putfield 95, 3) := dk_181 0 95 (dk_at dksX2_read_1 10 rfl rfl)
theorem dX2_read_36 : decode cX2_read 36 = .ok (.aload_n 0, 1) := dk_42 (dk_at dksX2_read_1 13 rfl rfl)
theorem dX2_read_37 : decode cX2_read 37 = .ok (.bipush (-9), 2) := dk_16 247 (dk_at dksX2_read_1 14 rfl rfl)
theorem dX2_read_39 : decode cX2_read 39 = .ok (.putfield 55, 3) := dk_181 0 55 (dk_at dksX2_read_1 16 rfl rfl)
theorem dX2_read_42 : decode cX2_read 42 = .ok (.aload_n 0, 1) := dk_42 (dk_at dksX2_read_1 19 rfl rfl)
theorem dX2_read_43 : decode cX2_read 43 = .ok (.iconst 0, 1) := dk_3 (dk_at dksX2_read_1 20 rfl rfl)
theorem dX2_read_44 : decode cX2_read 44 = .ok (.putfield 99, 3) := dk_181 0 99 (dk_at dksX2_read_1 21 rfl rfl)
theorem dX2_read_47 : decode cX2_read 47 = .ok (.aload_n 0, 1) := dk_42 (dk_at dksX2_read_2 0 rfl rfl)
theorem dX2_read_48 : decode cX2_read 48 = .ok (.iconst 0, 1) := dk_3 (dk_at dksX2_read_2 1 rfl rfl)
theorem dX2_read_49 : decode cX2_read 49 = .ok (.putfield 102, 3) := dk_181 0 102 (dk_at dksX2_read_2 2 rfl rfl)
theorem dX2_read_52 : decode cX2_read 52 = .ok (.aload_n 0, 1) := dk_42 (dk_at dksX2_read_2 5 rfl rfl)
theorem dX2_read_53 : decode cX2_read 53 = .ok (.iconst 0, 1) := dk_3 (dk_at dksX2_read_2 6 rfl rfl)
theorem dX2_read_54 : decode cX2_read 54 = .ok (.invokevirtual 58, 3) := dk_182 0 58 (dk_at dksX2_read_2 7 rfl rfl)
theorem dX2_read_57 : decode cX2_read 57 = .ok (.ifCond .eq 95, 3) := dk_153 0 95 (dk_at dksX2_read_2 10 rfl rfl)
theorem dX2_read_60 : decode cX2_read 60 = .ok (.aload_n 0, 1) := dk_42 (dk_at dksX2_read_2 13 rfl rfl)
theorem dX2_read_61 : decode cX2_read 61 = .ok (.aload_n 0, 1) := dk_42 (dk_at dksX2_read_2 14 rfl rfl)
theorem dX2_read_62 : decode cX2_read 62 = .ok (.getfield 73, 3) := dk_180 0 73 (dk_at dksX2_read_2 15 rfl rfl)
theorem dX2_read_65 : decode cX2_read 65 = .ok (.getfield 77, 3) := dk_180 0 77 (dk_at dksX2_read_2 18 rfl rfl)
theorem dX2_read_68 : decode cX2_read 68 = .ok (.bipush 16, 2) := dk_16 16 (dk_at dksX2_read_2 21 rfl rfl)
theorem dX2_read_70 : decode cX2_read 70 = .ok (.if_icmp .ge 7, 3) := dk_162 0 7 (dk_at dksX2_read_3 0 rfl rfl)
theorem dX2_read_73 : decode cX2_read 73 = .ok (.iconst 1, 1) := dk_4 (dk_at dksX2_read_3 3 rfl rfl)
theorem dX2_read_74 : decode cX2_read 74 = .ok (.goto 4, 3) := dk_167 0 4 (dk_at dksX2_read_3 4 rfl rfl)
theorem dX2_read_77 : decode cX2_read 77 = .ok (.iconst 0, 1) := dk_3 (dk_at dksX2_read_3 7 rfl rfl)
theorem dX2_read_78 : decode cX2_read 78 = .ok (.invokevirtual 66, 3) := dk_182 0 66 (dk_at dksX2_read_3 8 rfl rfl)
theorem dX2_read_81 : decode cX2_read 81 = .ok (.aload_n 0, 1) := dk_42 (dk_at dksX2_read_3 11 rfl rfl)
theorem dX2_read_82 : decode cX2_read 82 = .ok (.dup, 1) := dk_89 (dk_at dksX2_read_3 12 rfl rfl)
theorem dX2_read_83 : decode cX2_read 83 = .ok (.getfield 33, 3) := dk_180 0 33 (dk_at dksX2_read_3 13 rfl rfl)
theorem dX2_read_86 : decode cX2_read 86 = .ok (.iconst 1, 1) := dk_4 (dk_at dksX2_read_3 16 rfl rfl)
theorem dX2_read_87 : decode cX2_read 87 = .ok (.iadd, 1) := dk_96 (dk_at dksX2_read_3 17 rfl rfl)
theorem dX2_read_88 : decode cX2_read 88 = .ok (.putfield 33, 3) := dk_181 0 33 (dk_at dksX2_read_3 18 rfl rfl)
theorem dX2_read_91 : decode cX2_read 91 = .ok (.aload_n 0, 1) := dk_42 (dk_at dksX2_read_3 21 rfl rfl)
theorem dX2_read_92 : decode cX2_read 92 = .ok (.iconst 1, 1) := dk_4 (dk_at dksX2_read_3 22 rfl rfl)
theorem dX2_read_93 : decode cX2_read 93 = .ok (.invokevirtual 105, 3) := dk_182 0 105 (dk_at dksX2_read_4 0 rfl rfl)
theorem dX2_read_96 : decode cX2_read 96 = .ok (.aload_n 0, 1) := dk_42 (dk_at dksX2_read_4 3 rfl rfl)
theorem dX2_read_97 : decode cX2_read 97 = .ok (.invokevirtual 109, 3) := dk_182 0 109 (dk_at dksX2_read_4 4 rfl rfl)
theorem dX2_read_100 : decode cX2_read 100 = .ok (.istore_n 1, 1) := dk_60 (dk_at dksX2_read_4 7 rfl rfl)
theorem dX2_read_101 : decode cX2_read 101 = .ok (.aload_n 0, 1) := dk_42 (dk_at dksX2_read_4 8 rfl rfl)
theorem dX2_read_102 : decode cX2_read 102 = .ok (.bipush 59, 2) := dk_16 59 (dk_at dksX2_read_4 9 rfl rfl)
theorem dX2_read_104 : decode cX2_read 104 = .ok (.invokevirtual 69, 3) := dk_182 0 69 (dk_at dksX2_read_4 11 rfl rfl)
theorem dX2_read_107 : decode cX2_read 107 = .ok (.pop, 1) := dk_87 (dk_at dksX2_read_4 14 rfl rfl)
theorem dX2_read_108 : decode cX2_read 108 = .ok (.aload_n 0, 1) := dk_42 (dk_at dksX2_read_4 15 rfl rfl)
theorem dX2_read_109 : decode cX2_read 109 = .ok (.getfield 73, 3) := dk_180 0 73 (dk_at dksX2_read_4 16 rfl rfl)
theorem dX2_read_112 : decode cX2_read 112 = .ok (.getfield 112, 3) := dk_180 0 112 (dk_at dksX2_read_4 19 rfl rfl)
theorem dX2_read_115 : decode cX2_read 115 = .ok (.aload_n 0, 1) := dk_42 (dk_at dksX2_read_4 22 rfl rfl)
theorem dX2_read_116 : decode cX2_read 116 = .ok (.getfield 73, 3) := dk_180 0 73 (dk_at dksX2_read_5 0 rfl rfl)
theorem dX2_read_119 : decode cX2_read 119 = .ok (.getfield 77, 3) := dk_180 0 77 (dk_at dksX2_read_5 3 rfl rfl)
theorem dX2_read_122 : decode cX2_read 122 = .ok (.iload_n 1, 1) := dk_27 (dk_at dksX2_read_5 6 rfl rfl)
theorem dX2_read_123 : decode cX2_read 123 = .ok (.aload_n 0, 1) := dk_42 (dk_at dksX2_read_5 7 rfl rfl)
theorem dX2_read_124 : decode cX2_read 124 = .ok (.getfield 73, 3) := dk_180 0 73 (dk_at dksX2_read_5 8 rfl rfl)
theorem dX2_read_127 : decode cX2_read 127 = .ok (.getfield 77, 3) := dk_180 0 77 (dk_at dksX2_read_5 11 rfl rfl)
theorem dX2_read_130 : decode cX2_read 130 = .ok (.iconst 1, 1) := dk_4 (dk_at dksX2_read_5 14 rfl rfl)
theorem dX2_read_131 : decode cX2_read 131 = .ok (.isub, 1) := dk_100 (dk_at dksX2_read_5 15 rfl rfl)
theorem dX2_read_132 : decode cX2_read 132 = .ok (.invokestatic 115, 3) := dk_184 0 115 (dk_at dksX2_read_5 16 rfl rfl)
theorem dX2_read_135 : decode cX2_read 135 = .ok (.iastore, 1) := dk_79 (dk_at dksX2_read_5 19 rfl rfl)
theorem dX2_read_136 : decode cX2_read 136 = .ok (.aload_n 0, 1) := dk_42 (dk_at dksX2_read_5 20 rfl rfl)
theorem dX2_read_137 : decode cX2_read 137 = .ok (.getfield 73, 3) := dk_180 0 73 (dk_at dksX2_read_5 21 rfl rfl)
theorem dX2_read_140 : decode cX2_read 140 = .ok (.dup, 1) := dk_89 (dk_at dksX2_read_6 0 rfl rfl)
theorem dX2_read_141 : decode cX2_read 141 = .ok (.getfield 77, 3) := dk_180 0 77 (dk_at dksX2_read_6 1 rfl rfl)
theorem dX2_read_144 : decode cX2_read 144 = .ok (.iconst 1, 1) := dk_4 (dk_at dksX2_read_6 4 rfl rfl)
theorem dX2_read_145 : decode cX2_read 145 = .ok (.iadd, 1) := dk_96 (dk_at dksX2_read_6 5 rfl rfl)
theorem dX2_read_146 : decode cX2_read 146 = .ok (.putfield 77, 3) := dk_181 0 77 (dk_at dksX2_read_6 6 rfl rfl)
theorem dX2_read_149 : decode cX2_read 149 = .ok (.goto (-97), 3) := dk_167 255 159 (dk_at dksX2_read_6 9 rfl rfl)
theorem dX2_read_152 : decode cX2_read 152 = .ok (.aload_n 0, 1) := dk_42 (dk_at dksX2_read_6 12 rfl rfl)
theorem dX2_read_153 : decode cX2_read 153 = .ok (.invokevirtual 121, 3) := dk_182 0 121 (dk_at dksX2_read_6 13 rfl rfl)
theorem dX2_read_156 : decode cX2_read 156 = .ok (.aload_n 0, 1) := dk_42 (dk_at dksX2_read_6 16 rfl rfl)
theorem dX2_read_157 : decode cX2_read 157 = .ok (.iconst 2, 1) := dk_5 (dk_at dksX2_read_6 17 rfl rfl)
theorem dX2_read_158 : decode cX2_read 158 = .ok (.invokevirtual 58, 3) := dk_182 0 58 (dk_at dksX2_read_6 18 rfl rfl)
theorem dX2_read_161 : decode cX2_read 161 = .ok (.ifCond .eq 10, 3) := dk_153 0 10 (dk_at dksX2_read_6 21 rfl rfl)
theorem dX2_read_164 : decode cX2_read 164 = .ok (.aload_n 0, 1) := dk_42 (dk_at dksX2_read_7 0 rfl rfl)
theorem dX2_read_165 : decode cX2_read 165 = .ok (.invokevirtual 121, 3) := dk_182 0 121 (dk_at dksX2_read_7 1 rfl rfl)
theorem dX2_read_168 : decode cX2_read 168 = .ok (.goto (-12), 3) := dk_167 255 244 (dk_at dksX2_read_7 4 rfl rfl)
theorem dX2_read_171 : decode cX2_read 171 = .ok (.aload_n 0, 1) := dk_42 (dk_at dksX2_read_7 7 rfl rfl)
theorem dX2_read_172 : decode cX2_read 172 = .ok (.aload_n 0, 1) := dk_42 (dk_at dksX2_read_7 8 rfl rfl)
theorem dX2_read_173 : decode cX2_read 173 = .ok (.invokevirtual 40, 3) := dk_182 0 40 (dk_at dksX2_read_7 9 rfl rfl)
theorem dX2_read_176 : decode cX2_read 176 = .ok (.ifCond .ne 7, 3) := dk_154 0 7 (dk_at dksX2_read_7 12 rfl rfl)
theorem dX2_read_179 : decode cX2_read 179 = .ok (.iconst 1, 1) := dk_4 (dk_at dksX2_read_7 15 rfl rfl)
theorem dX2_read_180 : decode cX2_read 180 = .ok (.goto 4, 3) := dk_167 0 4 (dk_at dksX2_read_7 16 rfl rfl)
theorem dX2_read_183 : decode cX2_read 183 = .ok (.iconst 0, 1) := dk_3 (dk_at dksX2_read_7 19 rfl rfl)
theorem dX2_read_184 : decode cX2_read 184 = .ok (.invokevirtual 62, 3) := dk_182 0 62 (dk_at dksX2_read_7 20 rfl rfl)
theorem dX2_read_187 : decode cX2_read 187 = .ok (.iconst 0, 1) := dk_3 (dk_at dksX2_read_7 23 rfl rfl)
theorem dX2_read_188 : decode cX2_read 188 = .ok (.istore_n 1, 1) := dk_60 (dk_at dksX2_read_8 0 rfl rfl)
theorem dX2_read_189 : decode cX2_read 189 = .ok (.iload_n 1, 1) := dk_27 (dk_at dksX2_read_8 1 rfl rfl)
theorem dX2_read_190 : decode cX2_read 190 = .ok (.aload_n 0, 1) := dk_42 (dk_at dksX2_read_8 2 rfl rfl)
theorem dX2_read_191 : decode cX2_read 191 = .ok (.getfield 102, 3) := dk_180 0 102 (dk_at dksX2_read_8 3 rfl rfl)
theorem dX2_read_194 : decode cX2_read 194 = .ok (.if_icmp .ge 64, 3) := dk_162 0 64 (dk_at dksX2_read_8 6 rfl rfl)
theorem dX2_read_197 : decode cX2_read 197 = .ok (.aload_n 0, 1) := dk_42 (dk_at dksX2_read_8 9 rfl rfl)
theorem dX2_read_198 : decode cX2_read 198 = .ok (.aload_n 0, 1) := dk_42 (dk_at dksX2_read_8 10 rfl rfl)
theorem dX2_read_199 : decode cX2_read 199 = .ok (.getfield 17, 3) := dk_180 0 17 (dk_at dksX2_read_8 11 rfl rfl)
theorem dX2_read_202 : decode cX2_read 202 = .ok (.iload_n 1, 1) := dk_27 (dk_at dksX2_read_8 14 rfl rfl)
theorem dX2_read_203 : decode cX2_read 203 = .ok (.iaload, 1) := dk_46 (dk_at dksX2_read_8 15 rfl rfl)
theorem dX2_read_204 : decode cX2_read 204 = .ok (.aload_n 0, 1) := dk_42 (dk_at dksX2_read_8 16 rfl rfl)
theorem dX2_read_205 : decode cX2_read 205 = .ok (.getfield 73, 3) := dk_180 0 73 (dk_at dksX2_read_8 17 rfl rfl)
theorem dX2_read_208 : decode cX2_read 208 = .ok (.getfield 124, 3) := dk_180 0 124 (dk_at dksX2_read_8 20 rfl rfl)
theorem dX2_read_211 : decode cX2_read 211 = .ok (.if_icmp .lt 34, 3) := dk_161 0 34 (dk_at dksX2_read_9 0 rfl rfl)
theorem dX2_read_214 : decode cX2_read 214 = .ok (.aload_n 0, 1) := dk_42 (dk_at dksX2_read_9 3 rfl rfl)
theorem dX2_read_215 : decode cX2_read 215 = .ok (.getfield 55, 3) := dk_180 0 55 (dk_at dksX2_read_9 4 rfl rfl)
theorem dX2_read_218 : decode cX2_read 218 = .ok (.bipush (-9), 2) := dk_16 247 (dk_at dksX2_read_9 7 rfl rfl)
theorem dX2_read_220 : decode cX2_read 220 = .ok (.if_icmp .eq 16, 3) := dk_159 0 16 (dk_at dksX2_read_9 9 rfl rfl)
theorem dX2_read_223 : decode cX2_read 223 = .ok (.aload_n 0, 1) := dk_42 (dk_at dksX2_read_9 12 rfl rfl)
theorem dX2_read_224 : decode cX2_read 224 = .ok (.getfield 21, 3) := dk_180 0 21 (dk_at dksX2_read_9 13 rfl rfl)
theorem dX2_read_227 : decode cX2_read 227 = .ok (.iload_n 1, 1) := dk_27 (dk_at dksX2_read_9 16 rfl rfl)
theorem dX2_read_228 : decode cX2_read 228 = .ok (.iaload, 1) := dk_46 (dk_at dksX2_read_9 17 rfl rfl)
theorem dX2_read_229 : decode cX2_read 229 = .ok (.aload_n 0, 1) := dk_42 (dk_at dksX2_read_9 18 rfl rfl)
theorem dX2_read_230 : decode cX2_read 230 = .ok (.getfield 55, 3) := dk_180 0 55 (dk_at dksX2_read_9 19 rfl rfl)
theorem dX2_read_233 : decode cX2_read 233 = .ok (.if_icmp .ge 12, 3) := dk_162 0 12 (dk_at dksX2_read_10 0 rfl rfl)
theorem dX2_read_236 : decode cX2_read 236 = .ok (.aload_n 0, 1) := dk_42 (dk_at dksX2_read_10 3 rfl rfl)
theorem dX2_read_237 : decode cX2_read 237 = .ok (.getfield 21, 3) := dk_180 0 21 (dk_at dksX2_read_10 4 rfl rfl)
theorem dX2_read_240 : decode cX2_read 240 = .ok (.iload_n 1, 1) := dk_27 (dk_at dksX2_read_10 7 rfl rfl)
theorem dX2_read_241 : decode cX2_read 241 = .ok (.iaload, 1) := dk_46 (dk_at dksX2_read_10 8 rfl rfl)
theorem dX2_read_242 : decode cX2_read 242 = .ok (.goto 7, 3) := dk_167 0 7 (dk_at dksX2_read_10 9 rfl rfl)
theorem dX2_read_245 : decode cX2_read 245 = .ok (.aload_n 0, 1) := dk_42 (dk_at dksX2_read_10 12 rfl rfl)
theorem dX2_read_246 : decode cX2_read 246 = .ok (.getfield 55, 3) := dk_180 0 55 (dk_at dksX2_read_10 13 rfl rfl)
theorem dX2_read_249 : decode cX2_read 249 = .ok (.putfield 55, 3) := dk_181 0 55 (dk_at dksX2_read_10 16 rfl rfl)
theorem dX2_read_252 : decode cX2_read 252 = .ok (.iinc 1 1, 3) := dk_132 1 1 (dk_at dksX2_read_10 19 rfl rfl)
theorem dX2_read_255 : decode cX2_read 255 = .ok (.goto (-66), 3) := dk_167 255 190 (dk_at dksX2_read_11 0 rfl rfl)
theorem dX2_read_258 : decode cX2_read 258 = .ok (.aload_n 0, 1) := dk_42 (dk_at dksX2_read_11 3 rfl rfl)
theorem dX2_read_259 : decode cX2_read 259 = .ok (.getfield 55, 3) := dk_180 0 55 (dk_at dksX2_read_11 4 rfl rfl)
theorem dX2_read_262 : decode cX2_read 262 = .ok (.bipush (-9), 2) := dk_16 247 (dk_at dksX2_read_11 7 rfl rfl)
theorem dX2_read_264 : decode cX2_read 264 = .ok (.if_icmp .eq 16, 3) := dk_159 0 16 (dk_at dksX2_read_11 9 rfl rfl)
theorem dX2_read_267 : decode cX2_read 267 = .ok (.new 47, 3) := dk_187 0 47 (dk_at dksX2_read_11 12 rfl rfl)
theorem dX2_read_270 : decode cX2_read 270 = .ok (.dup, 1) := dk_89 (dk_at dksX2_read_11 15 rfl rfl)
theorem dX2_read_271 : decode cX2_read 271 = .ok (.iconst 3, 1) := dk_6 (dk_at dksX2_read_11 16 rfl rfl)
theorem dX2_read_272 : decode cX2_read 272 = .ok (.aload_n 0, 1) := dk_42 (dk_at dksX2_read_11 17 rfl rfl)
theorem dX2_read_273 : decode cX2_read 273 = .ok (.getfield 55, 3) := dk_180 0 55 (dk_at dksX2_read_11 18 rfl rfl)
theorem dX2_read_276 : decode cX2_read 276 = .ok (.invokespecial 52, 3) := dk_183 0 52 (dk_at dksX2_read_11 21 rfl rfl)
theorem dX2_read_279 : decode cX2_read 279 = .ok (.athrow, 1) := dk_191 (dk_at dksX2_read_12 0 rfl rfl)
theorem dX2_read_280 : decode cX2_read 280 = .ok (.aload_n 0, 1) := dk_42 (dk_at dksX2_read_12 1 rfl rfl)
theorem dX2_read_281 : decode cX2_read 281 = .ok (.getfield 73, 3) := dk_180 0 73 (dk_at dksX2_read_12 2 rfl rfl)
theorem dX2_read_284 : decode cX2_read 284 = .ok (.areturn, 1) := dk_176 (dk_at dksX2_read_12 5 rfl rfl)
theorem okX2_read_0 : XOkL xms rX2_read bX2_read_0 := xcP (xok_aload_n dX2_read_0 rfl) rfl (xcP (xok_new (r := (RX3, TX3, 10)) (List.mem_of_getElem? (i := 3) rfl) rfl (by decide) dX2_read_1 q772 q272 q141) rfl (xcP (xok_dup dX2_read_4) rfl (xcC0 (xokc_I xm67 rfl rfl dX2_read_5 q773 q274 q141 q275 rfl (by decide +kernel)) rfl (xcP (xok_putfield (ref := "WaysAtlas$Reader") (Or.inr (Or.inr ⟨rfl, by decide, rfl⟩)) dX2_read_8 (Or.inl ⟨q232, (Or.inl rfl)⟩) (Or.inl rfl) xh1015) rfl (xcP (xok_aload_n dX2_read_11 rfl) rfl (xcP (xok_iconst dX2_read_12 rfl) rfl (xcP (xok_putfield (ref := "WaysAtlas$Reader") (Or.inl ⟨rfl, by decide, rfl⟩) dX2_read_13 (Or.inl ⟨q233, (Or.inl rfl)⟩) (Or.inl rfl) xh5) rfl (xcP (xok_aload_n dX2_read_16 rfl) rfl (xcP (xok_iconst dX2_read_17 rfl) rfl (xcP (xok_putfield (ref := "WaysAtlas$Reader") (Or.inl ⟨rfl, by decide, rfl⟩) dX2_read_18 (Or.inl ⟨q234, (Or.inl rfl)⟩) (Or.inl rfl) xh6) rfl (xcP (xok_aload_n dX2_read_21 rfl) rfl (xcP (xok_iconst dX2_read_22 rfl) rfl (xcP (xok_putfield (ref := "WaysAtlas$Reader") (Or.inl ⟨rfl, by decide, rfl⟩) dX2_read_23 (Or.inl ⟨q235, (Or.inl rfl)⟩) (Or.inl rfl) xh7) rfl (xcP (xok_aload_n dX2_read_26 rfl) rfl (xcP (xok_iconst dX2_read_27 rfl) rfl (xcP (xok_putfield (ref := "WaysAtlas$Reader") (Or.inl ⟨rfl, by decide, rfl⟩) dX2_read_28 (Or.inl ⟨q236, (Or.inl rfl)⟩) (Or.inl rfl) xh8) rfl (xcP (xok_aload_n dX2_read_31 rfl) rfl (xcP (xok_null dX2_read_32) rfl (xcP (xok_putfield (ref := "WaysAtlas$Reader") (Or.inr (Or.inr ⟨rfl, by decide, rfl⟩)) dX2_read_33 (Or.inl ⟨q237, (Or.inl rfl)⟩) (Or.inl rfl) xh1016) rfl (xcP (xok_aload_n dX2_read_36 rfl) rfl (xcP (xok_bipush dX2_read_37 rfl) rfl (xcP (xok_putfield (ref := "WaysAtlas$Reader") (Or.inl ⟨rfl, by decide, rfl⟩) dX2_read_39 (Or.inl ⟨q238, (Or.inl rfl)⟩) (Or.inl rfl) xh9) rfl (xcP (xok_aload_n dX2_read_42 rfl) rfl (xcP (xok_iconst dX2_read_43 rfl) rfl (xcP (xok_putfield (ref := "WaysAtlas$Reader") (Or.inl ⟨rfl, by decide, rfl⟩) dX2_read_44 (Or.inl ⟨q240, (Or.inl rfl)⟩) (Or.inl rfl) xh10) rfl (xcP (xok_aload_n dX2_read_47 rfl) rfl (xcP (xok_iconst dX2_read_48 rfl) rfl (xcP (xok_putfield (ref := "WaysAtlas$Reader") (Or.inl ⟨rfl, by decide, rfl⟩) dX2_read_49 (Or.inl ⟨q243, (Or.inl rfl)⟩) (Or.inl rfl) xh11) rfl (xcP xok_fal rfl trivial)))))))))))))))))))))))))))))
theorem okX2_read_52 : XOkL xms rX2_read bX2_read_52 := xcP (xok_aload_n dX2_read_52 rfl) rfl (xcP (xok_iconst dX2_read_53 rfl) rfl (xcC0 (xokc_list (List.forall_mem_cons.mpr ⟨xokc_V (r := (RX2, TX2, 13)) xm41 (List.mem_of_getElem? (i := 2) rfl) (by decide) rfl dX2_read_54 q774 q776 qs7 q140 q777 (by decide +kernel), fun _ h => nomatch h⟩)) rfl (xcP (xok_ifeq dX2_read_57 (by decide)) rfl (xcP (xok_aload_n dX2_read_60 rfl) rfl (xcP (xok_aload_n dX2_read_61 rfl) rfl (xcP (xok_getfield (ref := "WaysAtlas$Reader") (Or.inr ⟨rfl, by decide⟩) dX2_read_62 (Or.inl ⟨q232, (Or.inl rfl)⟩) xh1015) rfl (xcP (xok_getfield (ref := "WaysAtlas$Program") (Or.inl ⟨rfl, by decide⟩) dX2_read_65 (Or.inr ⟨⟨"WaysAtlas", (List.mem_of_getElem? (i := 82) rfl)⟩, (Or.inl rfl)⟩) xh13) rfl (xcP (xok_bipush dX2_read_68 rfl) rfl (xcP (xok_icmpge dX2_read_70 (by decide)) rfl (xcP (xok_iconst dX2_read_73 rfl) rfl (xcP (xok_goto dX2_read_74 (by decide)) rfl trivial)))))))))))
theorem okX2_read_77 : XOkL xms rX2_read bX2_read_77 := xcP (xok_iconst dX2_read_77 rfl) rfl (xcP xok_fal rfl trivial)
theorem okX2_read_78 : XOkL xms rX2_read bX2_read_78 := xcC0 (xokc_list (List.forall_mem_cons.mpr ⟨xokc_V (r := (RX2, TX2, 13)) xm43 (List.mem_of_getElem? (i := 2) rfl) (by decide) rfl dX2_read_78 q782 q784 qs9 q140 q785 (by decide +kernel), fun _ h => nomatch h⟩)) rfl (xcP (xok_aload_n dX2_read_81 rfl) rfl (xcP (xok_dup dX2_read_82) rfl (xcP (xok_getfield (ref := "WaysAtlas$Reader") (Or.inl ⟨rfl, by decide⟩) dX2_read_83 (Or.inl ⟨q233, (Or.inl rfl)⟩) xh5) rfl (xcP (xok_iconst dX2_read_86 rfl) rfl (xcP (xok_iadd dX2_read_87) rfl (xcP (xok_putfield (ref := "WaysAtlas$Reader") (Or.inl ⟨rfl, by decide, rfl⟩) dX2_read_88 (Or.inl ⟨q233, (Or.inl rfl)⟩) (Or.inl rfl) xh5) rfl (xcP (xok_aload_n dX2_read_91 rfl) rfl (xcP (xok_iconst dX2_read_92 rfl) rfl (xcC0 (xokc_list (List.forall_mem_cons.mpr ⟨xokc_V (r := (RX2, TX2, 13)) xm45 (List.mem_of_getElem? (i := 2) rfl) (by decide) rfl dX2_read_93 q814 q816 qs11 q140 q817 (by decide +kernel), fun _ h => nomatch h⟩)) rfl (xcP (xok_aload_n dX2_read_96 rfl) rfl (xcC0 (xokc_list (List.forall_mem_cons.mpr ⟨xokc_V (r := (RX2, TX2, 13)) xm47 (List.mem_of_getElem? (i := 2) rfl) (by decide) rfl dX2_read_97 q822 q824 qs13 q140 q825 (by decide +kernel), fun _ h => nomatch h⟩)) rfl (xcP (xok_istore_n dX2_read_100 rfl) rfl (xcP (xok_aload_n dX2_read_101 rfl) rfl (xcP (xok_bipush dX2_read_102 rfl) rfl (xcC0 (xokc_list (List.forall_mem_cons.mpr ⟨xokc_V (r := (RX2, TX2, 13)) xm48 (List.mem_of_getElem? (i := 2) rfl) (by decide) rfl dX2_read_104 q826 q828 qs14 q140 q829 (by decide +kernel), fun _ h => nomatch h⟩)) rfl (xcP (xok_pop dX2_read_107) rfl (xcP (xok_aload_n dX2_read_108 rfl) rfl (xcP (xok_getfield (ref := "WaysAtlas$Reader") (Or.inr ⟨rfl, by decide⟩) dX2_read_109 (Or.inl ⟨q232, (Or.inl rfl)⟩) xh1015) rfl (xcP (xok_getfield (ref := "WaysAtlas$Program") (Or.inr ⟨rfl, by decide⟩) dX2_read_112 (Or.inr ⟨⟨"WaysAtlas", (List.mem_of_getElem? (i := 63) rfl)⟩, (Or.inl rfl)⟩) xh1021) rfl (xcP (xok_aload_n dX2_read_115 rfl) rfl (xcP (xok_getfield (ref := "WaysAtlas$Reader") (Or.inr ⟨rfl, by decide⟩) dX2_read_116 (Or.inl ⟨q232, (Or.inl rfl)⟩) xh1015) rfl (xcP (xok_getfield (ref := "WaysAtlas$Program") (Or.inl ⟨rfl, by decide⟩) dX2_read_119 (Or.inr ⟨⟨"WaysAtlas", (List.mem_of_getElem? (i := 82) rfl)⟩, (Or.inl rfl)⟩) xh13) rfl (xcP (xok_iload_n dX2_read_122 rfl) rfl (xcP (xok_aload_n dX2_read_123 rfl) rfl (xcP (xok_getfield (ref := "WaysAtlas$Reader") (Or.inr ⟨rfl, by decide⟩) dX2_read_124 (Or.inl ⟨q232, (Or.inl rfl)⟩) xh1015) rfl (xcP (xok_getfield (ref := "WaysAtlas$Program") (Or.inl ⟨rfl, by decide⟩) dX2_read_127 (Or.inr ⟨⟨"WaysAtlas", (List.mem_of_getElem? (i := 82) rfl)⟩, (Or.inl rfl)⟩) xh13) rfl (xcP (xok_iconst dX2_read_130 rfl) rfl (xcP (xok_isub dX2_read_131) rfl (xcC0 (xokc_S xm293 rfl dX2_read_132 q834 q835 q155 q836 (by decide +kernel)) rfl (xcP (xok_iastore dX2_read_135) rfl (xcP (xok_aload_n dX2_read_136 rfl) rfl (xcP (xok_getfield (ref := "WaysAtlas$Reader") (Or.inr ⟨rfl, by decide⟩) dX2_read_137 (Or.inl ⟨q232, (Or.inl rfl)⟩) xh1015) rfl (xcP (xok_dup dX2_read_140) rfl (xcP (xok_getfield (ref := "WaysAtlas$Program") (Or.inl ⟨rfl, by decide⟩) dX2_read_141 (Or.inr ⟨⟨"WaysAtlas", (List.mem_of_getElem? (i := 82) rfl)⟩, (Or.inl rfl)⟩) xh13) rfl (xcP (xok_iconst dX2_read_144 rfl) rfl (xcP (xok_iadd dX2_read_145) rfl (xcP (xok_putfield (ref := "WaysAtlas$Program") (Or.inl ⟨rfl, by decide, rfl⟩) dX2_read_146 (Or.inr ⟨⟨"WaysAtlas", (List.mem_of_getElem? (i := 82) rfl)⟩, (Or.inl rfl)⟩) (Or.inl rfl) xh13) rfl (xcP (xok_goto dX2_read_149 (by decide)) rfl trivial))))))))))))))))))))))))))))))))))))))
theorem okX2_read_152 : XOkL xms rX2_read bX2_read_152 := xcP (xok_aload_n dX2_read_152 rfl) rfl (xcC0 (xokc_list (List.forall_mem_cons.mpr ⟨xokc_V (r := (RX2, TX2, 13)) xm50 (List.mem_of_getElem? (i := 2) rfl) (by decide) rfl dX2_read_153 q837 q839 qs16 q140 q840 (by decide +kernel), fun _ h => nomatch h⟩)) rfl (xcP xok_fal rfl trivial))
theorem okX2_read_156 : XOkL xms rX2_read bX2_read_156 := xcP (xok_aload_n dX2_read_156 rfl) rfl (xcP (xok_iconst dX2_read_157 rfl) rfl (xcC0 (xokc_list (List.forall_mem_cons.mpr ⟨xokc_V (r := (RX2, TX2, 13)) xm41 (List.mem_of_getElem? (i := 2) rfl) (by decide) rfl dX2_read_158 q774 q776 qs7 q140 q777 (by decide +kernel), fun _ h => nomatch h⟩)) rfl (xcP (xok_ifeq dX2_read_161 (by decide)) rfl (xcP (xok_aload_n dX2_read_164 rfl) rfl (xcC0 (xokc_list (List.forall_mem_cons.mpr ⟨xokc_V (r := (RX2, TX2, 13)) xm50 (List.mem_of_getElem? (i := 2) rfl) (by decide) rfl dX2_read_165 q837 q839 qs16 q140 q840 (by decide +kernel), fun _ h => nomatch h⟩)) rfl (xcP (xok_goto dX2_read_168 (by decide)) rfl trivial))))))
theorem okX2_read_171 : XOkL xms rX2_read bX2_read_171 := xcP (xok_aload_n dX2_read_171 rfl) rfl (xcP (xok_aload_n dX2_read_172 rfl) rfl (xcC0 (xokc_list (List.forall_mem_cons.mpr ⟨xokc_V (r := (RX2, TX2, 13)) xm42 (List.mem_of_getElem? (i := 2) rfl) (by decide) rfl dX2_read_173 q778 q780 qs8 q140 q781 (by decide +kernel), fun _ h => nomatch h⟩)) rfl (xcP (xok_ifne dX2_read_176 (by decide)) rfl (xcP (xok_iconst dX2_read_179 rfl) rfl (xcP (xok_goto dX2_read_180 (by decide)) rfl trivial)))))
theorem okX2_read_183 : XOkL xms rX2_read bX2_read_183 := xcP (xok_iconst dX2_read_183 rfl) rfl (xcP xok_fal rfl trivial)
theorem okX2_read_184 : XOkL xms rX2_read bX2_read_184 := xcC0 (xokc_list (List.forall_mem_cons.mpr ⟨xokc_V (r := (RX2, TX2, 13)) xm46 (List.mem_of_getElem? (i := 2) rfl) (by decide) rfl dX2_read_184 q818 q820 qs12 q140 q821 (by decide +kernel), fun _ h => nomatch h⟩)) rfl (xcP (xok_iconst dX2_read_187 rfl) rfl (xcP (xok_istore_n dX2_read_188 rfl) rfl (xcP xok_fal rfl trivial)))
theorem okX2_read_189 : XOkL xms rX2_read bX2_read_189 := xcP (xok_iload_n dX2_read_189 rfl) rfl (xcP (xok_aload_n dX2_read_190 rfl) rfl (xcP (xok_getfield (ref := "WaysAtlas$Reader") (Or.inl ⟨rfl, by decide⟩) dX2_read_191 (Or.inl ⟨q243, (Or.inl rfl)⟩) xh11) rfl (xcP (xok_icmpge dX2_read_194 (by decide)) rfl (xcP (xok_aload_n dX2_read_197 rfl) rfl (xcP (xok_aload_n dX2_read_198 rfl) rfl (xcP (xok_getfield (ref := "WaysAtlas$Reader") (Or.inr ⟨rfl, by decide⟩) dX2_read_199 (Or.inl ⟨q241, (Or.inl rfl)⟩) xh1018) rfl (xcP (xok_iload_n dX2_read_202 rfl) rfl (xcP (xok_iaload dX2_read_203) rfl (xcP (xok_aload_n dX2_read_204 rfl) rfl (xcP (xok_getfield (ref := "WaysAtlas$Reader") (Or.inr ⟨rfl, by decide⟩) dX2_read_205 (Or.inl ⟨q232, (Or.inl rfl)⟩) xh1015) rfl (xcP (xok_getfield (ref := "WaysAtlas$Program") (Or.inl ⟨rfl, by decide⟩) dX2_read_208 (Or.inr ⟨⟨"WaysAtlas", (List.mem_of_getElem? (i := 64) rfl)⟩, (Or.inl rfl)⟩) xh12) rfl (xcP (xok_icmplt dX2_read_211 (by decide)) rfl (xcP (xok_aload_n dX2_read_214 rfl) rfl (xcP (xok_getfield (ref := "WaysAtlas$Reader") (Or.inl ⟨rfl, by decide⟩) dX2_read_215 (Or.inl ⟨q238, (Or.inl rfl)⟩) xh9) rfl (xcP (xok_bipush dX2_read_218 rfl) rfl (xcP (xok_icmpeq dX2_read_220 (by decide)) rfl (xcP (xok_aload_n dX2_read_223 rfl) rfl (xcP (xok_getfield (ref := "WaysAtlas$Reader") (Or.inr ⟨rfl, by decide⟩) dX2_read_224 (Or.inl ⟨q242, (Or.inl rfl)⟩) xh1019) rfl (xcP (xok_iload_n dX2_read_227 rfl) rfl (xcP (xok_iaload dX2_read_228) rfl (xcP (xok_aload_n dX2_read_229 rfl) rfl (xcP (xok_getfield (ref := "WaysAtlas$Reader") (Or.inl ⟨rfl, by decide⟩) dX2_read_230 (Or.inl ⟨q238, (Or.inl rfl)⟩) xh9) rfl (xcP (xok_icmpge dX2_read_233 (by decide)) rfl (xcP xok_fal rfl trivial))))))))))))))))))))))))
theorem okX2_read_236 : XOkL xms rX2_read bX2_read_236 := xcP (xok_aload_n dX2_read_236 rfl) rfl (xcP (xok_getfield (ref := "WaysAtlas$Reader") (Or.inr ⟨rfl, by decide⟩) dX2_read_237 (Or.inl ⟨q242, (Or.inl rfl)⟩) xh1019) rfl (xcP (xok_iload_n dX2_read_240 rfl) rfl (xcP (xok_iaload dX2_read_241) rfl (xcP (xok_goto dX2_read_242 (by decide)) rfl trivial))))
theorem okX2_read_245 : XOkL xms rX2_read bX2_read_245 := xcP (xok_aload_n dX2_read_245 rfl) rfl (xcP (xok_getfield (ref := "WaysAtlas$Reader") (Or.inl ⟨rfl, by decide⟩) dX2_read_246 (Or.inl ⟨q238, (Or.inl rfl)⟩) xh9) rfl (xcP xok_fal rfl trivial))
theorem okX2_read_249 : XOkL xms rX2_read bX2_read_249 := xcP (xok_putfield (ref := "WaysAtlas$Reader") (Or.inl ⟨rfl, by decide, rfl⟩) dX2_read_249 (Or.inl ⟨q238, (Or.inl rfl)⟩) (Or.inl rfl) xh9) rfl (xcP (xok_iinc dX2_read_252 rfl) rfl (xcP (xok_goto dX2_read_255 (by decide)) rfl trivial))
theorem okX2_read_258 : XOkL xms rX2_read bX2_read_258 := xcP (xok_aload_n dX2_read_258 rfl) rfl (xcP (xok_getfield (ref := "WaysAtlas$Reader") (Or.inl ⟨rfl, by decide⟩) dX2_read_259 (Or.inl ⟨q238, (Or.inl rfl)⟩) xh9) rfl (xcP (xok_bipush dX2_read_262 rfl) rfl (xcP (xok_icmpeq dX2_read_264 (by decide)) rfl (xcP (xok_new (r := (RX10, TX10, 8)) (List.mem_of_getElem? (i := 10) rfl) rfl (by decide) dX2_read_267 q786 q787 q154) rfl (xcP (xok_dup dX2_read_270) rfl (xcP (xok_iconst dX2_read_271 rfl) rfl (xcP (xok_aload_n dX2_read_272 rfl) rfl (xcP (xok_getfield (ref := "WaysAtlas$Reader") (Or.inl ⟨rfl, by decide⟩) dX2_read_273 (Or.inl ⟨q238, (Or.inl rfl)⟩) xh9) rfl (xcC0 (xokc_I xm201 rfl rfl dX2_read_276 q799 q800 q154 q801 rfl (by decide +kernel)) rfl (xcT dX2_read_279))))))))))
theorem okX2_read_280 : XOkL xms rX2_read bX2_read_280 := xcP (xok_aload_n dX2_read_280 rfl) rfl (xcP (xok_getfield (ref := "WaysAtlas$Reader") (Or.inr ⟨rfl, by decide⟩) dX2_read_281 (Or.inl ⟨q232, (Or.inl rfl)⟩) xh1015) rfl (xcR ⟨dX2_read_284, _, rfl, Or.inl ⟨_, rfl⟩⟩))
theorem okM_X2_read : XOkM xms rX2_read := xokM0 (List.forall_mem_cons.mpr ⟨⟨rfl, okX2_read_0⟩, List.forall_mem_cons.mpr ⟨⟨rfl, okX2_read_52⟩, List.forall_mem_cons.mpr ⟨⟨rfl, okX2_read_77⟩, List.forall_mem_cons.mpr ⟨⟨rfl, okX2_read_78⟩, List.forall_mem_cons.mpr ⟨⟨rfl, okX2_read_152⟩, List.forall_mem_cons.mpr ⟨⟨rfl, okX2_read_156⟩, List.forall_mem_cons.mpr ⟨⟨rfl, okX2_read_171⟩, List.forall_mem_cons.mpr ⟨⟨rfl, okX2_read_183⟩, List.forall_mem_cons.mpr ⟨⟨rfl, okX2_read_184⟩, List.forall_mem_cons.mpr ⟨⟨rfl, okX2_read_189⟩, List.forall_mem_cons.mpr ⟨⟨rfl, okX2_read_236⟩, List.forall_mem_cons.mpr ⟨⟨rfl, okX2_read_245⟩, List.forall_mem_cons.mpr ⟨⟨rfl, okX2_read_249⟩, List.forall_mem_cons.mpr ⟨⟨rfl, okX2_read_258⟩, List.forall_mem_cons.mpr ⟨⟨rfl, okX2_read_280⟩, fun _ h => nomatch h⟩⟩⟩⟩⟩⟩⟩⟩⟩⟩⟩⟩⟩⟩⟩) (xokH0 rfl (fun _ _ => rfl)) (by decide +kernel) (by decide)
abbrev cX2_isWord : ByteArray := prog_21_method_4_code
def dkwX2_isWord_1 : List UInt8 := [4, 167, 0, 4, 3, 172]
abbrev dktX2_isWord_1 : List UInt8 := dkwX2_isWord_1 ++ []
def dkwX2_isWord_0 : List UInt8 := [42, 182, 0, 40, 5, 160, 0, 23, 42, 180, 0, 24, 180, 0, 44, 42, 180, 0, 33, 46, 27, 160, 0, 7]
abbrev dktX2_isWord_0 : List UInt8 := dkwX2_isWord_0 ++ dktX2_isWord_1
theorem dksX2_isWord_0 : cX2_isWord.data.toList.drop 0 = dktX2_isWord_0 := by decide +kernel
theorem dksX2_isWord_1 : cX2_isWord.data.toList.drop 24 = dktX2_isWord_1 := dk_seg dksX2_isWord_0 24 rfl rfl
theorem dX2_isWord_0 : decode cX2_isWord 0 = .ok (.aload_n 0, 1) := dk_42 (dk_at dksX2_isWord_0 0 rfl rfl)
theorem dX2_isWord_1 : decode cX2_isWord 1 = .ok (.invokevirtual 40, 3) := dk_182 0 40 (dk_at dksX2_isWord_0 1 rfl rfl)
theorem dX2_isWord_4 : decode cX2_isWord 4 = .ok (.iconst 2, 1) := dk_5 (dk_at dksX2_isWord_0 4 rfl rfl)
theorem dX2_isWord_5 : decode cX2_isWord 5 = .ok (.if_icmp .ne 23, 3) := dk_160 0 23 (dk_at dksX2_isWord_0 5 rfl rfl)
theorem dX2_isWord_8 : decode cX2_isWord 8 = .ok (.aload_n 0, 1) := dk_42 (dk_at dksX2_isWord_0 8 rfl rfl)
theorem dX2_isWord_9 : decode cX2_isWord 9 = .ok (.getfield 24, 3) := dk_180 0 24 (dk_at dksX2_isWord_0 9 rfl rfl)
theorem dX2_isWord_12 : decode cX2_isWord 12 = .ok (.getfield 44, 3) := dk_180 0 44 (dk_at dksX2_isWord_0 12 rfl rfl)
theorem dX2_isWord_15 : decode cX2_isWord 15 = .ok (.aload_n 0, 1) := dk_42 (dk_at dksX2_isWord_0 15 rfl rfl)
theorem dX2_isWord_16 : decode cX2_isWord 16 = .ok (.getfield 33, 3) := dk_180 0 33 (dk_at dksX2_isWord_0 16 rfl rfl)
theorem dX2_isWord_19 : decode cX2_isWord 19 = .ok (.iaload, 1) := dk_46 (dk_at dksX2_isWord_0 19 rfl rfl)
theorem dX2_isWord_20 : decode cX2_isWord 20 = .ok (.iload_n 1, 1) := dk_27 (dk_at dksX2_isWord_0 20 rfl rfl)
theorem dX2_isWord_21 : decode cX2_isWord 21 = .ok (.if_icmp .ne 7, 3) := dk_160 0 7 (dk_at dksX2_isWord_0 21 rfl rfl)
theorem dX2_isWord_24 : decode cX2_isWord 24 = .ok (.iconst 1, 1) := dk_4 (dk_at dksX2_isWord_1 0 rfl rfl)
theorem dX2_isWord_25 : decode cX2_isWord 25 = .ok (.goto 4, 3) := dk_167 0 4 (dk_at dksX2_isWord_1 1 rfl rfl)
theorem dX2_isWord_28 : decode cX2_isWord 28 = .ok (.iconst 0, 1) := dk_3 (dk_at dksX2_isWord_1 4 rfl rfl)
theorem dX2_isWord_29 : decode cX2_isWord 29 = .ok (.ireturn, 1) := dk_172 (dk_at dksX2_isWord_1 5 rfl rfl)
theorem okX2_isWord_0 : XOkL xms rX2_isWord bX2_isWord_0 := xcP (xok_aload_n dX2_isWord_0 rfl) rfl (xcC0 (xokc_list (List.forall_mem_cons.mpr ⟨xokc_V (r := (RX2, TX2, 13)) xm42 (List.mem_of_getElem? (i := 2) rfl) (by decide) rfl dX2_isWord_1 q778 q780 qs8 q140 q781 (by decide +kernel), fun _ h => nomatch h⟩)) rfl (xcP (xok_iconst dX2_isWord_4 rfl) rfl (xcP (xok_icmpne dX2_isWord_5 (by decide)) rfl (xcP (xok_aload_n dX2_isWord_8 rfl) rfl (xcP (xok_getfield (ref := "WaysAtlas$Reader") (Or.inr ⟨rfl, by decide⟩) dX2_isWord_9 (Or.inl ⟨q231, (Or.inl rfl)⟩) xh1014) rfl (xcP (xok_getfield (ref := "WaysAtlas$Scanner") (Or.inr ⟨rfl, by decide⟩) dX2_isWord_12 (Or.inr ⟨⟨"WaysAtlas", (List.mem_of_getElem? (i := 81) rfl)⟩, (Or.inl rfl)⟩) xh1013) rfl (xcP (xok_aload_n dX2_isWord_15 rfl) rfl (xcP (xok_getfield (ref := "WaysAtlas$Reader") (Or.inl ⟨rfl, by decide⟩) dX2_isWord_16 (Or.inl ⟨q233, (Or.inl rfl)⟩) xh5) rfl (xcP (xok_iaload dX2_isWord_19) rfl (xcP (xok_iload_n dX2_isWord_20 rfl) rfl (xcP (xok_icmpne dX2_isWord_21 (by decide)) rfl (xcP (xok_iconst dX2_isWord_24 rfl) rfl (xcP (xok_goto dX2_isWord_25 (by decide)) rfl trivial)))))))))))))
theorem okX2_isWord_28 : XOkL xms rX2_isWord bX2_isWord_28 := xcP (xok_iconst dX2_isWord_28 rfl) rfl (xcP xok_fal rfl trivial)
theorem okX2_isWord_29 : XOkL xms rX2_isWord bX2_isWord_29 := xcR ⟨dX2_isWord_29, rfl⟩
theorem okM_X2_isWord : XOkM xms rX2_isWord := xokM0 (List.forall_mem_cons.mpr ⟨⟨rfl, okX2_isWord_0⟩, List.forall_mem_cons.mpr ⟨⟨rfl, okX2_isWord_28⟩, List.forall_mem_cons.mpr ⟨⟨rfl, okX2_isWord_29⟩, fun _ h => nomatch h⟩⟩⟩) (xokH0 rfl (fun _ _ => rfl)) (by decide +kernel) (by decide)
abbrev cX2_kind : ByteArray := prog_21_method_2_code
def dkwX2_kind_0 : List UInt8 := [42, 180, 0, 24, 180, 0, 28, 42, 180, 0, 33, 46, 172]
abbrev dktX2_kind_0 : List UInt8 := dkwX2_kind_0 ++ []
theorem dksX2_kind_0 : cX2_kind.data.toList.drop 0 = dktX2_kind_0 := by decide +kernel
theorem dX2_kind_0 : decode cX2_kind 0 = .ok (.aload_n 0, 1) := dk_42 (dk_at dksX2_kind_0 0 rfl rfl)
theorem dX2_kind_1 : decode cX2_kind 1 = .ok (.getfield 24, 3) := dk_180 0 24 (dk_at dksX2_kind_0 1 rfl rfl)
theorem dX2_kind_4 : decode cX2_kind 4 = .ok (.getfield 28, 3) := dk_180 0 28 (dk_at dksX2_kind_0 4 rfl rfl)
theorem dX2_kind_7 : decode cX2_kind 7 = .ok (.aload_n 0, 1) := dk_42 (dk_at dksX2_kind_0 7 rfl rfl)
theorem dX2_kind_8 : decode cX2_kind 8 = .ok (.getfield 33, 3) := dk_180 0 33 (dk_at dksX2_kind_0 8 rfl rfl)
theorem dX2_kind_11 : decode cX2_kind 11 = .ok (.iaload, 1) := dk_46 (dk_at dksX2_kind_0 11 rfl rfl)
theorem dX2_kind_12 : decode cX2_kind 12 = .ok (.ireturn, 1) := dk_172 (dk_at dksX2_kind_0 12 rfl rfl)
theorem okX2_kind_0 : XOkL xms rX2_kind bX2_kind_0 := xcP (xok_aload_n dX2_kind_0 rfl) rfl (xcP (xok_getfield (ref := "WaysAtlas$Reader") (Or.inr ⟨rfl, by decide⟩) dX2_kind_1 (Or.inl ⟨q231, (Or.inl rfl)⟩) xh1014) rfl (xcP (xok_getfield (ref := "WaysAtlas$Scanner") (Or.inr ⟨rfl, by decide⟩) dX2_kind_4 (Or.inr ⟨⟨"WaysAtlas", (List.mem_of_getElem? (i := 78) rfl)⟩, (Or.inl rfl)⟩) xh1011) rfl (xcP (xok_aload_n dX2_kind_7 rfl) rfl (xcP (xok_getfield (ref := "WaysAtlas$Reader") (Or.inl ⟨rfl, by decide⟩) dX2_kind_8 (Or.inl ⟨q233, (Or.inl rfl)⟩) xh5) rfl (xcP (xok_iaload dX2_kind_11) rfl (xcR ⟨dX2_kind_12, rfl⟩))))))
theorem okM_X2_kind : XOkM xms rX2_kind := xokM0 (List.forall_mem_cons.mpr ⟨⟨rfl, okX2_kind_0⟩, fun _ h => nomatch h⟩) (xokH0 rfl (fun _ _ => rfl)) (by decide +kernel) (by decide)
abbrev cX2_room : ByteArray := prog_21_method_6_code
def dkwX2_room_0 : List UInt8 := [27, 154, 0, 16, 187, 0, 47, 89, 5, 42, 182, 0, 49, 183, 0, 52, 191, 177]
abbrev dktX2_room_0 : List UInt8 := dkwX2_room_0 ++ []
theorem dksX2_room_0 : cX2_room.data.toList.drop 0 = dktX2_room_0 := by decide +kernel
theorem dX2_room_0 : decode cX2_room 0 = .ok (.iload_n 1, 1) := dk_27 (dk_at dksX2_room_0 0 rfl rfl)
theorem dX2_room_1 : decode cX2_room 1 = .ok (.ifCond .ne 16, 3) := dk_154 0 16 (dk_at dksX2_room_0 1 rfl rfl)
theorem dX2_room_4 : decode cX2_room 4 = .ok (.new 47, 3) := dk_187 0 47 (dk_at dksX2_room_0 4 rfl rfl)
theorem dX2_room_7 : decode cX2_room 7 = .ok (.dup, 1) := dk_89 (dk_at dksX2_room_0 7 rfl rfl)
theorem dX2_room_8 : decode cX2_room 8 = .ok (.iconst 2, 1) := dk_5 (dk_at dksX2_room_0 8 rfl rfl)
theorem dX2_room_9 : decode cX2_room 9 = .ok (.aload_n 0, 1) := dk_42 (dk_at dksX2_room_0 9 rfl rfl)
theorem dX2_room_10 : decode cX2_room 10 = .ok (.invokevirtual 49, 3) := dk_182 0 49 (dk_at dksX2_room_0 10 rfl rfl)
theorem dX2_room_13 : decode cX2_room 13 = .ok (.invokespecial 52, 3) := dk_183 0 52 (dk_at dksX2_room_0 13 rfl rfl)
theorem dX2_room_16 : decode cX2_room 16 = .ok (.athrow, 1) := dk_191 (dk_at dksX2_room_0 16 rfl rfl)
theorem dX2_room_17 : decode cX2_room 17 = .ok (.return_, 1) := dk_177 (dk_at dksX2_room_0 17 rfl rfl)
theorem okX2_room_0 : XOkL xms rX2_room bX2_room_0 := xcP (xok_iload_n dX2_room_0 rfl) rfl (xcP (xok_ifne dX2_room_1 (by decide)) rfl (xcP (xok_new (r := (RX10, TX10, 8)) (List.mem_of_getElem? (i := 10) rfl) rfl (by decide) dX2_room_4 q786 q787 q154) rfl (xcP (xok_dup dX2_room_7) rfl (xcP (xok_iconst dX2_room_8 rfl) rfl (xcP (xok_aload_n dX2_room_9 rfl) rfl (xcC0 (xokc_list (List.forall_mem_cons.mpr ⟨xokc_V (r := (RX2, TX2, 13)) xm44 (List.mem_of_getElem? (i := 2) rfl) (by decide) rfl dX2_room_10 q795 q797 qs10 q140 q798 (by decide +kernel), fun _ h => nomatch h⟩)) rfl (xcC0 (xokc_I xm201 rfl rfl dX2_room_13 q799 q800 q154 q801 rfl (by decide +kernel)) rfl (xcT dX2_room_16))))))))
theorem okX2_room_17 : XOkL xms rX2_room bX2_room_17 := xcR ⟨dX2_room_17, rfl⟩
theorem okM_X2_room : XOkM xms rX2_room := xokM0 (List.forall_mem_cons.mpr ⟨⟨rfl, okX2_room_0⟩, List.forall_mem_cons.mpr ⟨⟨rfl, okX2_room_17⟩, fun _ h => nomatch h⟩⟩) (xokH0 rfl (fun _ _ => rfl)) (by decide +kernel) (by decide)
abbrev cX2_place : ByteArray := prog_21_method_3_code
def dkwX2_place_0 : List UInt8 := [42, 180, 0, 24, 180, 0, 37, 42, 180, 0, 33, 46, 172]
abbrev dktX2_place_0 : List UInt8 := dkwX2_place_0 ++ []
theorem dksX2_place_0 : cX2_place.data.toList.drop 0 = dktX2_place_0 := by decide +kernel
theorem dX2_place_0 : decode cX2_place 0 = .ok (.aload_n 0, 1) := dk_42 (dk_at dksX2_place_0 0 rfl rfl)
theorem dX2_place_1 : decode cX2_place 1 = .ok (.getfield 24, 3) := dk_180 0 24 (dk_at dksX2_place_0 1 rfl rfl)
theorem dX2_place_4 : decode cX2_place 4 = .ok (.getfield 37, 3) := dk_180 0 37 (dk_at dksX2_place_0 4 rfl rfl)
theorem dX2_place_7 : decode cX2_place 7 = .ok (.aload_n 0, 1) := dk_42 (dk_at dksX2_place_0 7 rfl rfl)
theorem dX2_place_8 : decode cX2_place 8 = .ok (.getfield 33, 3) := dk_180 0 33 (dk_at dksX2_place_0 8 rfl rfl)
theorem dX2_place_11 : decode cX2_place 11 = .ok (.iaload, 1) := dk_46 (dk_at dksX2_place_0 11 rfl rfl)
theorem dX2_place_12 : decode cX2_place 12 = .ok (.ireturn, 1) := dk_172 (dk_at dksX2_place_0 12 rfl rfl)
theorem okX2_place_0 : XOkL xms rX2_place bX2_place_0 := xcP (xok_aload_n dX2_place_0 rfl) rfl (xcP (xok_getfield (ref := "WaysAtlas$Reader") (Or.inr ⟨rfl, by decide⟩) dX2_place_1 (Or.inl ⟨q231, (Or.inl rfl)⟩) xh1014) rfl (xcP (xok_getfield (ref := "WaysAtlas$Scanner") (Or.inr ⟨rfl, by decide⟩) dX2_place_4 (Or.inr ⟨⟨"WaysAtlas", (List.mem_of_getElem? (i := 80) rfl)⟩, (Or.inl rfl)⟩) xh1012) rfl (xcP (xok_aload_n dX2_place_7 rfl) rfl (xcP (xok_getfield (ref := "WaysAtlas$Reader") (Or.inl ⟨rfl, by decide⟩) dX2_place_8 (Or.inl ⟨q233, (Or.inl rfl)⟩) xh5) rfl (xcP (xok_iaload dX2_place_11) rfl (xcR ⟨dX2_place_12, rfl⟩))))))
theorem okM_X2_place : XOkM xms rX2_place := xokM0 (List.forall_mem_cons.mpr ⟨⟨rfl, okX2_place_0⟩, fun _ h => nomatch h⟩) (xokH0 rfl (fun _ _ => rfl)) (by decide +kernel) (by decide)
