set_option maxRecDepth 100000
abbrev cX9_comesToLoop : ByteArray := prog_36_method_90_code
def dkwX9_comesToLoop_5 : List UInt8 := [181, 1, 252, 177]
abbrev dktX9_comesToLoop_5 : List UInt8 := dkwX9_comesToLoop_5 ++ []
def dkwX9_comesToLoop_4 : List UInt8 := [180, 1, 246, 5, 159, 0, 11, 42, 180, 1, 246, 6, 160, 0, 13, 42, 89, 180, 1, 252, 4, 100]
abbrev dktX9_comesToLoop_4 : List UInt8 := dkwX9_comesToLoop_4 ++ dktX9_comesToLoop_5
def dkwX9_comesToLoop_3 : List UInt8 := [180, 1, 246, 5, 160, 0, 19, 42, 180, 1, 252, 4, 160, 0, 11, 42, 3, 181, 1, 246, 167, 0, 29, 42]
abbrev dktX9_comesToLoop_3 : List UInt8 := dkwX9_comesToLoop_3 ++ dktX9_comesToLoop_4
def dkwX9_comesToLoop_2 : List UInt8 := [46, 158, 0, 8, 42, 182, 2, 37, 177, 42, 89, 180, 1, 255, 4, 100, 181, 1, 255, 28, 154, 0, 19, 42]
abbrev dktX9_comesToLoop_2 : List UInt8 := dkwX9_comesToLoop_2 ++ dktX9_comesToLoop_3
def dkwX9_comesToLoop_1 : List UInt8 := [167, 0, 4, 3, 61, 28, 153, 0, 27, 42, 180, 0, 181, 27, 92, 46, 4, 100, 79, 42, 180, 0, 181, 27]
abbrev dktX9_comesToLoop_1 : List UInt8 := dkwX9_comesToLoop_1 ++ dktX9_comesToLoop_2
def dkwX9_comesToLoop_0 : List UInt8 := [42, 180, 1, 246, 153, 0, 19, 42, 180, 1, 246, 6, 160, 0, 15, 42, 180, 1, 252, 4, 160, 0, 7, 4]
abbrev dktX9_comesToLoop_0 : List UInt8 := dkwX9_comesToLoop_0 ++ dktX9_comesToLoop_1
theorem dksX9_comesToLoop_0 : cX9_comesToLoop.data.toList.drop 0 = dktX9_comesToLoop_0 := by decide +kernel
theorem dksX9_comesToLoop_1 : cX9_comesToLoop.data.toList.drop 24 = dktX9_comesToLoop_1 := dk_seg dksX9_comesToLoop_0 24 rfl rfl
theorem dksX9_comesToLoop_2 : cX9_comesToLoop.data.toList.drop 48 = dktX9_comesToLoop_2 := dk_seg dksX9_comesToLoop_1 24 rfl rfl
theorem dksX9_comesToLoop_3 : cX9_comesToLoop.data.toList.drop 72 = dktX9_comesToLoop_3 := dk_seg dksX9_comesToLoop_2 24 rfl rfl
theorem dksX9_comesToLoop_4 : cX9_comesToLoop.data.toList.drop 96 = dktX9_comesToLoop_4 := dk_seg dksX9_comesToLoop_3 24 rfl rfl
theorem dksX9_comesToLoop_5 : cX9_comesToLoop.data.toList.drop 118 = dktX9_comesToLoop_5 := dk_seg dksX9_comesToLoop_4 22 rfl rfl
theorem dX9_comesToLoop_0 : decode cX9_comesToLoop 0 = .ok (.aload_n 0, 1) := dk_42 (dk_at dksX9_comesToLoop_0 0 rfl rfl)
theorem dX9_comesToLoop_1 : decode cX9_comesToLoop 1 = .ok (.getfield 502, 3) := dk_180 1 246 (dk_at dksX9_comesToLoop_0 1 rfl rfl)
theorem dX9_comesToLoop_4 : decode cX9_comesToLoop 4 = .ok (.ifCond .eq 19, 3) := dk_153 0 19 (dk_at dksX9_comesToLoop_0 4 rfl rfl)
theorem dX9_comesToLoop_7 : decode cX9_comesToLoop 7 = .ok (.aload_n 0, 1) := dk_42 (dk_at dksX9_comesToLoop_0 7 rfl rfl)
theorem dX9_comesToLoop_8 : decode cX9_comesToLoop 8 = .ok (.getfield 502, 3) := dk_180 1 246 (dk_at dksX9_comesToLoop_0 8 rfl rfl)
theorem dX9_comesToLoop_11 : decode cX9_comesToLoop 11 = .ok (.iconst 3, 1) := dk_6 (dk_at dksX9_comesToLoop_0 11 rfl rfl)
theorem dX9_comesToLoop_12 : decode cX9_comesToLoop 12 = .ok (.if_icmp .ne 15, 3) := dk_160 0 15 (dk_at dksX9_comesToLoop_0 12 rfl rfl)
theorem dX9_comesToLoop_15 : decode cX9_comesToLoop 15 = .ok (.aload_n 0, 1) := dk_42 (dk_at dksX9_comesToLoop_0 15 rfl rfl)
theorem dX9_comesToLoop_16 : decode cX9_comesToLoop 16 = .ok (.getfield 508, 3) := dk_180 1 252 (dk_at dksX9_comesToLoop_0 16 rfl rfl)
theorem dX9_comesToLoop_19 : decode cX9_comesToLoop 19 = .ok (.iconst 1, 1) := dk_4 (dk_at dksX9_comesToLoop_0 19 rfl rfl)
theorem dX9_comesToLoop_20 : decode cX9_comesToLoop 20 = .ok (.if_icmp .ne 7, 3) := dk_160 0 7 (dk_at dksX9_comesToLoop_0 20 rfl rfl)
theorem dX9_comesToLoop_23 : decode cX9_comesToLoop 23 = .ok (.iconst 1, 1) := dk_4 (dk_at dksX9_comesToLoop_0 23 rfl rfl)
theorem dX9_comesToLoop_24 : decode cX9_comesToLoop 24 = .ok (.goto 4, 3) := dk_167 0 4 (dk_at dksX9_comesToLoop_1 0 rfl rfl)
theorem dX9_comesToLoop_27 : decode cX9_comesToLoop 27 = .ok (.iconst 0, 1) := dk_3 (dk_at dksX9_comesToLoop_1 3 rfl rfl)
theorem dX9_comesToLoop_28 : decode cX9_comesToLoop 28 = .ok (.istore_n 2, 1) := dk_61 (dk_at dksX9_comesToLoop_1 4 rfl rfl)
theorem dX9_comesToLoop_29 : decode cX9_comesToLoop 29 = .ok (.iload_n 2, 1) := dk_28 (dk_at dksX9_comesToLoop_1 5 rfl rfl)
theorem dX9_comesToLoop_30 : decode cX9_comesToLoop 30 = .ok (.ifCond .eq 27, 3) := dk_153 0 27 (dk_at dksX9_comesToLoop_1 6 rfl rfl)
theorem dX9_comesToLoop_33 : decode cX9_comesToLoop 33 = .ok (.aload_n 0, 1) := dk_42 (dk_at dksX9_comesToLoop_1 9 rfl rfl)
theorem dX9_comesToLoop_34 : decode cX9_comesToLoop 34 = .ok (.getfield 181, 3) := dk_180 0 181 (dk_at dksX9_comesToLoop_1 10 rfl rfl)
theorem dX9_comesToLoop_37 : decode cX9_comesToLoop 37 = .ok (.iload_n 1, 1) := dk_27 (dk_at dksX9_comesToLoop_1 13 rfl rfl)
theorem dX9_comesToLoop_38 : decode cX9_comesToLoop 38 = .ok (.dup2, 1) := dk_92 (dk_at dksX9_comesToLoop_1 14 rfl rfl)
theorem dX9_comesToLoop_39 : decode cX9_comesToLoop 39 = .ok (.iaload, 1) := dk_46 (dk_at dksX9_comesToLoop_1 15 rfl rfl)
theorem dX9_comesToLoop_40 : decode cX9_comesToLoop 40 = .ok (.iconst 1, 1) := dk_4 (dk_at dksX9_comesToLoop_1 16 rfl rfl)
theorem dX9_comesToLoop_41 : decode cX9_comesToLoop 41 = .ok (.isub, 1) := dk_100 (dk_at dksX9_comesToLoop_1 17 rfl rfl)
theorem dX9_comesToLoop_42 : decode cX9_comesToLoop 42 = .ok (.iastore, 1) := dk_79 (dk_at dksX9_comesToLoop_1 18 rfl rfl)
theorem dX9_comesToLoop_43 : decode cX9_comesToLoop 43 = .ok (.aload_n 0, 1) := dk_42 (dk_at dksX9_comesToLoop_1 19 rfl rfl)
theorem dX9_comesToLoop_44 : decode cX9_comesToLoop 44 = .ok (.getfield 181, 3) := dk_180 0 181 (dk_at dksX9_comesToLoop_1 20 rfl rfl)
theorem dX9_comesToLoop_47 : decode cX9_comesToLoop 47 = .ok (.iload_n 1, 1) := dk_27 (dk_at dksX9_comesToLoop_1 23 rfl rfl)
theorem dX9_comesToLoop_48 : decode cX9_comesToLoop 48 = .ok (.iaload, 1) := dk_46 (dk_at dksX9_comesToLoop_2 0 rfl rfl)
theorem dX9_comesToLoop_49 : decode cX9_comesToLoop 49 = .ok (.ifCond .le 8, 3) := dk_158 0 8 (dk_at dksX9_comesToLoop_2 1 rfl rfl)
theorem dX9_comesToLoop_52 : decode cX9_comesToLoop 52 = .ok (.aload_n 0, 1) := dk_42 (dk_at dksX9_comesToLoop_2 4 rfl rfl)
theorem dX9_comesToLoop_53 : decode cX9_comesToLoop 53 = .ok (.invokevirtual 549, 3) := dk_182 2 37 (dk_at dksX9_comesToLoop_2 5 rfl rfl)
theorem dX9_comesToLoop_56 : decode cX9_comesToLoop 56 = .ok (.return_, 1) := dk_177 (dk_at dksX9_comesToLoop_2 8 rfl rfl)
theorem dX9_comesToLoop_57 : decode cX9_comesToLoop 57 = .ok (.aload_n 0, 1) := dk_42 (dk_at dksX9_comesToLoop_2 9 rfl rfl)
theorem dX9_comesToLoop_58 : decode cX9_comesToLoop 58 = .ok (.dup, 1) := dk_89 (dk_at dksX9_comesToLoop_2 10 rfl rfl)
theorem dX9_comesToLoop_59 : decode cX9_comesToLoop 59 = .ok (.getfield 511, 3) := dk_180 1 255 (dk_at dksX9_comesToLoop_2 11 rfl rfl)
theorem dX9_comesToLoop_62 : decode cX9_comesToLoop 62 = .ok (.iconst 1, 1) := dk_4 (dk_at dksX9_comesToLoop_2 14 rfl rfl)
theorem dX9_comesToLoop_63 : decode cX9_comesToLoop 63 = .ok (.isub, 1) := dk_100 (dk_at dksX9_comesToLoop_2 15 rfl rfl)
theorem dX9_comesToLoop_64 : decode cX9_comesToLoop 64 = .ok (.putfield 511, 3) := dk_181 1 255 (dk_at dksX9_comesToLoop_2 16 rfl rfl)
theorem dX9_comesToLoop_67 : decode cX9_comesToLoop 67 = .ok (.iload_n 2, 1) := dk_28 (dk_at dksX9_comesToLoop_2 19 rfl rfl)
theorem dX9_comesToLoop_68 : decode cX9_comesToLoop 68 = .ok (.ifCond .ne 19, 3) := dk_154 0 19 (dk_at dksX9_comesToLoop_2 20 rfl rfl)
theorem dX9_comesToLoop_71 : decode cX9_comesToLoop 71 = .ok (.aload_n 0, 1) := dk_42 (dk_at dksX9_comesToLoop_2 23 rfl rfl)
theorem dX9_comesToLoop_72 : decode cX9_comesToLoop 72 = .ok (.getfield 502, 3) := dk_180 1 246 (dk_at dksX9_comesToLoop_3 0 rfl rfl)
theorem dX9_comesToLoop_75 : decode cX9_comesToLoop 75 = .ok (.iconst 2, 1) := dk_5 (dk_at dksX9_comesToLoop_3 3 rfl rfl)
theorem dX9_comesToLoop_76 : decode cX9_comesToLoop 76 = .ok (.if_icmp .ne 19, 3) := dk_160 0 19 (dk_at dksX9_comesToLoop_3 4 rfl rfl)
theorem dX9_comesToLoop_79 : decode cX9_comesToLoop 79 = .ok (.aload_n 0, 1) := dk_42 (dk_at dksX9_comesToLoop_3 7 rfl rfl)
theorem dX9_comesToLoop_80 : decode cX9_comesToLoop 80 = .ok (.getfield 508, 3) := dk_180 1 252 (dk_at dksX9_comesToLoop_3 8 rfl rfl)
theorem dX9_comesToLoop_83 : decode cX9_comesToLoop 83 = .ok (.iconst 1, 1) := dk_4 (dk_at dksX9_comesToLoop_3 11 rfl rfl)
theorem dX9_comesToLoop_84 : decode cX9_comesToLoop 84 = .ok (.if_icmp .ne 11, 3) := dk_160 0 11 (dk_at dksX9_comesToLoop_3 12 rfl rfl)
theorem dX9_comesToLoop_87 : decode cX9_comesToLoop 87 = .ok (.aload_n 0, 1) := dk_42 (dk_at dksX9_comesToLoop_3 15 rfl rfl)
theorem dX9_comesToLoop_88 : decode cX9_comesToLoop 88 = .ok (.iconst 0, 1) := dk_3 (dk_at dksX9_comesToLoop_3 16 rfl rfl)
theorem dX9_comesToLoop_89 : decode cX9_comesToLoop 89 = .ok (.putfield 502, 3) := dk_181 1 246 (dk_at dksX9_comesToLoop_3 17 rfl rfl)
theorem dX9_comesToLoop_92 : decode cX9_comesToLoop 92 = .ok (.goto 29, 3) := dk_167 0 29 (dk_at dksX9_comesToLoop_3 20 rfl rfl)
theorem dX9_comesToLoop_95 : decode cX9_comesToLoop 95 = .ok (.aload_n 0, 1) := dk_42 (dk_at dksX9_comesToLoop_3 23 rfl rfl)
theorem dX9_comesToLoop_96 : decode cX9_comesToLoop 96 = .ok (.getfield 502, 3) := dk_180 1 246 (dk_at dksX9_comesToLoop_4 0 rfl rfl)
theorem dX9_comesToLoop_99 : decode cX9_comesToLoop 99 = .ok (.iconst 2, 1) := dk_5 (dk_at dksX9_comesToLoop_4 3 rfl rfl)
theorem dX9_comesToLoop_100 : decode cX9_comesToLoop 100 = .ok (.if_icmp .eq 11, 3) := dk_159 0 11 (dk_at dksX9_comesToLoop_4 4 rfl rfl)
theorem dX9_comesToLoop_103 : decode cX9_comesToLoop 103 = .ok (.aload_n 0, 1) := dk_42 (dk_at dksX9_comesToLoop_4 7 rfl rfl)
theorem dX9_comesToLoop_104 : decode cX9_comesToLoop 104 = .ok (.getfield 502, 3) := dk_180 1 246 (dk_at dksX9_comesToLoop_4 8 rfl rfl)
theorem dX9_comesToLoop_107 : decode cX9_comesToLoop 107 = .ok (.iconst 3, 1) := dk_6 (dk_at dksX9_comesToLoop_4 11 rfl rfl)
theorem dX9_comesToLoop_108 : decode cX9_comesToLoop 108 = .ok (.if_icmp .ne 13, 3) := dk_160 0 13 (dk_at dksX9_comesToLoop_4 12 rfl rfl)
theorem dX9_comesToLoop_111 : decode cX9_comesToLoop 111 = .ok (.aload_n 0, 1) := dk_42 (dk_at dksX9_comesToLoop_4 15 rfl rfl)
theorem dX9_comesToLoop_112 : decode cX9_comesToLoop 112 = .ok (.dup, 1) := dk_89 (dk_at dksX9_comesToLoop_4 16 rfl rfl)
theorem dX9_comesToLoop_113 : decode cX9_comesToLoop 113 = .ok (.getfield 508, 3) := dk_180 1 252 (dk_at dksX9_comesToLoop_4 17 rfl rfl)
theorem dX9_comesToLoop_116 : decode cX9_comesToLoop 116 = .ok (.iconst 1, 1) := dk_4 (dk_at dksX9_comesToLoop_4 20 rfl rfl)
theorem dX9_comesToLoop_117 : decode cX9_comesToLoop 117 = .ok (.isub, 1) := dk_100 (dk_at dksX9_comesToLoop_4 21 rfl rfl)
theorem dX9_comesToLoop_118 : decode cX9_comesToLoop 118 = .ok (.putfield 508, 3) := dk_181 1 252 (dk_at dksX9_comesToLoop_5 0 rfl rfl)
theorem dX9_comesToLoop_121 : decode cX9_comesToLoop 121 = .ok (.return_, 1) := dk_177 (dk_at dksX9_comesToLoop_5 3 rfl rfl)
theorem okX9_comesToLoop_0 : XOkL xms rX9_comesToLoop bX9_comesToLoop_0 := xcP (xok_aload_n dX9_comesToLoop_0 rfl) rfl (xcP (xok_getfield (ref := "WaysAtlasModel") (Or.inl ⟨rfl, by decide⟩) dX9_comesToLoop_1 (Or.inl ⟨q1992, (Or.inl rfl)⟩) xh61) rfl (xcP (xok_ifeq dX9_comesToLoop_4 (by decide)) rfl (xcP (xok_aload_n dX9_comesToLoop_7 rfl) rfl (xcP (xok_getfield (ref := "WaysAtlasModel") (Or.inl ⟨rfl, by decide⟩) dX9_comesToLoop_8 (Or.inl ⟨q1992, (Or.inl rfl)⟩) xh61) rfl (xcP (xok_iconst dX9_comesToLoop_11 rfl) rfl (xcP (xok_icmpne dX9_comesToLoop_12 (by decide)) rfl (xcP (xok_aload_n dX9_comesToLoop_15 rfl) rfl (xcP (xok_getfield (ref := "WaysAtlasModel") (Or.inl ⟨rfl, by decide⟩) dX9_comesToLoop_16 (Or.inl ⟨q1993, (Or.inl rfl)⟩) xh62) rfl (xcP (xok_iconst dX9_comesToLoop_19 rfl) rfl (xcP (xok_icmpne dX9_comesToLoop_20 (by decide)) rfl (xcP xok_fal rfl trivial)))))))))))
theorem okX9_comesToLoop_23 : XOkL xms rX9_comesToLoop bX9_comesToLoop_23 := xcP (xok_iconst dX9_comesToLoop_23 rfl) rfl (xcP (xok_goto dX9_comesToLoop_24 (by decide)) rfl trivial)
theorem okX9_comesToLoop_27 : XOkL xms rX9_comesToLoop bX9_comesToLoop_27 := xcP (xok_iconst dX9_comesToLoop_27 rfl) rfl (xcP xok_fal rfl trivial)
theorem okX9_comesToLoop_28 : XOkL xms rX9_comesToLoop bX9_comesToLoop_28 := xcP (xok_istore_n dX9_comesToLoop_28 rfl) rfl (xcP (xok_iload_n dX9_comesToLoop_29 rfl) rfl (xcP (xok_ifeq dX9_comesToLoop_30 (by decide)) rfl (xcP (xok_aload_n dX9_comesToLoop_33 rfl) rfl (xcP (xok_getfield (ref := "WaysAtlasModel") (Or.inr ⟨rfl, by decide⟩) dX9_comesToLoop_34 (Or.inl ⟨q1997, (Or.inl rfl)⟩) xh1099) rfl (xcP (xok_iload_n dX9_comesToLoop_37 rfl) rfl (xcP (xok_dup2 dX9_comesToLoop_38) rfl (xcP (xok_iaload dX9_comesToLoop_39) rfl (xcP (xok_iconst dX9_comesToLoop_40 rfl) rfl (xcP (xok_isub dX9_comesToLoop_41) rfl (xcP (xok_iastore dX9_comesToLoop_42) rfl (xcP (xok_aload_n dX9_comesToLoop_43 rfl) rfl (xcP (xok_getfield (ref := "WaysAtlasModel") (Or.inr ⟨rfl, by decide⟩) dX9_comesToLoop_44 (Or.inl ⟨q1997, (Or.inl rfl)⟩) xh1099) rfl (xcP (xok_iload_n dX9_comesToLoop_47 rfl) rfl (xcP (xok_iaload dX9_comesToLoop_48) rfl (xcP (xok_ifle dX9_comesToLoop_49 (by decide)) rfl (xcP (xok_aload_n dX9_comesToLoop_52 rfl) rfl (xcC0 (xokc_list (List.forall_mem_cons.mpr ⟨xokc_V (r := (RX9, TX9, 96)) xm181 (List.mem_of_getElem? (i := 9) rfl) (by decide) rfl dX9_comesToLoop_53 q2553 q2555 qs125 q149 q2556 (by decide +kernel), fun _ h => nomatch h⟩)) rfl (xcR ⟨dX9_comesToLoop_56, rfl⟩))))))))))))))))))
theorem okX9_comesToLoop_57 : XOkL xms rX9_comesToLoop bX9_comesToLoop_57 := xcP (xok_aload_n dX9_comesToLoop_57 rfl) rfl (xcP (xok_dup dX9_comesToLoop_58) rfl (xcP (xok_getfield (ref := "WaysAtlasModel") (Or.inl ⟨rfl, by decide⟩) dX9_comesToLoop_59 (Or.inl ⟨q1994, (Or.inl rfl)⟩) xh63) rfl (xcP (xok_iconst dX9_comesToLoop_62 rfl) rfl (xcP (xok_isub dX9_comesToLoop_63) rfl (xcP (xok_putfield (ref := "WaysAtlasModel") (Or.inl ⟨rfl, by decide, rfl⟩) dX9_comesToLoop_64 (Or.inl ⟨q1994, (Or.inl rfl)⟩) (Or.inl rfl) xh63) rfl (xcP (xok_iload_n dX9_comesToLoop_67 rfl) rfl (xcP (xok_ifne dX9_comesToLoop_68 (by decide)) rfl (xcP (xok_aload_n dX9_comesToLoop_71 rfl) rfl (xcP (xok_getfield (ref := "WaysAtlasModel") (Or.inl ⟨rfl, by decide⟩) dX9_comesToLoop_72 (Or.inl ⟨q1992, (Or.inl rfl)⟩) xh61) rfl (xcP (xok_iconst dX9_comesToLoop_75 rfl) rfl (xcP (xok_icmpne dX9_comesToLoop_76 (by decide)) rfl (xcP (xok_aload_n dX9_comesToLoop_79 rfl) rfl (xcP (xok_getfield (ref := "WaysAtlasModel") (Or.inl ⟨rfl, by decide⟩) dX9_comesToLoop_80 (Or.inl ⟨q1993, (Or.inl rfl)⟩) xh62) rfl (xcP (xok_iconst dX9_comesToLoop_83 rfl) rfl (xcP (xok_icmpne dX9_comesToLoop_84 (by decide)) rfl (xcP xok_fal rfl trivial))))))))))))))))
theorem okX9_comesToLoop_87 : XOkL xms rX9_comesToLoop bX9_comesToLoop_87 := xcP (xok_aload_n dX9_comesToLoop_87 rfl) rfl (xcP (xok_iconst dX9_comesToLoop_88 rfl) rfl (xcP (xok_putfield (ref := "WaysAtlasModel") (Or.inl ⟨rfl, by decide, rfl⟩) dX9_comesToLoop_89 (Or.inl ⟨q1992, (Or.inl rfl)⟩) (Or.inl rfl) xh61) rfl (xcP (xok_goto dX9_comesToLoop_92 (by decide)) rfl trivial)))
theorem okX9_comesToLoop_95 : XOkL xms rX9_comesToLoop bX9_comesToLoop_95 := xcP (xok_aload_n dX9_comesToLoop_95 rfl) rfl (xcP (xok_getfield (ref := "WaysAtlasModel") (Or.inl ⟨rfl, by decide⟩) dX9_comesToLoop_96 (Or.inl ⟨q1992, (Or.inl rfl)⟩) xh61) rfl (xcP (xok_iconst dX9_comesToLoop_99 rfl) rfl (xcP (xok_icmpeq dX9_comesToLoop_100 (by decide)) rfl (xcP (xok_aload_n dX9_comesToLoop_103 rfl) rfl (xcP (xok_getfield (ref := "WaysAtlasModel") (Or.inl ⟨rfl, by decide⟩) dX9_comesToLoop_104 (Or.inl ⟨q1992, (Or.inl rfl)⟩) xh61) rfl (xcP (xok_iconst dX9_comesToLoop_107 rfl) rfl (xcP (xok_icmpne dX9_comesToLoop_108 (by decide)) rfl (xcP xok_fal rfl trivial))))))))
theorem okX9_comesToLoop_111 : XOkL xms rX9_comesToLoop bX9_comesToLoop_111 := xcP (xok_aload_n dX9_comesToLoop_111 rfl) rfl (xcP (xok_dup dX9_comesToLoop_112) rfl (xcP (xok_getfield (ref := "WaysAtlasModel") (Or.inl ⟨rfl, by decide⟩) dX9_comesToLoop_113 (Or.inl ⟨q1993, (Or.inl rfl)⟩) xh62) rfl (xcP (xok_iconst dX9_comesToLoop_116 rfl) rfl (xcP (xok_isub dX9_comesToLoop_117) rfl (xcP (xok_putfield (ref := "WaysAtlasModel") (Or.inl ⟨rfl, by decide, rfl⟩) dX9_comesToLoop_118 (Or.inl ⟨q1993, (Or.inl rfl)⟩) (Or.inl rfl) xh62) rfl (xcP xok_fal rfl trivial))))))
theorem okX9_comesToLoop_121 : XOkL xms rX9_comesToLoop bX9_comesToLoop_121 := xcR ⟨dX9_comesToLoop_121, rfl⟩
theorem okM_X9_comesToLoop : XOkM xms rX9_comesToLoop := xokM0 (List.forall_mem_cons.mpr ⟨⟨rfl, okX9_comesToLoop_0⟩, List.forall_mem_cons.mpr ⟨⟨rfl, okX9_comesToLoop_23⟩, List.forall_mem_cons.mpr ⟨⟨rfl, okX9_comesToLoop_27⟩, List.forall_mem_cons.mpr ⟨⟨rfl, okX9_comesToLoop_28⟩, List.forall_mem_cons.mpr ⟨⟨rfl, okX9_comesToLoop_57⟩, List.forall_mem_cons.mpr ⟨⟨rfl, okX9_comesToLoop_87⟩, List.forall_mem_cons.mpr ⟨⟨rfl, okX9_comesToLoop_95⟩, List.forall_mem_cons.mpr ⟨⟨rfl, okX9_comesToLoop_111⟩, List.forall_mem_cons.mpr ⟨⟨rfl, okX9_comesToLoop_121⟩, fun _ h => nomatch h⟩⟩⟩⟩⟩⟩⟩⟩⟩) (xokH0 rfl (fun _ _ => rfl)) (by decide +kernel) (by decide)
abbrev cX9_comesToGuard : ByteArray := prog_36_method_89_code
def dkwX9_comesToGuard_9 : List UInt8 := [42, 180, 0, 81, 29, 46, 182, 2, 24, 177, 42, 27, 182, 2, 79, 177]
abbrev dktX9_comesToGuard_9 : List UInt8 := dkwX9_comesToGuard_9 ++ []
def dkwX9_comesToGuard_8 : List UInt8 := [29, 155, 0, 33, 42, 180, 0, 181, 27, 5, 79, 42, 180, 0, 196, 27, 42, 180, 0, 187, 27, 46, 79, 42]
abbrev dktX9_comesToGuard_8 : List UInt8 := dkwX9_comesToGuard_8 ++ dktX9_comesToGuard_9
def dkwX9_comesToGuard_7 : List UInt8 := [17, 1, 164, 42, 180, 1, 219, 104, 42, 180, 0, 187, 27, 46, 96, 46, 182, 2, 76, 167, 0, 4, 2, 62]
abbrev dktX9_comesToGuard_7 : List UInt8 := dkwX9_comesToGuard_7 ++ dktX9_comesToGuard_8
def dkwX9_comesToGuard_6 : List UInt8 := [180, 0, 181, 27, 4, 79, 42, 180, 0, 184, 27, 46, 7, 160, 0, 31, 42, 28, 42, 180, 0, 148]
abbrev dktX9_comesToGuard_6 : List UInt8 := dkwX9_comesToGuard_6 ++ dktX9_comesToGuard_7
def dkwX9_comesToGuard_5 : List UInt8 := [79, 42, 180, 0, 181, 27, 46, 154, 0, 97, 42, 27, 182, 2, 73, 42, 180, 1, 216, 155, 0, 4, 177, 42]
abbrev dktX9_comesToGuard_5 : List UInt8 := dkwX9_comesToGuard_5 ++ dktX9_comesToGuard_6
def dkwX9_comesToGuard_4 : List UInt8 := [46, 182, 2, 55, 177, 42, 180, 0, 184, 27, 42, 180, 1, 246, 79, 42, 180, 0, 187, 27, 42, 180, 1, 252]
abbrev dktX9_comesToGuard_4 : List UInt8 := dkwX9_comesToGuard_4 ++ dktX9_comesToGuard_5
def dkwX9_comesToGuard_3 : List UInt8 := [180, 1, 255, 4, 100, 181, 1, 255, 29, 153, 0, 19, 42, 42, 180, 0, 184, 27, 46, 42, 180, 0, 187, 27]
abbrev dktX9_comesToGuard_3 : List UInt8 := dkwX9_comesToGuard_3 ++ dktX9_comesToGuard_4
def dkwX9_comesToGuard_2 : List UInt8 := [154, 0, 17, 42, 180, 0, 184, 27, 46, 7, 160, 0, 7, 4, 167, 0, 4, 3, 96, 79, 42, 89]
abbrev dktX9_comesToGuard_2 : List UInt8 := dkwX9_comesToGuard_2 ++ dktX9_comesToGuard_3
def dkwX9_comesToGuard_1 : List UInt8 := [4, 167, 0, 4, 3, 62, 42, 180, 0, 142, 16, 10, 42, 180, 1, 219, 104, 16, 7, 96, 92, 46, 29]
abbrev dktX9_comesToGuard_1 : List UInt8 := dkwX9_comesToGuard_1 ++ dktX9_comesToGuard_2
def dkwX9_comesToGuard_0 : List UInt8 := [42, 180, 0, 178, 27, 46, 61, 42, 180, 0, 181, 27, 46, 6, 160, 0, 84, 42, 180, 1, 246, 154, 0, 7]
abbrev dktX9_comesToGuard_0 : List UInt8 := dkwX9_comesToGuard_0 ++ dktX9_comesToGuard_1
theorem dksX9_comesToGuard_0 : cX9_comesToGuard.data.toList.drop 0 = dktX9_comesToGuard_0 := by decide +kernel
theorem dksX9_comesToGuard_1 : cX9_comesToGuard.data.toList.drop 24 = dktX9_comesToGuard_1 := dk_seg dksX9_comesToGuard_0 24 rfl rfl
theorem dksX9_comesToGuard_2 : cX9_comesToGuard.data.toList.drop 47 = dktX9_comesToGuard_2 := dk_seg dksX9_comesToGuard_1 23 rfl rfl
theorem dksX9_comesToGuard_3 : cX9_comesToGuard.data.toList.drop 69 = dktX9_comesToGuard_3 := dk_seg dksX9_comesToGuard_2 22 rfl rfl
theorem dksX9_comesToGuard_4 : cX9_comesToGuard.data.toList.drop 93 = dktX9_comesToGuard_4 := dk_seg dksX9_comesToGuard_3 24 rfl rfl
theorem dksX9_comesToGuard_5 : cX9_comesToGuard.data.toList.drop 117 = dktX9_comesToGuard_5 := dk_seg dksX9_comesToGuard_4 24 rfl rfl
theorem dksX9_comesToGuard_6 : cX9_comesToGuard.data.toList.drop 141 = dktX9_comesToGuard_6 := dk_seg dksX9_comesToGuard_5 24 rfl rfl
theorem dksX9_comesToGuard_7 : cX9_comesToGuard.data.toList.drop 163 = dktX9_comesToGuard_7 := dk_seg dksX9_comesToGuard_6 22 rfl rfl
theorem dksX9_comesToGuard_8 : cX9_comesToGuard.data.toList.drop 187 = dktX9_comesToGuard_8 := dk_seg dksX9_comesToGuard_7 24 rfl rfl
theorem dksX9_comesToGuard_9 : cX9_comesToGuard.data.toList.drop 211 = dktX9_comesToGuard_9 := dk_seg dksX9_comesToGuard_8 24 rfl rfl
theorem dX9_comesToGuard_0 : decode cX9_comesToGuard 0 = .ok (.aload_n 0, 1) := dk_42 (dk_at dksX9_comesToGuard_0 0 rfl rfl)
theorem dX9_comesToGuard_1 : decode cX9_comesToGuard 1 = .ok (.getfield 178, 3) := dk_180 0 178 (dk_at dksX9_comesToGuard_0 1 rfl rfl)
theorem dX9_comesToGuard_4 : decode cX9_comesToGuard 4 = .ok (.iload_n 1, 1) := dk_27 (dk_at dksX9_comesToGuard_0 4 rfl rfl)
theorem dX9_comesToGuard_5 : decode cX9_comesToGuard 5 = .ok (.iaload, 1) := dk_46 (dk_at dksX9_comesToGuard_0 5 rfl rfl)
theorem dX9_comesToGuard_6 : decode cX9_comesToGuard 6 = .ok (.istore_n 2, 1) := dk_61 (dk_at dksX9_comesToGuard_0 6 rfl rfl)
theorem dX9_comesToGuard_7 : decode cX9_comesToGuard 7 = .ok (.aload_n 0, 1) := dk_42 (dk_at dksX9_comesToGuard_0 7 rfl rfl)
theorem dX9_comesToGuard_8 : decode cX9_comesToGuard 8 = .ok (.getfield 181, 3) := dk_180 0 181 (dk_at dksX9_comesToGuard_0 8 rfl rfl)
theorem dX9_comesToGuard_11 : decode cX9_comesToGuard 11 = .ok (.iload_n 1, 1) := dk_27 (dk_at dksX9_comesToGuard_0 11 rfl rfl)
theorem dX9_comesToGuard_12 : decode cX9_comesToGuard 12 = .ok (.iaload, 1) := dk_46 (dk_at dksX9_comesToGuard_0 12 rfl rfl)
theorem dX9_comesToGuard_13 : decode cX9_comesToGuard 13 = .ok (.iconst 3, 1) := dk_6 (dk_at dksX9_comesToGuard_0 13 rfl rfl)
theorem dX9_comesToGuard_14 : decode cX9_comesToGuard 14 = .ok (.if_icmp .ne 84, 3) := dk_160 0 84 (dk_at dksX9_comesToGuard_0 14 rfl rfl)
theorem dX9_comesToGuard_17 : decode cX9_comesToGuard 17 = .ok (.aload_n 0, 1) := dk_42 (dk_at dksX9_comesToGuard_0 17 rfl rfl)
theorem dX9_comesToGuard_18 : decode cX9_comesToGuard 18 = .ok (.getfield 502, 3) := dk_180 1 246 (dk_at dksX9_comesToGuard_0 18 rfl rfl)
theorem dX9_comesToGuard_21 : decode cX9_comesToGuard 21 = .ok (.ifCond .ne 7, 3) := dk_154 0 7 (dk_at dksX9_comesToGuard_0 21 rfl rfl)
theorem dX9_comesToGuard_24 : decode cX9_comesToGuard 24 = .ok (.iconst 1, 1) := dk_4 (dk_at dksX9_comesToGuard_1 0 rfl rfl)
theorem dX9_comesToGuard_25 : decode cX9_comesToGuard 25 = .ok (.goto 4, 3) := dk_167 0 4 (dk_at dksX9_comesToGuard_1 1 rfl rfl)
theorem dX9_comesToGuard_28 : decode cX9_comesToGuard 28 = .ok (.iconst 0, 1) := dk_3 (dk_at dksX9_comesToGuard_1 4 rfl rfl)
theorem dX9_comesToGuard_29 : decode cX9_comesToGuard 29 = .ok (.istore_n 3, 1) := dk_62 (dk_at dksX9_comesToGuard_1 5 rfl rfl)
theorem dX9_comesToGuard_30 : decode cX9_comesToGuard 30 = .ok (.aload_n 0, 1) := dk_42 (dk_at dksX9_comesToGuard_1 6 rfl rfl)
theorem dX9_comesToGuard_31 : decode cX9_comesToGuard 31 = .ok (.getfield 142, 3) := dk_180 0 142 (dk_at dksX9_comesToGuard_1 7 rfl rfl)
theorem dX9_comesToGuard_34 : decode cX9_comesToGuard 34 = .ok (.bipush 10, 2) := dk_16 10 (dk_at dksX9_comesToGuard_1 10 rfl rfl)
theorem dX9_comesToGuard_36 : decode cX9_comesToGuard 36 = .ok (.aload_n 0, 1) := dk_42 (dk_at dksX9_comesToGuard_1 12 rfl rfl)
theorem dX9_comesToGuard_37 : decode cX9_comesToGuard 37 = .ok (.getfield 475, 3) := dk_180 1 219 (dk_at dksX9_comesToGuard_1 13 rfl rfl)
theorem dX9_comesToGuard_40 : decode cX9_comesToGuard 40 = .ok (.imul, 1) := dk_104 (dk_at dksX9_comesToGuard_1 16 rfl rfl)
theorem dX9_comesToGuard_41 : decode cX9_comesToGuard 41 = .ok (.bipush 7, 2) := dk_16 7 (dk_at dksX9_comesToGuard_1 17 rfl rfl)
theorem dX9_comesToGuard_43 : decode cX9_comesToGuard 43 = .ok (.iadd, 1) := dk_96 (dk_at dksX9_comesToGuard_1 19 rfl rfl)
theorem dX9_comesToGuard_44 : decode cX9_comesToGuard 44 = .ok (.dup2, 1) := dk_92 (dk_at dksX9_comesToGuard_1 20 rfl rfl)
theorem dX9_comesToGuard_45 : decode cX9_comesToGuard 45 = .ok (.iaload, 1) := dk_46 (dk_at dksX9_comesToGuard_1 21 rfl rfl)
theorem dX9_comesToGuard_46 : decode cX9_comesToGuard 46 = .ok (.iload_n 3, 1) := dk_29 (dk_at dksX9_comesToGuard_1 22 rfl rfl)
theorem dX9_comesToGuard_47 : decode cX9_comesToGuard 47 = .ok (.ifCond .ne 17, 3) := dk_154 0 17 (dk_at dksX9_comesToGuard_2 0 rfl rfl)
theorem dX9_comesToGuard_50 : decode cX9_comesToGuard 50 = .ok (.aload_n 0, 1) := dk_42 (dk_at dksX9_comesToGuard_2 3 rfl rfl)
theorem dX9_comesToGuard_51 : decode cX9_comesToGuard 51 = .ok (.getfield 184, 3) := dk_180 0 184 (dk_at dksX9_comesToGuard_2 4 rfl rfl)
theorem dX9_comesToGuard_54 : decode cX9_comesToGuard 54 = .ok (.iload_n 1, 1) := dk_27 (dk_at dksX9_comesToGuard_2 7 rfl rfl)
theorem dX9_comesToGuard_55 : decode cX9_comesToGuard 55 = .ok (.iaload, 1) := dk_46 (dk_at dksX9_comesToGuard_2 8 rfl rfl)
theorem dX9_comesToGuard_56 : decode cX9_comesToGuard 56 = .ok (.iconst 4, 1) := dk_7 (dk_at dksX9_comesToGuard_2 9 rfl rfl)
theorem dX9_comesToGuard_57 : decode cX9_comesToGuard 57 = .ok (.if_icmp .ne 7, 3) := dk_160 0 7 (dk_at dksX9_comesToGuard_2 10 rfl rfl)
theorem dX9_comesToGuard_60 : decode cX9_comesToGuard 60 = .ok (.iconst 1, 1) := dk_4 (dk_at dksX9_comesToGuard_2 13 rfl rfl)
theorem dX9_comesToGuard_61 : decode cX9_comesToGuard 61 = .ok (.goto 4, 3) := dk_167 0 4 (dk_at dksX9_comesToGuard_2 14 rfl rfl)
theorem dX9_comesToGuard_64 : decode cX9_comesToGuard 64 = .ok (.iconst 0, 1) := dk_3 (dk_at dksX9_comesToGuard_2 17 rfl rfl)
theorem dX9_comesToGuard_65 : decode cX9_comesToGuard 65 = .ok (.iadd, 1) := dk_96 (dk_at dksX9_comesToGuard_2 18 rfl rfl)
theorem dX9_comesToGuard_66 : decode cX9_comesToGuard 66 = .ok (.iastore, 1) := dk_79 (dk_at dksX9_comesToGuard_2 19 rfl rfl)
theorem dX9_comesToGuard_67 : decode cX9_comesToGuard 67 = .ok (.aload_n 0, 1) := dk_42 (dk_at dksX9_comesToGuard_2 20 rfl rfl)
theorem dX9_comesToGuard_68 : decode cX9_comesToGuard 68 = .ok (.dup, 1) := dk_89 (dk_at dksX9_comesToGuard_2 21 rfl rfl)
theorem dX9_comesToGuard_69 : decode cX9_comesToGuard 69 = .ok (.getfield 511, 3) := dk_180 1 255 (dk_at dksX9_comesToGuard_3 0 rfl rfl)
theorem dX9_comesToGuard_72 : decode cX9_comesToGuard 72 = .ok (.iconst 1, 1) := dk_4 (dk_at dksX9_comesToGuard_3 3 rfl rfl)
theorem dX9_comesToGuard_73 : decode cX9_comesToGuard 73 = .ok (.isub, 1) := dk_100 (dk_at dksX9_comesToGuard_3 4 rfl rfl)
theorem dX9_comesToGuard_74 : decode cX9_comesToGuard 74 = .ok (.putfield 511, 3) := dk_181 1 255 (dk_at dksX9_comesToGuard_3 5 rfl rfl)
theorem dX9_comesToGuard_77 : decode cX9_comesToGuard 77 = .ok (.iload_n 3, 1) := dk_29 (dk_at dksX9_comesToGuard_3 8 rfl rfl)
theorem dX9_comesToGuard_78 : decode cX9_comesToGuard 78 = .ok (.ifCond .eq 19, 3) := dk_153 0 19 (dk_at dksX9_comesToGuard_3 9 rfl rfl)
theorem dX9_comesToGuard_81 : decode cX9_comesToGuard 81 = .ok (.aload_n 0, 1) := dk_42 (dk_at dksX9_comesToGuard_3 12 rfl rfl)
theorem dX9_comesToGuard_82 : decode cX9_comesToGuard 82 = .ok (.aload_n 0, 1) := dk_42 (dk_at dksX9_comesToGuard_3 13 rfl rfl)
theorem dX9_comesToGuard_83 : decode cX9_comesToGuard 83 = .ok (.getfield 184, 3) := dk_180 0 184 (dk_at dksX9_comesToGuard_3 14 rfl rfl)
theorem dX9_comesToGuard_86 : decode cX9_comesToGuard 86 = .ok (.iload_n 1, 1) := dk_27 (dk_at dksX9_comesToGuard_3 17 rfl rfl)
theorem dX9_comesToGuard_87 : decode cX9_comesToGuard 87 = .ok (.iaload, 1) := dk_46 (dk_at dksX9_comesToGuard_3 18 rfl rfl)
theorem dX9_comesToGuard_88 : decode cX9_comesToGuard 88 = .ok (.aload_n 0, 1) := dk_42 (dk_at dksX9_comesToGuard_3 19 rfl rfl)
theorem dX9_comesToGuard_89 : decode cX9_comesToGuard 89 = .ok (.getfield 187, 3) := dk_180 0 187 (dk_at dksX9_comesToGuard_3 20 rfl rfl)
theorem dX9_comesToGuard_92 : decode cX9_comesToGuard 92 = .ok (.iload_n 1, 1) := dk_27 (dk_at dksX9_comesToGuard_3 23 rfl rfl)
theorem dX9_comesToGuard_93 : decode cX9_comesToGuard 93 = .ok (.iaload, 1) := dk_46 (dk_at dksX9_comesToGuard_4 0 rfl rfl)
theorem dX9_comesToGuard_94 : decode cX9_comesToGuard 94 = .ok (.invokevirtual 567, 3) := dk_182 2 55 (dk_at dksX9_comesToGuard_4 1 rfl rfl)
theorem dX9_comesToGuard_97 : decode cX9_comesToGuard 97 = .ok (.return_, 1) := dk_177 (dk_at dksX9_comesToGuard_4 4 rfl rfl)
theorem dX9_comesToGuard_98 : decode cX9_comesToGuard 98 = .ok (.aload_n 0, 1) := dk_42 (dk_at dksX9_comesToGuard_4 5 rfl rfl)
theorem dX9_comesToGuard_99 : decode cX9_comesToGuard 99 = .ok (.getfield 184, 3) := dk_180 0 184 (dk_at dksX9_comesToGuard_4 6 rfl rfl)
theorem dX9_comesToGuard_102 : decode cX9_comesToGuard 102 = .ok (.iload_n 1, 1) := dk_27 (dk_at dksX9_comesToGuard_4 9 rfl rfl)
theorem dX9_comesToGuard_103 : decode cX9_comesToGuard 103 = .ok (.aload_n 0, 1) := dk_42 (dk_at dksX9_comesToGuard_4 10 rfl rfl)
theorem dX9_comesToGuard_104 : decode cX9_comesToGuard 104 = .ok (.getfield 502, 3) := dk_180 1 246 (dk_at dksX9_comesToGuard_4 11 rfl rfl)
theorem dX9_comesToGuard_107 : decode cX9_comesToGuard 107 = .ok (.iastore, 1) := dk_79 (dk_at dksX9_comesToGuard_4 14 rfl rfl)
theorem dX9_comesToGuard_108 : decode cX9_comesToGuard 108 = .ok (.aload_n 0, 1) := dk_42 (dk_at dksX9_comesToGuard_4 15 rfl rfl)
theorem dX9_comesToGuard_109 : decode cX9_comesToGuard 109 = .ok (.getfield 187, 3) := dk_180 0 187 (dk_at dksX9_comesToGuard_4 16 rfl rfl)
theorem dX9_comesToGuard_112 : decode cX9_comesToGuard 112 = .ok (.iload_n 1, 1) := dk_27 (dk_at dksX9_comesToGuard_4 19 rfl rfl)
theorem dX9_comesToGuard_113 : decode cX9_comesToGuard 113 = .ok (.aload_n 0, 1) := dk_42 (dk_at dksX9_comesToGuard_4 20 rfl rfl)
theorem dX9_comesToGuard_114 : decode cX9_comesToGuard 114 = .ok (.getfield 508, 3) := dk_180 1 252 (dk_at dksX9_comesToGuard_4 21 rfl rfl)
theorem dX9_comesToGuard_117 : decode cX9_comesToGuard 117 = .ok (.iastore, 1) := dk_79 (dk_at dksX9_comesToGuard_5 0 rfl rfl)
theorem dX9_comesToGuard_118 : decode cX9_comesToGuard 118 = .ok (.aload_n 0, 1) := dk_42 (dk_at dksX9_comesToGuard_5 1 rfl rfl)
theorem dX9_comesToGuard_119 : decode cX9_comesToGuard 119 = .ok (.getfield 181, 3) := dk_180 0 181 (dk_at dksX9_comesToGuard_5 2 rfl rfl)
theorem dX9_comesToGuard_122 : decode cX9_comesToGuard 122 = .ok (.iload_n 1, 1) := dk_27 (dk_at dksX9_comesToGuard_5 5 rfl rfl)
theorem dX9_comesToGuard_123 : decode cX9_comesToGuard 123 = .ok (.iaload, 1) := dk_46 (dk_at dksX9_comesToGuard_5 6 rfl rfl)
theorem dX9_comesToGuard_124 : decode cX9_comesToGuard 124 = .ok (.ifCond .ne 97, 3) := dk_154 0 97 (dk_at dksX9_comesToGuard_5 7 rfl rfl)
theorem dX9_comesToGuard_127 : decode cX9_comesToGuard 127 = .ok (.aload_n 0, 1) := dk_42 (dk_at dksX9_comesToGuard_5 10 rfl rfl)
theorem dX9_comesToGuard_128 : decode cX9_comesToGuard 128 = .ok (.iload_n 1, 1) := dk_27 (dk_at dksX9_comesToGuard_5 11 rfl rfl)
theorem dX9_comesToGuard_129 : decode cX9_comesToGuard 129 = .ok (.invokevirtual 585, 3) := dk_182 2 73 (dk_at dksX9_comesToGuard_5 12 rfl rfl)
theorem dX9_comesToGuard_132 : decode cX9_comesToGuard 132 = .ok (.aload_n 0, 1) := dk_42 (dk_at dksX9_comesToGuard_5 15 rfl rfl)
theorem dX9_comesToGuard_133 : decode cX9_comesToGuard 133 = .ok (.getfield 472, 3) := dk_180 1 216 (dk_at dksX9_comesToGuard_5 16 rfl rfl)
theorem dX9_comesToGuard_136 : decode cX9_comesToGuard 136 = .ok (.ifCond .lt 4, 3) := dk_155 0 4 (dk_at dksX9_comesToGuard_5 19 rfl rfl)
theorem dX9_comesToGuard_139 : decode cX9_comesToGuard 139 = .ok (.return_, 1) := dk_177 (dk_at dksX9_comesToGuard_5 22 rfl rfl)
theorem dX9_comesToGuard_140 : decode cX9_comesToGuard 140 = .ok (.aload_n 0, 1) := dk_42 (dk_at dksX9_comesToGuard_5 23 rfl rfl)
theorem dX9_comesToGuard_141 : decode cX9_comesToGuard 141 = .ok (.getfield 181, 3) := dk_180 0 181 (dk_at dksX9_comesToGuard_6 0 rfl rfl)
theorem dX9_comesToGuard_144 : decode cX9_comesToGuard 144 = .ok (.iload_n 1, 1) := dk_27 (dk_at dksX9_comesToGuard_6 3 rfl rfl)
theorem dX9_comesToGuard_145 : decode cX9_comesToGuard 145 = .ok (.iconst 1, 1) := dk_4 (dk_at dksX9_comesToGuard_6 4 rfl rfl)
theorem dX9_comesToGuard_146 : decode cX9_comesToGuard 146 = .ok (.iastore, 1) := dk_79 (dk_at dksX9_comesToGuard_6 5 rfl rfl)
theorem dX9_comesToGuard_147 : decode cX9_comesToGuard 147 = .ok (.aload_n 0, 1) := dk_42 (dk_at dksX9_comesToGuard_6 6 rfl rfl)
theorem dX9_comesToGuard_148 : decode cX9_comesToGuard 148 = .ok (.getfield 184, 3) := dk_180 0 184 (dk_at dksX9_comesToGuard_6 7 rfl rfl)
theorem dX9_comesToGuard_151 : decode cX9_comesToGuard 151 = .ok (.iload_n 1, 1) := dk_27 (dk_at dksX9_comesToGuard_6 10 rfl rfl)
theorem dX9_comesToGuard_152 : decode cX9_comesToGuard 152 = .ok (.iaload, 1) := dk_46 (dk_at dksX9_comesToGuard_6 11 rfl rfl)
theorem dX9_comesToGuard_153 : decode cX9_comesToGuard 153 = .ok (.iconst 4, 1) := dk_7 (dk_at dksX9_comesToGuard_6 12 rfl rfl)
theorem dX9_comesToGuard_154 : decode cX9_comesToGuard 154 = .ok (.if_icmp .ne 31, 3) := dk_160 0 31 (dk_at dksX9_comesToGuard_6 13 rfl rfl)
theorem dX9_comesToGuard_157 : decode cX9_comesToGuard 157 = .ok (.aload_n 0, 1) := dk_42 (dk_at dksX9_comesToGuard_6 16 rfl rfl)
theorem dX9_comesToGuard_158 : decode cX9_comesToGuard 158 = .ok (.iload_n 2, 1) := dk_28 (dk_at dksX9_comesToGuard_6 17 rfl rfl)
theorem dX9_comesToGuard_159 : decode cX9_comesToGuard 159 = .ok (.aload_n 0, 1) := dk_42 (dk_at dksX9_comesToGuard_6 18 rfl rfl)
theorem dX9_comesToGuard_160 : decode cX9_comesToGuard 160 = .ok (.getfield 148, 3) := dk_180 0 148 (dk_at dksX9_comesToGuard_6 19 rfl rfl)
theorem dX9_comesToGuard_163 : decode cX9_comesToGuard 163 = .ok (.sipush 420, 3) := dk_17 1 164 (dk_at dksX9_comesToGuard_7 0 rfl rfl)
theorem dX9_comesToGuard_166 : decode cX9_comesToGuard 166 = .ok (.aload_n 0, 1) := dk_42 (dk_at dksX9_comesToGuard_7 3 rfl rfl)
theorem dX9_comesToGuard_167 : decode cX9_comesToGuard 167 = .ok (.getfield 475, 3) := dk_180 1 219 (dk_at dksX9_comesToGuard_7 4 rfl rfl)
theorem dX9_comesToGuard_170 : decode cX9_comesToGuard 170 = .ok (.imul, 1) := dk_104 (dk_at dksX9_comesToGuard_7 7 rfl rfl)
theorem dX9_comesToGuard_171 : decode cX9_comesToGuard 171 = .ok (.aload_n 0, 1) := dk_42 (dk_at dksX9_comesToGuard_7 8 rfl rfl)
theorem dX9_comesToGuard_172 : decode cX9_comesToGuard 172 = .ok (.getfield 187, 3) := dk_180 0 187 (dk_at dksX9_comesToGuard_7 9 rfl rfl)
theorem dX9_comesToGuard_175 : decode cX9_comesToGuard 175 = .ok (.iload_n 1, 1) := dk_27 (dk_at dksX9_comesToGuard_7 12 rfl rfl)
theorem dX9_comesToGuard_176 : decode cX9_comesToGuard 176 = .ok (.iaload, 1) := dk_46 (dk_at dksX9_comesToGuard_7 13 rfl rfl)
theorem dX9_comesToGuard_177 : decode cX9_comesToGuard 177 = .ok (.iadd, 1) := dk_96 (dk_at dksX9_comesToGuard_7 14 rfl rfl)
theorem dX9_comesToGuard_178 : decode cX9_comesToGuard 178 = .ok (.iaload, 1) := dk_46 (dk_at dksX9_comesToGuard_7 15 rfl rfl)
theorem dX9_comesToGuard_179 : decode cX9_comesToGuard 179 = .ok (.invokevirtual 588, 3) := dk_182 2 76 (dk_at dksX9_comesToGuard_7 16 rfl rfl)
theorem dX9_comesToGuard_182 : decode cX9_comesToGuard 182 = .ok (.goto 4, 3) := dk_167 0 4 (dk_at dksX9_comesToGuard_7 19 rfl rfl)
theorem dX9_comesToGuard_185 : decode cX9_comesToGuard 185 = .ok (.iconst (-1), 1) := dk_2 (dk_at dksX9_comesToGuard_7 22 rfl rfl)
theorem dX9_comesToGuard_186 : decode cX9_comesToGuard 186 = .ok (.istore_n 3, 1) := dk_62 (dk_at dksX9_comesToGuard_7 23 rfl rfl)
theorem dX9_comesToGuard_187 : decode cX9_comesToGuard 187 = .ok (.iload_n 3, 1) := dk_29 (dk_at dksX9_comesToGuard_8 0 rfl rfl)
theorem dX9_comesToGuard_188 : decode cX9_comesToGuard 188 = .ok (.ifCond .lt 33, 3) := dk_155 0 33 (dk_at dksX9_comesToGuard_8 1 rfl rfl)
theorem dX9_comesToGuard_191 : decode cX9_comesToGuard 191 = .ok (.aload_n 0, 1) := dk_42 (dk_at dksX9_comesToGuard_8 4 rfl rfl)
theorem dX9_comesToGuard_192 : decode cX9_comesToGuard 192 = .ok (.getfield 181, 3) := dk_180 0 181 (dk_at dksX9_comesToGuard_8 5 rfl rfl)
theorem dX9_comesToGuard_195 : decode cX9_comesToGuard 195 = .ok (.iload_n 1, 1) := dk_27 (dk_at dksX9_comesToGuard_8 8 rfl rfl)
theorem dX9_comesToGuard_196 : decode cX9_comesToGuard 196 = .ok (.iconst 2, 1) := dk_5 (dk_at dksX9_comesToGuard_8 9 rfl rfl)
theorem dX9_comesToGuard_197 : decode cX9_comesToGuard 197 = .ok (.iastore, 1) := dk_79 (dk_at dksX9_comesToGuard_8 10 rfl rfl)
theorem dX9_comesToGuard_198 : decode cX9_comesToGuard 198 = .ok (.aload_n 0, 1) := dk_42 (dk_at dksX9_comesToGuard_8 11 rfl rfl)
theorem dX9_comesToGuard_199 : decode cX9_comesToGuard 199 = .ok (.getfield 196, 3) := dk_180 0 196 (dk_at dksX9_comesToGuard_8 12 rfl rfl)
theorem dX9_comesToGuard_202 : decode cX9_comesToGuard 202 = .ok (.iload_n 1, 1) := dk_27 (dk_at dksX9_comesToGuard_8 15 rfl rfl)
theorem dX9_comesToGuard_203 : decode cX9_comesToGuard 203 = .ok (.aload_n 0, 1) := dk_42 (dk_at dksX9_comesToGuard_8 16 rfl rfl)
theorem dX9_comesToGuard_204 : decode cX9_comesToGuard 204 = .ok (.getfield 187, 3) := dk_180 0 187 (dk_at dksX9_comesToGuard_8 17 rfl rfl)
theorem dX9_comesToGuard_207 : decode cX9_comesToGuard 207 = .ok (.iload_n 1, 1) := dk_27 (dk_at dksX9_comesToGuard_8 20 rfl rfl)
theorem dX9_comesToGuard_208 : decode cX9_comesToGuard 208 = .ok (.iaload, 1) := dk_46 (dk_at dksX9_comesToGuard_8 21 rfl rfl)
theorem dX9_comesToGuard_209 : decode cX9_comesToGuard 209 = .ok (.iastore, 1) := dk_79 (dk_at dksX9_comesToGuard_8 22 rfl rfl)
theorem dX9_comesToGuard_210 : decode cX9_comesToGuard 210 = .ok (.aload_n 0, 1) := dk_42 (dk_at dksX9_comesToGuard_8 23 rfl rfl)
theorem dX9_comesToGuard_211 : decode cX9_comesToGuard 211 = .ok (.aload_n 0, 1) := dk_42 (dk_at dksX9_comesToGuard_9 0 rfl rfl)
theorem dX9_comesToGuard_212 : decode cX9_comesToGuard 212 = .ok (.getfield 81, 3) := dk_180 0 81 (dk_at dksX9_comesToGuard_9 1 rfl rfl)
theorem dX9_comesToGuard_215 : decode cX9_comesToGuard 215 = .ok (.iload_n 3, 1) := dk_29 (dk_at dksX9_comesToGuard_9 4 rfl rfl)
theorem dX9_comesToGuard_216 : decode cX9_comesToGuard 216 = .ok (.iaload, 1) := dk_46 (dk_at dksX9_comesToGuard_9 5 rfl rfl)
theorem dX9_comesToGuard_217 : decode cX9_comesToGuard 217 = .ok (.invokevirtual 536, 3) := dk_182 2 24 (dk_at dksX9_comesToGuard_9 6 rfl rfl)
theorem dX9_comesToGuard_220 : decode cX9_comesToGuard 220 = .ok (.return_, 1) := dk_177 (dk_at dksX9_comesToGuard_9 9 rfl rfl)
theorem dX9_comesToGuard_221 : decode cX9_comesToGuard 221 = .ok (.aload_n 0, 1) := dk_42 (dk_at dksX9_comesToGuard_9 10 rfl rfl)
theorem dX9_comesToGuard_222 : decode cX9_comesToGuard 222 = .ok (.iload_n 1, 1) := dk_27 (dk_at dksX9_comesToGuard_9 11 rfl rfl)
theorem dX9_comesToGuard_223 : decode cX9_comesToGuard 223 = .ok (.invokevirtual 591, 3) := dk_182 2 79 (dk_at dksX9_comesToGuard_9 12 rfl rfl)
theorem dX9_comesToGuard_226 : decode cX9_comesToGuard 226 = .ok (.return_, 1) := dk_177 (dk_at dksX9_comesToGuard_9 15 rfl rfl)
theorem okX9_comesToGuard_0 : XOkL xms rX9_comesToGuard bX9_comesToGuard_0 := xcP (xok_aload_n dX9_comesToGuard_0 rfl) rfl (xcP (xok_getfield (ref := "WaysAtlasModel") (Or.inr ⟨rfl, by decide⟩) dX9_comesToGuard_1 (Or.inl ⟨q1996, (Or.inl rfl)⟩) xh1098) rfl (xcP (xok_iload_n dX9_comesToGuard_4 rfl) rfl (xcP (xok_iaload dX9_comesToGuard_5) rfl (xcP (xok_istore_n dX9_comesToGuard_6 rfl) rfl (xcP (xok_aload_n dX9_comesToGuard_7 rfl) rfl (xcP (xok_getfield (ref := "WaysAtlasModel") (Or.inr ⟨rfl, by decide⟩) dX9_comesToGuard_8 (Or.inl ⟨q1997, (Or.inl rfl)⟩) xh1099) rfl (xcP (xok_iload_n dX9_comesToGuard_11 rfl) rfl (xcP (xok_iaload dX9_comesToGuard_12) rfl (xcP (xok_iconst dX9_comesToGuard_13 rfl) rfl (xcP (xok_icmpne dX9_comesToGuard_14 (by decide)) rfl (xcP (xok_aload_n dX9_comesToGuard_17 rfl) rfl (xcP (xok_getfield (ref := "WaysAtlasModel") (Or.inl ⟨rfl, by decide⟩) dX9_comesToGuard_18 (Or.inl ⟨q1992, (Or.inl rfl)⟩) xh61) rfl (xcP (xok_ifne dX9_comesToGuard_21 (by decide)) rfl (xcP (xok_iconst dX9_comesToGuard_24 rfl) rfl (xcP (xok_goto dX9_comesToGuard_25 (by decide)) rfl trivial)))))))))))))))
theorem okX9_comesToGuard_28 : XOkL xms rX9_comesToGuard bX9_comesToGuard_28 := xcP (xok_iconst dX9_comesToGuard_28 rfl) rfl (xcP xok_fal rfl trivial)
theorem okX9_comesToGuard_29 : XOkL xms rX9_comesToGuard bX9_comesToGuard_29 := xcP (xok_istore_n dX9_comesToGuard_29 rfl) rfl (xcP (xok_aload_n dX9_comesToGuard_30 rfl) rfl (xcP (xok_getfield (ref := "WaysAtlasModel") (Or.inr ⟨rfl, by decide⟩) dX9_comesToGuard_31 (Or.inl ⟨q1979, (Or.inl rfl)⟩) xh1086) rfl (xcP (xok_bipush dX9_comesToGuard_34 rfl) rfl (xcP (xok_aload_n dX9_comesToGuard_36 rfl) rfl (xcP (xok_getfield (ref := "WaysAtlasModel") (Or.inl ⟨rfl, by decide⟩) dX9_comesToGuard_37 (Or.inl ⟨q1978, (Or.inl rfl)⟩) xh58) rfl (xcP (xok_imul dX9_comesToGuard_40) rfl (xcP (xok_bipush dX9_comesToGuard_41 rfl) rfl (xcP (xok_iadd dX9_comesToGuard_43) rfl (xcP (xok_dup2 dX9_comesToGuard_44) rfl (xcP (xok_iaload dX9_comesToGuard_45) rfl (xcP (xok_iload_n dX9_comesToGuard_46 rfl) rfl (xcP (xok_ifne dX9_comesToGuard_47 (by decide)) rfl (xcP (xok_aload_n dX9_comesToGuard_50 rfl) rfl (xcP (xok_getfield (ref := "WaysAtlasModel") (Or.inr ⟨rfl, by decide⟩) dX9_comesToGuard_51 (Or.inl ⟨q1998, (Or.inl rfl)⟩) xh1100) rfl (xcP (xok_iload_n dX9_comesToGuard_54 rfl) rfl (xcP (xok_iaload dX9_comesToGuard_55) rfl (xcP (xok_iconst dX9_comesToGuard_56 rfl) rfl (xcP (xok_icmpne dX9_comesToGuard_57 (by decide)) rfl (xcP (xok_iconst dX9_comesToGuard_60 rfl) rfl (xcP (xok_goto dX9_comesToGuard_61 (by decide)) rfl trivial))))))))))))))))))))
theorem okX9_comesToGuard_64 : XOkL xms rX9_comesToGuard bX9_comesToGuard_64 := xcP (xok_iconst dX9_comesToGuard_64 rfl) rfl (xcP xok_fal rfl trivial)
theorem okX9_comesToGuard_65 : XOkL xms rX9_comesToGuard bX9_comesToGuard_65 := xcP (xok_iadd dX9_comesToGuard_65) rfl (xcP (xok_iastore dX9_comesToGuard_66) rfl (xcP (xok_aload_n dX9_comesToGuard_67 rfl) rfl (xcP (xok_dup dX9_comesToGuard_68) rfl (xcP (xok_getfield (ref := "WaysAtlasModel") (Or.inl ⟨rfl, by decide⟩) dX9_comesToGuard_69 (Or.inl ⟨q1994, (Or.inl rfl)⟩) xh63) rfl (xcP (xok_iconst dX9_comesToGuard_72 rfl) rfl (xcP (xok_isub dX9_comesToGuard_73) rfl (xcP (xok_putfield (ref := "WaysAtlasModel") (Or.inl ⟨rfl, by decide, rfl⟩) dX9_comesToGuard_74 (Or.inl ⟨q1994, (Or.inl rfl)⟩) (Or.inl rfl) xh63) rfl (xcP (xok_iload_n dX9_comesToGuard_77 rfl) rfl (xcP (xok_ifeq dX9_comesToGuard_78 (by decide)) rfl (xcP (xok_aload_n dX9_comesToGuard_81 rfl) rfl (xcP (xok_aload_n dX9_comesToGuard_82 rfl) rfl (xcP (xok_getfield (ref := "WaysAtlasModel") (Or.inr ⟨rfl, by decide⟩) dX9_comesToGuard_83 (Or.inl ⟨q1998, (Or.inl rfl)⟩) xh1100) rfl (xcP (xok_iload_n dX9_comesToGuard_86 rfl) rfl (xcP (xok_iaload dX9_comesToGuard_87) rfl (xcP (xok_aload_n dX9_comesToGuard_88 rfl) rfl (xcP (xok_getfield (ref := "WaysAtlasModel") (Or.inr ⟨rfl, by decide⟩) dX9_comesToGuard_89 (Or.inl ⟨q1999, (Or.inl rfl)⟩) xh1101) rfl (xcP (xok_iload_n dX9_comesToGuard_92 rfl) rfl (xcP (xok_iaload dX9_comesToGuard_93) rfl (xcC0 (xokc_list (List.forall_mem_cons.mpr ⟨xokc_V (r := (RX9, TX9, 96)) xm178 (List.mem_of_getElem? (i := 9) rfl) (by decide) rfl dX9_comesToGuard_94 q2541 q2543 qs122 q149 q2544 (by decide +kernel), fun _ h => nomatch h⟩)) rfl (xcP xok_fal rfl trivial))))))))))))))))))))
theorem okX9_comesToGuard_97 : XOkL xms rX9_comesToGuard bX9_comesToGuard_97 := xcR ⟨dX9_comesToGuard_97, rfl⟩
theorem okX9_comesToGuard_98 : XOkL xms rX9_comesToGuard bX9_comesToGuard_98 := xcP (xok_aload_n dX9_comesToGuard_98 rfl) rfl (xcP (xok_getfield (ref := "WaysAtlasModel") (Or.inr ⟨rfl, by decide⟩) dX9_comesToGuard_99 (Or.inl ⟨q1998, (Or.inl rfl)⟩) xh1100) rfl (xcP (xok_iload_n dX9_comesToGuard_102 rfl) rfl (xcP (xok_aload_n dX9_comesToGuard_103 rfl) rfl (xcP (xok_getfield (ref := "WaysAtlasModel") (Or.inl ⟨rfl, by decide⟩) dX9_comesToGuard_104 (Or.inl ⟨q1992, (Or.inl rfl)⟩) xh61) rfl (xcP (xok_iastore dX9_comesToGuard_107) rfl (xcP (xok_aload_n dX9_comesToGuard_108 rfl) rfl (xcP (xok_getfield (ref := "WaysAtlasModel") (Or.inr ⟨rfl, by decide⟩) dX9_comesToGuard_109 (Or.inl ⟨q1999, (Or.inl rfl)⟩) xh1101) rfl (xcP (xok_iload_n dX9_comesToGuard_112 rfl) rfl (xcP (xok_aload_n dX9_comesToGuard_113 rfl) rfl (xcP (xok_getfield (ref := "WaysAtlasModel") (Or.inl ⟨rfl, by decide⟩) dX9_comesToGuard_114 (Or.inl ⟨q1993, (Or.inl rfl)⟩) xh62) rfl (xcP (xok_iastore dX9_comesToGuard_117) rfl (xcP (xok_aload_n dX9_comesToGuard_118 rfl) rfl (xcP (xok_getfield (ref := "WaysAtlasModel") (Or.inr ⟨rfl, by decide⟩) dX9_comesToGuard_119 (Or.inl ⟨q1997, (Or.inl rfl)⟩) xh1099) rfl (xcP (xok_iload_n dX9_comesToGuard_122 rfl) rfl (xcP (xok_iaload dX9_comesToGuard_123) rfl (xcP (xok_ifne dX9_comesToGuard_124 (by decide)) rfl (xcP (xok_aload_n dX9_comesToGuard_127 rfl) rfl (xcP (xok_iload_n dX9_comesToGuard_128 rfl) rfl (xcC0 (xokc_list (List.forall_mem_cons.mpr ⟨xokc_V (r := (RX9, TX9, 96)) xm186 (List.mem_of_getElem? (i := 9) rfl) (by decide) rfl dX9_comesToGuard_129 q2573 q2575 qs130 q149 q2576 (by decide +kernel), fun _ h => nomatch h⟩)) rfl (xcP (xok_aload_n dX9_comesToGuard_132 rfl) rfl (xcP (xok_getfield (ref := "WaysAtlasModel") (Or.inl ⟨rfl, by decide⟩) dX9_comesToGuard_133 (Or.inl ⟨q1991, (Or.inl rfl)⟩) xh60) rfl (xcP (xok_iflt dX9_comesToGuard_136 (by decide)) rfl (xcR ⟨dX9_comesToGuard_139, rfl⟩)))))))))))))))))))))))
theorem okX9_comesToGuard_140 : XOkL xms rX9_comesToGuard bX9_comesToGuard_140 := xcP (xok_aload_n dX9_comesToGuard_140 rfl) rfl (xcP (xok_getfield (ref := "WaysAtlasModel") (Or.inr ⟨rfl, by decide⟩) dX9_comesToGuard_141 (Or.inl ⟨q1997, (Or.inl rfl)⟩) xh1099) rfl (xcP (xok_iload_n dX9_comesToGuard_144 rfl) rfl (xcP (xok_iconst dX9_comesToGuard_145 rfl) rfl (xcP (xok_iastore dX9_comesToGuard_146) rfl (xcP (xok_aload_n dX9_comesToGuard_147 rfl) rfl (xcP (xok_getfield (ref := "WaysAtlasModel") (Or.inr ⟨rfl, by decide⟩) dX9_comesToGuard_148 (Or.inl ⟨q1998, (Or.inl rfl)⟩) xh1100) rfl (xcP (xok_iload_n dX9_comesToGuard_151 rfl) rfl (xcP (xok_iaload dX9_comesToGuard_152) rfl (xcP (xok_iconst dX9_comesToGuard_153 rfl) rfl (xcP (xok_icmpne dX9_comesToGuard_154 (by decide)) rfl (xcP (xok_aload_n dX9_comesToGuard_157 rfl) rfl (xcP (xok_iload_n dX9_comesToGuard_158 rfl) rfl (xcP (xok_aload_n dX9_comesToGuard_159 rfl) rfl (xcP (xok_getfield (ref := "WaysAtlasModel") (Or.inr ⟨rfl, by decide⟩) dX9_comesToGuard_160 (Or.inl ⟨q1981, (Or.inl rfl)⟩) xh1088) rfl (xcP (xok_sipush dX9_comesToGuard_163 rfl) rfl (xcP (xok_aload_n dX9_comesToGuard_166 rfl) rfl (xcP (xok_getfield (ref := "WaysAtlasModel") (Or.inl ⟨rfl, by decide⟩) dX9_comesToGuard_167 (Or.inl ⟨q1978, (Or.inl rfl)⟩) xh58) rfl (xcP (xok_imul dX9_comesToGuard_170) rfl (xcP (xok_aload_n dX9_comesToGuard_171 rfl) rfl (xcP (xok_getfield (ref := "WaysAtlasModel") (Or.inr ⟨rfl, by decide⟩) dX9_comesToGuard_172 (Or.inl ⟨q1999, (Or.inl rfl)⟩) xh1101) rfl (xcP (xok_iload_n dX9_comesToGuard_175 rfl) rfl (xcP (xok_iaload dX9_comesToGuard_176) rfl (xcP (xok_iadd dX9_comesToGuard_177) rfl (xcP (xok_iaload dX9_comesToGuard_178) rfl (xcC0 (xokc_list (List.forall_mem_cons.mpr ⟨xokc_V (r := (RX9, TX9, 96)) xm188 (List.mem_of_getElem? (i := 9) rfl) (by decide) rfl dX9_comesToGuard_179 q2581 q2583 qs132 q149 q2584 (by decide +kernel), fun _ h => nomatch h⟩)) rfl (xcP (xok_goto dX9_comesToGuard_182 (by decide)) rfl trivial))))))))))))))))))))))))))
theorem okX9_comesToGuard_185 : XOkL xms rX9_comesToGuard bX9_comesToGuard_185 := xcP (xok_iconst dX9_comesToGuard_185 rfl) rfl (xcP xok_fal rfl trivial)
theorem okX9_comesToGuard_186 : XOkL xms rX9_comesToGuard bX9_comesToGuard_186 := xcP (xok_istore_n dX9_comesToGuard_186 rfl) rfl (xcP (xok_iload_n dX9_comesToGuard_187 rfl) rfl (xcP (xok_iflt dX9_comesToGuard_188 (by decide)) rfl (xcP (xok_aload_n dX9_comesToGuard_191 rfl) rfl (xcP (xok_getfield (ref := "WaysAtlasModel") (Or.inr ⟨rfl, by decide⟩) dX9_comesToGuard_192 (Or.inl ⟨q1997, (Or.inl rfl)⟩) xh1099) rfl (xcP (xok_iload_n dX9_comesToGuard_195 rfl) rfl (xcP (xok_iconst dX9_comesToGuard_196 rfl) rfl (xcP (xok_iastore dX9_comesToGuard_197) rfl (xcP (xok_aload_n dX9_comesToGuard_198 rfl) rfl (xcP (xok_getfield (ref := "WaysAtlasModel") (Or.inr ⟨rfl, by decide⟩) dX9_comesToGuard_199 (Or.inl ⟨q2002, (Or.inl rfl)⟩) xh1104) rfl (xcP (xok_iload_n dX9_comesToGuard_202 rfl) rfl (xcP (xok_aload_n dX9_comesToGuard_203 rfl) rfl (xcP (xok_getfield (ref := "WaysAtlasModel") (Or.inr ⟨rfl, by decide⟩) dX9_comesToGuard_204 (Or.inl ⟨q1999, (Or.inl rfl)⟩) xh1101) rfl (xcP (xok_iload_n dX9_comesToGuard_207 rfl) rfl (xcP (xok_iaload dX9_comesToGuard_208) rfl (xcP (xok_iastore dX9_comesToGuard_209) rfl (xcP (xok_aload_n dX9_comesToGuard_210 rfl) rfl (xcP (xok_aload_n dX9_comesToGuard_211 rfl) rfl (xcP (xok_getfield (ref := "WaysAtlasModel") (Or.inr ⟨rfl, by decide⟩) dX9_comesToGuard_212 (Or.inl ⟨q1947, (Or.inl rfl)⟩) xh1066) rfl (xcP (xok_iload_n dX9_comesToGuard_215 rfl) rfl (xcP (xok_iaload dX9_comesToGuard_216) rfl (xcC0 (xokc_list (List.forall_mem_cons.mpr ⟨xokc_V (r := (RX9, TX9, 96)) xm163 (List.mem_of_getElem? (i := 9) rfl) (by decide) rfl dX9_comesToGuard_217 q2481 q2483 qs107 q149 q2484 (by decide +kernel), fun _ h => nomatch h⟩)) rfl (xcR ⟨dX9_comesToGuard_220, rfl⟩))))))))))))))))))))))
theorem okX9_comesToGuard_221 : XOkL xms rX9_comesToGuard bX9_comesToGuard_221 := xcP (xok_aload_n dX9_comesToGuard_221 rfl) rfl (xcP (xok_iload_n dX9_comesToGuard_222 rfl) rfl (xcC0 (xokc_list (List.forall_mem_cons.mpr ⟨xokc_V (r := (RX9, TX9, 96)) xm189 (List.mem_of_getElem? (i := 9) rfl) (by decide) rfl dX9_comesToGuard_223 q2585 q2587 qs133 q149 q2588 (by decide +kernel), fun _ h => nomatch h⟩)) rfl (xcR ⟨dX9_comesToGuard_226, rfl⟩)))
theorem okM_X9_comesToGuard : XOkM xms rX9_comesToGuard := xokM0 (List.forall_mem_cons.mpr ⟨⟨rfl, okX9_comesToGuard_0⟩, List.forall_mem_cons.mpr ⟨⟨rfl, okX9_comesToGuard_28⟩, List.forall_mem_cons.mpr ⟨⟨rfl, okX9_comesToGuard_29⟩, List.forall_mem_cons.mpr ⟨⟨rfl, okX9_comesToGuard_64⟩, List.forall_mem_cons.mpr ⟨⟨rfl, okX9_comesToGuard_65⟩, List.forall_mem_cons.mpr ⟨⟨rfl, okX9_comesToGuard_97⟩, List.forall_mem_cons.mpr ⟨⟨rfl, okX9_comesToGuard_98⟩, List.forall_mem_cons.mpr ⟨⟨rfl, okX9_comesToGuard_140⟩, List.forall_mem_cons.mpr ⟨⟨rfl, okX9_comesToGuard_185⟩, List.forall_mem_cons.mpr ⟨⟨rfl, okX9_comesToGuard_186⟩, List.forall_mem_cons.mpr ⟨⟨rfl, okX9_comesToGuard_221⟩, fun _ h => nomatch h⟩⟩⟩⟩⟩⟩⟩⟩⟩⟩⟩) (xokH0 rfl (fun _ _ => rfl)) (by decide +kernel) (by decide)
abbrev cX9_closesAll : ByteArray := prog_36_method_86_code
def dkwX9_closesAll_6 : List UInt8 := [180, 0, 184, 27, 7, 79, 42, 180, 0, 187, 27, 21, 5, 79, 167, 255, 109, 177]
abbrev dktX9_closesAll_6 : List UInt8 := dkwX9_closesAll_6 ++ []
def dkwX9_closesAll_5 : List UInt8 := [27, 46, 7, 160, 0, 18, 42, 21, 5, 42, 180, 0, 187, 27, 46, 182, 2, 70, 167, 0, 18, 42]
abbrev dktX9_closesAll_5 : List UInt8 := dkwX9_closesAll_5 ++ dktX9_closesAll_6
def dkwX9_closesAll_4 : List UInt8 := [182, 2, 43, 54, 4, 21, 4, 155, 0, 53, 42, 21, 4, 16, 247, 182, 1, 249, 54, 5, 42, 180, 0, 184]
abbrev dktX9_closesAll_4 : List UInt8 := dkwX9_closesAll_4 ++ dktX9_closesAll_5
def dkwX9_closesAll_3 : List UInt8 := [42, 180, 0, 190, 27, 46, 29, 96, 4, 100, 79, 42, 16, 6, 182, 1, 243, 42, 28, 6, 29, 96]
abbrev dktX9_closesAll_3 : List UInt8 := dkwX9_closesAll_3 ++ dktX9_closesAll_4
def dkwX9_closesAll_2 : List UInt8 := [92, 46, 4, 100, 79, 42, 180, 0, 169, 17, 1, 154, 42, 180, 1, 219, 104, 42, 16, 6, 182, 1, 237, 96]
abbrev dktX9_closesAll_2 : List UInt8 := dkwX9_closesAll_2 ++ dktX9_closesAll_3
def dkwX9_closesAll_1 : List UInt8 := [42, 180, 0, 208, 42, 180, 1, 240, 4, 100, 28, 79, 42, 180, 0, 193, 27, 46, 62, 42, 180, 0, 193, 27]
abbrev dktX9_closesAll_1 : List UInt8 := dkwX9_closesAll_1 ++ dktX9_closesAll_2
def dkwX9_closesAll_0 : List UInt8 := [42, 180, 0, 178, 27, 46, 61, 42, 180, 0, 193, 27, 46, 158, 0, 144, 42, 182, 2, 40, 154, 0, 4, 177]
abbrev dktX9_closesAll_0 : List UInt8 := dkwX9_closesAll_0 ++ dktX9_closesAll_1
theorem dksX9_closesAll_0 : cX9_closesAll.data.toList.drop 0 = dktX9_closesAll_0 := by decide +kernel
theorem dksX9_closesAll_1 : cX9_closesAll.data.toList.drop 24 = dktX9_closesAll_1 := dk_seg dksX9_closesAll_0 24 rfl rfl
theorem dksX9_closesAll_2 : cX9_closesAll.data.toList.drop 48 = dktX9_closesAll_2 := dk_seg dksX9_closesAll_1 24 rfl rfl
theorem dksX9_closesAll_3 : cX9_closesAll.data.toList.drop 72 = dktX9_closesAll_3 := dk_seg dksX9_closesAll_2 24 rfl rfl
theorem dksX9_closesAll_4 : cX9_closesAll.data.toList.drop 94 = dktX9_closesAll_4 := dk_seg dksX9_closesAll_3 22 rfl rfl
theorem dksX9_closesAll_5 : cX9_closesAll.data.toList.drop 118 = dktX9_closesAll_5 := dk_seg dksX9_closesAll_4 24 rfl rfl
theorem dksX9_closesAll_6 : cX9_closesAll.data.toList.drop 140 = dktX9_closesAll_6 := dk_seg dksX9_closesAll_5 22 rfl rfl
theorem dX9_closesAll_0 : decode cX9_closesAll 0 = .ok (.aload_n 0, 1) := dk_42 (dk_at dksX9_closesAll_0 0 rfl rfl)
theorem dX9_closesAll_1 : decode cX9_closesAll 1 = .ok (.getfield 178, 3) := dk_180 0 178 (dk_at dksX9_closesAll_0 1 rfl rfl)
theorem dX9_closesAll_4 : decode cX9_closesAll 4 = .ok (.iload_n 1, 1) := dk_27 (dk_at dksX9_closesAll_0 4 rfl rfl)
theorem dX9_closesAll_5 : decode cX9_closesAll 5 = .ok (.iaload, 1) := dk_46 (dk_at dksX9_closesAll_0 5 rfl rfl)
theorem dX9_closesAll_6 : decode cX9_closesAll 6 = .ok (.istore_n 2, 1) := dk_61 (dk_at dksX9_closesAll_0 6 rfl rfl)
theorem dX9_closesAll_7 : decode cX9_closesAll 7 = .ok (.aload_n 0, 1) := dk_42 (dk_at dksX9_closesAll_0 7 rfl rfl)
theorem dX9_closesAll_8 : decode cX9_closesAll 8 = .ok (.getfield 193, 3) := dk_180 0 193 (dk_at dksX9_closesAll_0 8 rfl rfl)
theorem dX9_closesAll_11 : decode cX9_closesAll 11 = .ok (.iload_n 1, 1) := dk_27 (dk_at dksX9_closesAll_0 11 rfl rfl)
theorem dX9_closesAll_12 : decode cX9_closesAll 12 = .ok (.iaload, 1) := dk_46 (dk_at dksX9_closesAll_0 12 rfl rfl)
theorem dX9_closesAll_13 : decode cX9_closesAll 13 = .ok (.ifCond .le 144, 3) := dk_158 0 144 (dk_at dksX9_closesAll_0 13 rfl rfl)
theorem dX9_closesAll_16 : decode cX9_closesAll 16 = .ok (.aload_n 0, 1) := dk_42 (dk_at dksX9_closesAll_0 16 rfl rfl)
theorem dX9_closesAll_17 : decode cX9_closesAll 17 = .ok (.invokevirtual 552, 3) := dk_182 2 40 (dk_at dksX9_closesAll_0 17 rfl rfl)
theorem dX9_closesAll_20 : decode cX9_closesAll 20 = .ok (.ifCond .ne 4, 3) := dk_154 0 4 (dk_at dksX9_closesAll_0 20 rfl rfl)
theorem dX9_closesAll_23 : decode cX9_closesAll 23 = .ok (.return_, 1) := dk_177 (dk_at dksX9_closesAll_0 23 rfl rfl)
theorem dX9_closesAll_24 : decode cX9_closesAll 24 = .ok (.aload_n 0, 1) := dk_42 (dk_at dksX9_closesAll_1 0 rfl rfl)
theorem dX9_closesAll_25 : decode cX9_closesAll 25 = .ok (.getfield 208, 3) := dk_180 0 208 (dk_at dksX9_closesAll_1 1 rfl rfl)
theorem dX9_closesAll_28 : decode cX9_closesAll 28 = .ok (.aload_n 0, 1) := dk_42 (dk_at dksX9_closesAll_1 4 rfl rfl)
theorem dX9_closesAll_29 : decode cX9_closesAll 29 = .ok (.getfield 496, 3) := dk_180 1 240 (dk_at dksX9_closesAll_1 5 rfl rfl)
theorem dX9_closesAll_32 : decode cX9_closesAll 32 = .ok (.iconst 1, 1) := dk_4 (dk_at dksX9_closesAll_1 8 rfl rfl)
theorem dX9_closesAll_33 : decode cX9_closesAll 33 = .ok (.isub, 1) := dk_100 (dk_at dksX9_closesAll_1 9 rfl rfl)
theorem dX9_closesAll_34 : decode cX9_closesAll 34 = .ok (.iload_n 2, 1) := dk_28 (dk_at dksX9_closesAll_1 10 rfl rfl)
theorem dX9_closesAll_35 : decode cX9_closesAll 35 = .ok (.iastore, 1) := dk_79 (dk_at dksX9_closesAll_1 11 rfl rfl)
theorem dX9_closesAll_36 : decode cX9_closesAll 36 = .ok (.aload_n 0, 1) := dk_42 (dk_at dksX9_closesAll_1 12 rfl rfl)
theorem dX9_closesAll_37 : decode cX9_closesAll 37 = .ok (.getfield 193, 3) := dk_180 0 193 (dk_at dksX9_closesAll_1 13 rfl rfl)
theorem dX9_closesAll_40 : decode cX9_closesAll 40 = .ok (.iload_n 1, 1) := dk_27 (dk_at dksX9_closesAll_1 16 rfl rfl)
theorem dX9_closesAll_41 : decode cX9_closesAll 41 = .ok (.iaload, 1) := dk_46 (dk_at dksX9_closesAll_1 17 rfl rfl)
theorem dX9_closesAll_42 : decode cX9_closesAll 42 = .ok (.istore_n 3, 1) := dk_62 (dk_at dksX9_closesAll_1 18 rfl rfl)
theorem dX9_closesAll_43 : decode cX9_closesAll 43 = .ok (.aload_n 0, 1) := dk_42 (dk_at dksX9_closesAll_1 19 rfl rfl)
theorem dX9_closesAll_44 : decode cX9_closesAll 44 = .ok (.getfield 193, 3) := dk_180 0 193 (dk_at dksX9_closesAll_1 20 rfl rfl)
theorem dX9_closesAll_47 : decode cX9_closesAll 47 = .ok (.iload_n 1, 1) := dk_27 (dk_at dksX9_closesAll_1 23 rfl rfl)
theorem dX9_closesAll_48 : decode cX9_closesAll 48 = .ok (.dup2, 1) := dk_92 (dk_at dksX9_closesAll_2 0 rfl rfl)
theorem dX9_closesAll_49 : decode cX9_closesAll 49 = .ok (.iaload, 1) := dk_46 (dk_at dksX9_closesAll_2 1 rfl rfl)
theorem dX9_closesAll_50 : decode cX9_closesAll 50 = .ok (.iconst 1, 1) := dk_4 (dk_at dksX9_closesAll_2 2 rfl rfl)
theorem dX9_closesAll_51 : decode cX9_closesAll 51 = .ok (.isub, 1) := dk_100 (dk_at dksX9_closesAll_2 3 rfl rfl)
theorem dX9_closesAll_52 : decode cX9_closesAll 52 = .ok (.iastore, 1) := dk_79 (dk_at dksX9_closesAll_2 4 rfl rfl)
theorem dX9_closesAll_53 : decode cX9_closesAll 53 = .ok (.aload_n 0, 1) := dk_42 (dk_at dksX9_closesAll_2 5 rfl rfl)
theorem dX9_closesAll_54 : decode cX9_closesAll 54 = .ok (.getfield 169, 3) := dk_180 0 169 (dk_at dksX9_closesAll_2 6 rfl rfl)
theorem dX9_closesAll_57 : decode cX9_closesAll 57 = .ok (.sipush 410, 3) := dk_17 1 154 (dk_at dksX9_closesAll_2 9 rfl rfl)
theorem dX9_closesAll_60 : decode cX9_closesAll 60 = .ok (.aload_n 0, 1) := dk_42 (dk_at dksX9_closesAll_2 12 rfl rfl)
theorem dX9_closesAll_61 : decode cX9_closesAll 61 = .ok (.getfield 475, 3) := dk_180 1 219 (dk_at dksX9_closesAll_2 13 rfl rfl)
theorem dX9_closesAll_64 : decode cX9_closesAll 64 = .ok (.imul, 1) := dk_104 (dk_at dksX9_closesAll_2 16 rfl rfl)
theorem dX9_closesAll_65 : decode cX9_closesAll 65 = .ok (.aload_n 0, 1) := dk_42 (dk_at dksX9_closesAll_2 17 rfl rfl)
theorem dX9_closesAll_66 : decode cX9_closesAll 66 = .ok (.bipush 6, 2) := dk_16 6 (dk_at dksX9_closesAll_2 18 rfl rfl)
theorem dX9_closesAll_68 : decode cX9_closesAll 68 = .ok (.invokevirtual 493, 3) := dk_182 1 237 (dk_at dksX9_closesAll_2 20 rfl rfl)
theorem dX9_closesAll_71 : decode cX9_closesAll 71 = .ok (.iadd, 1) := dk_96 (dk_at dksX9_closesAll_2 23 rfl rfl)
theorem dX9_closesAll_72 : decode cX9_closesAll 72 = .ok (.aload_n 0, 1) := dk_42 (dk_at dksX9_closesAll_3 0 rfl rfl)
theorem dX9_closesAll_73 : decode cX9_closesAll 73 = .ok (.getfield 190, 3) := dk_180 0 190 (dk_at dksX9_closesAll_3 1 rfl rfl)
theorem dX9_closesAll_76 : decode cX9_closesAll 76 = .ok (.iload_n 1, 1) := dk_27 (dk_at dksX9_closesAll_3 4 rfl rfl)
theorem dX9_closesAll_77 : decode cX9_closesAll 77 = .ok (.iaload, 1) := dk_46 (dk_at dksX9_closesAll_3 5 rfl rfl)
theorem dX9_closesAll_78 : decode cX9_closesAll 78 = .ok (.iload_n 3, 1) := dk_29 (dk_at dksX9_closesAll_3 6 rfl rfl)
theorem dX9_closesAll_79 : decode cX9_closesAll 79 = .ok (.iadd, 1) := dk_96 (dk_at dksX9_closesAll_3 7 rfl rfl)
theorem dX9_closesAll_80 : decode cX9_closesAll 80 = .ok (.iconst 1, 1) := dk_4 (dk_at dksX9_closesAll_3 8 rfl rfl)
theorem dX9_closesAll_81 : decode cX9_closesAll 81 = .ok (.isub, 1) := dk_100 (dk_at dksX9_closesAll_3 9 rfl rfl)
theorem dX9_closesAll_82 : decode cX9_closesAll 82 = .ok (.iastore, 1) := dk_79 (dk_at dksX9_closesAll_3 10 rfl rfl)
theorem dX9_closesAll_83 : decode cX9_closesAll 83 = .ok (.aload_n 0, 1) := dk_42 (dk_at dksX9_closesAll_3 11 rfl rfl)
theorem dX9_closesAll_84 : decode cX9_closesAll 84 = .ok (.bipush 6, 2) := dk_16 6 (dk_at dksX9_closesAll_3 12 rfl rfl)
theorem dX9_closesAll_86 : decode cX9_closesAll 86 = .ok (.invokevirtual 499, 3) := dk_182 1 243 (dk_at dksX9_closesAll_3 14 rfl rfl)
theorem dX9_closesAll_89 : decode cX9_closesAll 89 = .ok (.aload_n 0, 1) := dk_42 (dk_at dksX9_closesAll_3 17 rfl rfl)
theorem dX9_closesAll_90 : decode cX9_closesAll 90 = .ok (.iload_n 2, 1) := dk_28 (dk_at dksX9_closesAll_3 18 rfl rfl)
theorem dX9_closesAll_91 : decode cX9_closesAll 91 = .ok (.iconst 3, 1) := dk_6 (dk_at dksX9_closesAll_3 19 rfl rfl)
theorem dX9_closesAll_92 : decode cX9_closesAll 92 = .ok (.iload_n 3, 1) := dk_29 (dk_at dksX9_closesAll_3 20 rfl rfl)
theorem dX9_closesAll_93 : decode cX9_closesAll 93 = .ok (.iadd, 1) := dk_96 (dk_at dksX9_closesAll_3 21 rfl rfl)
theorem dX9_closesAll_94 : decode cX9_closesAll 94 = .ok (.invokevirtual 555, 3) := dk_182 2 43 (dk_at dksX9_closesAll_4 0 rfl rfl)
theorem dX9_closesAll_97 : decode cX9_closesAll 97 = .ok (.istore 4, 2) := dk_54 4 (dk_at dksX9_closesAll_4 3 rfl rfl)
theorem dX9_closesAll_99 : decode cX9_closesAll 99 = .ok (.iload 4, 2) := dk_21 4 (dk_at dksX9_closesAll_4 5 rfl rfl)
theorem dX9_closesAll_101 : decode cX9_closesAll 101 = .ok (.ifCond .lt 53, 3) := dk_155 0 53 (dk_at dksX9_closesAll_4 7 rfl rfl)
theorem dX9_closesAll_104 : decode cX9_closesAll 104 = .ok (.aload_n 0, 1) := dk_42 (dk_at dksX9_closesAll_4 10 rfl rfl)
theorem dX9_closesAll_105 : decode cX9_closesAll 105 = .ok (.iload 4, 2) := dk_21 4 (dk_at dksX9_closesAll_4 11 rfl rfl)
theorem dX9_closesAll_107 : decode cX9_closesAll 107 = .ok (.bipush (-9), 2) := dk_16 247 (dk_at dksX9_closesAll_4 13 rfl rfl)
theorem dX9_closesAll_109 : decode cX9_closesAll 109 = .ok (.invokevirtual 505, 3) := dk_182 1 249 (dk_at dksX9_closesAll_4 15 rfl rfl)
theorem dX9_closesAll_112 : decode cX9_closesAll 112 = .ok (.istore 5, 2) := dk_54 5 (dk_at dksX9_closesAll_4 18 rfl rfl)
theorem dX9_closesAll_114 : decode cX9_closesAll 114 = .ok (.aload_n 0, 1) := dk_42 (dk_at dksX9_closesAll_4 20 rfl rfl)
theorem dX9_closesAll_115 : decode cX9_closesAll 115 = .ok (.getfield 184, 3) := dk_180 0 184 (dk_at dksX9_closesAll_4 21 rfl rfl)
theorem dX9_closesAll_118 : decode cX9_closesAll 118 = .ok (.iload_n 1, 1) := dk_27 (dk_at dksX9_closesAll_5 0 rfl rfl)
theorem dX9_closesAll_119 : decode cX9_closesAll 119 = .ok (.iaload, 1) := dk_46 (dk_at dksX9_closesAll_5 1 rfl rfl)
theorem dX9_closesAll_120 : decode cX9_closesAll 120 = .ok (.iconst 4, 1) := dk_7 (dk_at dksX9_closesAll_5 2 rfl rfl)
theorem dX9_closesAll_121 : decode cX9_closesAll 121 = .ok (.if_icmp .ne 18, 3) := dk_160 0 18 (dk_at dksX9_closesAll_5 3 rfl rfl)
theorem dX9_closesAll_124 : decode cX9_closesAll 124 = .ok (.aload_n 0, 1) := dk_42 (dk_at dksX9_closesAll_5 6 rfl rfl)
theorem dX9_closesAll_125 : decode cX9_closesAll 125 = .ok (.iload 5, 2) := dk_21 5 (dk_at dksX9_closesAll_5 7 rfl rfl)
theorem dX9_closesAll_127 : decode cX9_closesAll 127 = .ok (.aload_n 0, 1) := dk_42 (dk_at dksX9_closesAll_5 9 rfl rfl)
theorem dX9_closesAll_128 : decode cX9_closesAll 128 = .ok (.getfield 187, 3) := dk_180 0 187 (dk_at dksX9_closesAll_5 10 rfl rfl)
theorem dX9_closesAll_131 : decode cX9_closesAll 131 = .ok (.iload_n 1, 1) := dk_27 (dk_at dksX9_closesAll_5 13 rfl rfl)
theorem dX9_closesAll_132 : decode cX9_closesAll 132 = .ok (.iaload, 1) := dk_46 (dk_at dksX9_closesAll_5 14 rfl rfl)
theorem dX9_closesAll_133 : decode cX9_closesAll 133 = .ok (.invokevirtual 582, 3) := dk_182 2 70 (dk_at dksX9_closesAll_5 15 rfl rfl)
theorem dX9_closesAll_136 : decode cX9_closesAll 136 = .ok (.goto 18, 3) := dk_167 0 18 (dk_at dksX9_closesAll_5 18 rfl rfl)
theorem dX9_closesAll_139 : decode cX9_closesAll 139 = .ok (.aload_n 0, 1) := dk_42 (dk_at dksX9_closesAll_5 21 rfl rfl)
theorem dX9_closesAll_140 : decode cX9_closesAll 140 = .ok (.getfield 184, 3) := dk_180 0 184 (dk_at dksX9_closesAll_6 0 rfl rfl)
theorem dX9_closesAll_143 : decode cX9_closesAll 143 = .ok (.iload_n 1, 1) := dk_27 (dk_at dksX9_closesAll_6 3 rfl rfl)
theorem dX9_closesAll_144 : decode cX9_closesAll 144 = .ok (.iconst 4, 1) := dk_7 (dk_at dksX9_closesAll_6 4 rfl rfl)
theorem dX9_closesAll_145 : decode cX9_closesAll 145 = .ok (.iastore, 1) := dk_79 (dk_at dksX9_closesAll_6 5 rfl rfl)
theorem dX9_closesAll_146 : decode cX9_closesAll 146 = .ok (.aload_n 0, 1) := dk_42 (dk_at dksX9_closesAll_6 6 rfl rfl)
theorem dX9_closesAll_147 : decode cX9_closesAll 147 = .ok (.getfield 187, 3) := dk_180 0 187 (dk_at dksX9_closesAll_6 7 rfl rfl)
theorem dX9_closesAll_150 : decode cX9_closesAll 150 = .ok (.iload_n 1, 1) := dk_27 (dk_at dksX9_closesAll_6 10 rfl rfl)
theorem dX9_closesAll_151 : decode cX9_closesAll 151 = .ok (.iload 5, 2) := dk_21 5 (dk_at dksX9_closesAll_6 11 rfl rfl)
theorem dX9_closesAll_153 : decode cX9_closesAll 153 = .ok (.iastore, 1) := dk_79 (dk_at dksX9_closesAll_6 13 rfl rfl)
theorem dX9_closesAll_154 : decode cX9_closesAll 154 = .ok (.goto (-147), 3) := dk_167 255 109 (dk_at dksX9_closesAll_6 14 rfl rfl)
theorem dX9_closesAll_157 : decode cX9_closesAll 157 = .ok (.return_, 1) := dk_177 (dk_at dksX9_closesAll_6 17 rfl rfl)
theorem okX9_closesAll_0 : XOkL xms rX9_closesAll bX9_closesAll_0 := xcP (xok_aload_n dX9_closesAll_0 rfl) rfl (xcP (xok_getfield (ref := "WaysAtlasModel") (Or.inr ⟨rfl, by decide⟩) dX9_closesAll_1 (Or.inl ⟨q1996, (Or.inl rfl)⟩) xh1098) rfl (xcP (xok_iload_n dX9_closesAll_4 rfl) rfl (xcP (xok_iaload dX9_closesAll_5) rfl (xcP (xok_istore_n dX9_closesAll_6 rfl) rfl (xcP xok_fal rfl trivial)))))
theorem okX9_closesAll_7 : XOkL xms rX9_closesAll bX9_closesAll_7 := xcP (xok_aload_n dX9_closesAll_7 rfl) rfl (xcP (xok_getfield (ref := "WaysAtlasModel") (Or.inr ⟨rfl, by decide⟩) dX9_closesAll_8 (Or.inl ⟨q2001, (Or.inl rfl)⟩) xh1103) rfl (xcP (xok_iload_n dX9_closesAll_11 rfl) rfl (xcP (xok_iaload dX9_closesAll_12) rfl (xcP (xok_ifle dX9_closesAll_13 (by decide)) rfl (xcP (xok_aload_n dX9_closesAll_16 rfl) rfl (xcC0 (xokc_list (List.forall_mem_cons.mpr ⟨xokc_V (r := (RX9, TX9, 96)) xm165 (List.mem_of_getElem? (i := 9) rfl) (by decide) rfl dX9_closesAll_17 q2489 q2491 qs109 q149 q2492 (by decide +kernel), fun _ h => nomatch h⟩)) rfl (xcP (xok_ifne dX9_closesAll_20 (by decide)) rfl (xcR ⟨dX9_closesAll_23, rfl⟩))))))))
theorem okX9_closesAll_24 : XOkL xms rX9_closesAll bX9_closesAll_24 := xcP (xok_aload_n dX9_closesAll_24 rfl) rfl (xcP (xok_getfield (ref := "WaysAtlasModel") (Or.inr ⟨rfl, by decide⟩) dX9_closesAll_25 (Or.inl ⟨q2007, (Or.inl rfl)⟩) xh1108) rfl (xcP (xok_aload_n dX9_closesAll_28 rfl) rfl (xcP (xok_getfield (ref := "WaysAtlasModel") (Or.inl ⟨rfl, by decide⟩) dX9_closesAll_29 (Or.inl ⟨q2003, (Or.inl rfl)⟩) xh64) rfl (xcP (xok_iconst dX9_closesAll_32 rfl) rfl (xcP (xok_isub dX9_closesAll_33) rfl (xcP (xok_iload_n dX9_closesAll_34 rfl) rfl (xcP (xok_iastore dX9_closesAll_35) rfl (xcP (xok_aload_n dX9_closesAll_36 rfl) rfl (xcP (xok_getfield (ref := "WaysAtlasModel") (Or.inr ⟨rfl, by decide⟩) dX9_closesAll_37 (Or.inl ⟨q2001, (Or.inl rfl)⟩) xh1103) rfl (xcP (xok_iload_n dX9_closesAll_40 rfl) rfl (xcP (xok_iaload dX9_closesAll_41) rfl (xcP (xok_istore_n dX9_closesAll_42 rfl) rfl (xcP (xok_aload_n dX9_closesAll_43 rfl) rfl (xcP (xok_getfield (ref := "WaysAtlasModel") (Or.inr ⟨rfl, by decide⟩) dX9_closesAll_44 (Or.inl ⟨q2001, (Or.inl rfl)⟩) xh1103) rfl (xcP (xok_iload_n dX9_closesAll_47 rfl) rfl (xcP (xok_dup2 dX9_closesAll_48) rfl (xcP (xok_iaload dX9_closesAll_49) rfl (xcP (xok_iconst dX9_closesAll_50 rfl) rfl (xcP (xok_isub dX9_closesAll_51) rfl (xcP (xok_iastore dX9_closesAll_52) rfl (xcP (xok_aload_n dX9_closesAll_53 rfl) rfl (xcP (xok_getfield (ref := "WaysAtlasModel") (Or.inr ⟨rfl, by decide⟩) dX9_closesAll_54 (Or.inl ⟨q1988, (Or.inl rfl)⟩) xh1095) rfl (xcP (xok_sipush dX9_closesAll_57 rfl) rfl (xcP (xok_aload_n dX9_closesAll_60 rfl) rfl (xcP (xok_getfield (ref := "WaysAtlasModel") (Or.inl ⟨rfl, by decide⟩) dX9_closesAll_61 (Or.inl ⟨q1978, (Or.inl rfl)⟩) xh58) rfl (xcP (xok_imul dX9_closesAll_64) rfl (xcP (xok_aload_n dX9_closesAll_65 rfl) rfl (xcP (xok_bipush dX9_closesAll_66 rfl) rfl (xcC0 (xokc_list (List.forall_mem_cons.mpr ⟨xokc_V (r := (RX9, TX9, 96)) xm162 (List.mem_of_getElem? (i := 9) rfl) (by decide) rfl dX9_closesAll_68 q2477 q2479 qs106 q149 q2480 (by decide +kernel), fun _ h => nomatch h⟩)) rfl (xcP (xok_iadd dX9_closesAll_71) rfl (xcP (xok_aload_n dX9_closesAll_72 rfl) rfl (xcP (xok_getfield (ref := "WaysAtlasModel") (Or.inr ⟨rfl, by decide⟩) dX9_closesAll_73 (Or.inl ⟨q2000, (Or.inl rfl)⟩) xh1102) rfl (xcP (xok_iload_n dX9_closesAll_76 rfl) rfl (xcP (xok_iaload dX9_closesAll_77) rfl (xcP (xok_iload_n dX9_closesAll_78 rfl) rfl (xcP (xok_iadd dX9_closesAll_79) rfl (xcP (xok_iconst dX9_closesAll_80 rfl) rfl (xcP (xok_isub dX9_closesAll_81) rfl (xcP (xok_iastore dX9_closesAll_82) rfl (xcP (xok_aload_n dX9_closesAll_83 rfl) rfl (xcP (xok_bipush dX9_closesAll_84 rfl) rfl (xcC0 (xokc_list (List.forall_mem_cons.mpr ⟨xokc_V (r := (RX9, TX9, 96)) xm170 (List.mem_of_getElem? (i := 9) rfl) (by decide) rfl dX9_closesAll_86 q2509 q2511 qs114 q149 q2512 (by decide +kernel), fun _ h => nomatch h⟩)) rfl (xcP (xok_aload_n dX9_closesAll_89 rfl) rfl (xcP (xok_iload_n dX9_closesAll_90 rfl) rfl (xcP (xok_iconst dX9_closesAll_91 rfl) rfl (xcP (xok_iload_n dX9_closesAll_92 rfl) rfl (xcP (xok_iadd dX9_closesAll_93) rfl (xcC0 (xokc_list (List.forall_mem_cons.mpr ⟨xokc_V (r := (RX9, TX9, 96)) xm167 (List.mem_of_getElem? (i := 9) rfl) (by decide) rfl dX9_closesAll_94 q2497 q2499 qs111 q149 q2500 (by decide +kernel), fun _ h => nomatch h⟩)) rfl (xcP (xok_istore dX9_closesAll_97) rfl (xcP (xok_iload dX9_closesAll_99) rfl (xcP (xok_iflt dX9_closesAll_101 (by decide)) rfl (xcP (xok_aload_n dX9_closesAll_104 rfl) rfl (xcP (xok_iload dX9_closesAll_105) rfl (xcP (xok_bipush dX9_closesAll_107 rfl) rfl (xcC0 (xokc_list (List.forall_mem_cons.mpr ⟨xokc_V (r := (RX9, TX9, 96)) xm169 (List.mem_of_getElem? (i := 9) rfl) (by decide) rfl dX9_closesAll_109 q2505 q2507 qs113 q149 q2508 (by decide +kernel), fun _ h => nomatch h⟩)) rfl (xcP (xok_istore dX9_closesAll_112) rfl (xcP (xok_aload_n dX9_closesAll_114 rfl) rfl (xcP (xok_getfield (ref := "WaysAtlasModel") (Or.inr ⟨rfl, by decide⟩) dX9_closesAll_115 (Or.inl ⟨q1998, (Or.inl rfl)⟩) xh1100) rfl (xcP (xok_iload_n dX9_closesAll_118 rfl) rfl (xcP (xok_iaload dX9_closesAll_119) rfl (xcP (xok_iconst dX9_closesAll_120 rfl) rfl (xcP (xok_icmpne dX9_closesAll_121 (by decide)) rfl (xcP (xok_aload_n dX9_closesAll_124 rfl) rfl (xcP (xok_iload dX9_closesAll_125) rfl (xcP (xok_aload_n dX9_closesAll_127 rfl) rfl (xcP (xok_getfield (ref := "WaysAtlasModel") (Or.inr ⟨rfl, by decide⟩) dX9_closesAll_128 (Or.inl ⟨q1999, (Or.inl rfl)⟩) xh1101) rfl (xcP (xok_iload_n dX9_closesAll_131 rfl) rfl (xcP (xok_iaload dX9_closesAll_132) rfl (xcC0 (xokc_list (List.forall_mem_cons.mpr ⟨xokc_V (r := (RX9, TX9, 96)) xm187 (List.mem_of_getElem? (i := 9) rfl) (by decide) rfl dX9_closesAll_133 q2577 q2579 qs131 q149 q2580 (by decide +kernel), fun _ h => nomatch h⟩)) rfl (xcP (xok_goto dX9_closesAll_136 (by decide)) rfl trivial))))))))))))))))))))))))))))))))))))))))))))))))))))))))))))))))))))))
theorem okX9_closesAll_139 : XOkL xms rX9_closesAll bX9_closesAll_139 := xcP (xok_aload_n dX9_closesAll_139 rfl) rfl (xcP (xok_getfield (ref := "WaysAtlasModel") (Or.inr ⟨rfl, by decide⟩) dX9_closesAll_140 (Or.inl ⟨q1998, (Or.inl rfl)⟩) xh1100) rfl (xcP (xok_iload_n dX9_closesAll_143 rfl) rfl (xcP (xok_iconst dX9_closesAll_144 rfl) rfl (xcP (xok_iastore dX9_closesAll_145) rfl (xcP (xok_aload_n dX9_closesAll_146 rfl) rfl (xcP (xok_getfield (ref := "WaysAtlasModel") (Or.inr ⟨rfl, by decide⟩) dX9_closesAll_147 (Or.inl ⟨q1999, (Or.inl rfl)⟩) xh1101) rfl (xcP (xok_iload_n dX9_closesAll_150 rfl) rfl (xcP (xok_iload dX9_closesAll_151) rfl (xcP (xok_iastore dX9_closesAll_153) rfl (xcP xok_fal rfl trivial))))))))))
theorem okX9_closesAll_154 : XOkL xms rX9_closesAll bX9_closesAll_154 := xcP (xok_goto dX9_closesAll_154 (by decide)) rfl trivial
theorem okX9_closesAll_157 : XOkL xms rX9_closesAll bX9_closesAll_157 := xcR ⟨dX9_closesAll_157, rfl⟩
theorem okM_X9_closesAll : XOkM xms rX9_closesAll := xokM0 (List.forall_mem_cons.mpr ⟨⟨rfl, okX9_closesAll_0⟩, List.forall_mem_cons.mpr ⟨⟨rfl, okX9_closesAll_7⟩, List.forall_mem_cons.mpr ⟨⟨rfl, okX9_closesAll_24⟩, List.forall_mem_cons.mpr ⟨⟨rfl, okX9_closesAll_139⟩, List.forall_mem_cons.mpr ⟨⟨rfl, okX9_closesAll_154⟩, List.forall_mem_cons.mpr ⟨⟨rfl, okX9_closesAll_157⟩, fun _ h => nomatch h⟩⟩⟩⟩⟩⟩) (xokH0 rfl (fun _ _ => rfl)) (by decide +kernel) (by decide)
abbrev cX9_suppresses : ByteArray := prog_36_method_85_code
def dkwX9_suppresses_3 : List UInt8 := [180, 0, 157, 29, 21, 4, 96, 27, 79, 177]
abbrev dktX9_suppresses_3 : List UInt8 := dkwX9_suppresses_3 ++ []
def dkwX9_suppresses_2 : List UInt8 := [21, 4, 96, 46, 16, 247, 159, 0, 17, 42, 180, 0, 157, 29, 21, 4, 96, 46, 54, 4, 167, 255, 231, 42]
abbrev dktX9_suppresses_2 : List UInt8 := dkwX9_suppresses_2 ++ dktX9_suppresses_3
def dkwX9_suppresses_1 : List UInt8 := [180, 0, 154, 29, 28, 96, 27, 79, 177, 42, 180, 0, 154, 29, 28, 96, 46, 54, 4, 42, 180, 0, 157, 29]
abbrev dktX9_suppresses_1 : List UInt8 := dkwX9_suppresses_1 ++ dktX9_suppresses_2
def dkwX9_suppresses_0 : List UInt8 := [17, 1, 164, 42, 180, 1, 219, 104, 62, 42, 180, 0, 154, 29, 28, 96, 46, 16, 247, 160, 0, 13, 42]
abbrev dktX9_suppresses_0 : List UInt8 := dkwX9_suppresses_0 ++ dktX9_suppresses_1
theorem dksX9_suppresses_0 : cX9_suppresses.data.toList.drop 0 = dktX9_suppresses_0 := by decide +kernel
theorem dksX9_suppresses_1 : cX9_suppresses.data.toList.drop 23 = dktX9_suppresses_1 := dk_seg dksX9_suppresses_0 23 rfl rfl
theorem dksX9_suppresses_2 : cX9_suppresses.data.toList.drop 47 = dktX9_suppresses_2 := dk_seg dksX9_suppresses_1 24 rfl rfl
theorem dksX9_suppresses_3 : cX9_suppresses.data.toList.drop 71 = dktX9_suppresses_3 := dk_seg dksX9_suppresses_2 24 rfl rfl
theorem dX9_suppresses_0 : decode cX9_suppresses 0 = .ok (.sipush 420, 3) := dk_17 1 164 (dk_at dksX9_suppresses_0 0 rfl rfl)
theorem dX9_suppresses_3 : decode cX9_suppresses 3 = .ok (.aload_n 0, 1) := dk_42 (dk_at dksX9_suppresses_0 3 rfl rfl)
theorem dX9_suppresses_4 : decode cX9_suppresses 4 = .ok (.getfield 475, 3) := dk_180 1 219 (dk_at dksX9_suppresses_0 4 rfl rfl)
theorem dX9_suppresses_7 : decode cX9_suppresses 7 = .ok (.imul, 1) := dk_104 (dk_at dksX9_suppresses_0 7 rfl rfl)
theorem dX9_suppresses_8 : decode cX9_suppresses 8 = .ok (.istore_n 3, 1) := dk_62 (dk_at dksX9_suppresses_0 8 rfl rfl)
theorem dX9_suppresses_9 : decode cX9_suppresses 9 = .ok (.aload_n 0, 1) := dk_42 (dk_at dksX9_suppresses_0 9 rfl rfl)
theorem dX9_suppresses_10 : decode cX9_suppresses 10 = .ok (.getfield 154, 3) := dk_180 0 154 (dk_at dksX9_suppresses_0 10 rfl rfl)
theorem dX9_suppresses_13 : decode cX9_suppresses 13 = .ok (.iload_n 3, 1) := dk_29 (dk_at dksX9_suppresses_0 13 rfl rfl)
theorem dX9_suppresses_14 : decode cX9_suppresses 14 = .ok (.iload_n 2, 1) := dk_28 (dk_at dksX9_suppresses_0 14 rfl rfl)
theorem dX9_suppresses_15 : decode cX9_suppresses 15 = .ok (.iadd, 1) := dk_96 (dk_at dksX9_suppresses_0 15 rfl rfl)
theorem dX9_suppresses_16 : decode cX9_suppresses 16 = .ok (.iaload, 1) := dk_46 (dk_at dksX9_suppresses_0 16 rfl rfl)
theorem dX9_suppresses_17 : decode cX9_suppresses 17 = .ok (.bipush (-9), 2) := dk_16 247 (dk_at dksX9_suppresses_0 17 rfl rfl)
theorem dX9_suppresses_19 : decode cX9_suppresses 19 = .ok (.if_icmp .ne 13, 3) := dk_160 0 13 (dk_at dksX9_suppresses_0 19 rfl rfl)
theorem dX9_suppresses_22 : decode cX9_suppresses 22 = .ok (.aload_n 0, 1) := dk_42 (dk_at dksX9_suppresses_0 22 rfl rfl)
theorem dX9_suppresses_23 : decode cX9_suppresses 23 = .ok (.getfield 154, 3) := dk_180 0 154 (dk_at dksX9_suppresses_1 0 rfl rfl)
theorem dX9_suppresses_26 : decode cX9_suppresses 26 = .ok (.iload_n 3, 1) := dk_29 (dk_at dksX9_suppresses_1 3 rfl rfl)
theorem dX9_suppresses_27 : decode cX9_suppresses 27 = .ok (.iload_n 2, 1) := dk_28 (dk_at dksX9_suppresses_1 4 rfl rfl)
theorem dX9_suppresses_28 : decode cX9_suppresses 28 = .ok (.iadd, 1) := dk_96 (dk_at dksX9_suppresses_1 5 rfl rfl)
theorem dX9_suppresses_29 : decode cX9_suppresses 29 = .ok (.iload_n 1, 1) := dk_27 (dk_at dksX9_suppresses_1 6 rfl rfl)
theorem dX9_suppresses_30 : decode cX9_suppresses 30 = .ok (.iastore, 1) := dk_79 (dk_at dksX9_suppresses_1 7 rfl rfl)
theorem dX9_suppresses_31 : decode cX9_suppresses 31 = .ok (.return_, 1) := dk_177 (dk_at dksX9_suppresses_1 8 rfl rfl)
theorem dX9_suppresses_32 : decode cX9_suppresses 32 = .ok (.aload_n 0, 1) := dk_42 (dk_at dksX9_suppresses_1 9 rfl rfl)
theorem dX9_suppresses_33 : decode cX9_suppresses 33 = .ok (.getfield 154, 3) := dk_180 0 154 (dk_at dksX9_suppresses_1 10 rfl rfl)
theorem dX9_suppresses_36 : decode cX9_suppresses 36 = .ok (.iload_n 3, 1) := dk_29 (dk_at dksX9_suppresses_1 13 rfl rfl)
theorem dX9_suppresses_37 : decode cX9_suppresses 37 = .ok (.iload_n 2, 1) := dk_28 (dk_at dksX9_suppresses_1 14 rfl rfl)
theorem dX9_suppresses_38 : decode cX9_suppresses 38 = .ok (.iadd, 1) := dk_96 (dk_at dksX9_suppresses_1 15 rfl rfl)
theorem dX9_suppresses_39 : decode cX9_suppresses 39 = .ok (.iaload, 1) := dk_46 (dk_at dksX9_suppresses_1 16 rfl rfl)
theorem dX9_suppresses_40 : decode cX9_suppresses 40 = .ok (.istore 4, 2) := dk_54 4 (dk_at dksX9_suppresses_1 17 rfl rfl)
theorem dX9_suppresses_42 : decode cX9_suppresses 42 = .ok (.aload_n 0, 1) := dk_42 (dk_at dksX9_suppresses_1 19 rfl rfl)
theorem dX9_suppresses_43 : decode cX9_suppresses 43 = .ok (.getfield 157, 3) := dk_180 0 157 (dk_at dksX9_suppresses_1 20 rfl rfl)
theorem dX9_suppresses_46 : decode cX9_suppresses 46 = .ok (.iload_n 3, 1) := dk_29 (dk_at dksX9_suppresses_1 23 rfl rfl)
theorem dX9_suppresses_47 : decode cX9_suppresses 47 = .ok (.iload 4, 2) := dk_21 4 (dk_at dksX9_suppresses_2 0 rfl rfl)
theorem dX9_suppresses_49 : decode cX9_suppresses 49 = .ok (.iadd, 1) := dk_96 (dk_at dksX9_suppresses_2 2 rfl rfl)
theorem dX9_suppresses_50 : decode cX9_suppresses 50 = .ok (.iaload, 1) := dk_46 (dk_at dksX9_suppresses_2 3 rfl rfl)
theorem dX9_suppresses_51 : decode cX9_suppresses 51 = .ok (.bipush (-9), 2) := dk_16 247 (dk_at dksX9_suppresses_2 4 rfl rfl)
theorem dX9_suppresses_53 : decode cX9_suppresses 53 = .ok (.if_icmp .eq 17, 3) := dk_159 0 17 (dk_at dksX9_suppresses_2 6 rfl rfl)
theorem dX9_suppresses_56 : decode cX9_suppresses 56 = .ok (.aload_n 0, 1) := dk_42 (dk_at dksX9_suppresses_2 9 rfl rfl)
theorem dX9_suppresses_57 : decode cX9_suppresses 57 = .ok (.getfield 157, 3) := dk_180 0 157 (dk_at dksX9_suppresses_2 10 rfl rfl)
theorem dX9_suppresses_60 : decode cX9_suppresses 60 = .ok (.iload_n 3, 1) := dk_29 (dk_at dksX9_suppresses_2 13 rfl rfl)
theorem dX9_suppresses_61 : decode cX9_suppresses 61 = .ok (.iload 4, 2) := dk_21 4 (dk_at dksX9_suppresses_2 14 rfl rfl)
theorem dX9_suppresses_63 : decode cX9_suppresses 63 = .ok (.iadd, 1) := dk_96 (dk_at dksX9_suppresses_2 16 rfl rfl)
theorem dX9_suppresses_64 : decode cX9_suppresses 64 = .ok (.iaload, 1) := dk_46 (dk_at dksX9_suppresses_2 17 rfl rfl)
theorem dX9_suppresses_65 : decode cX9_suppresses 65 = .ok (.istore 4, 2) := dk_54 4 (dk_at dksX9_suppresses_2 18 rfl rfl)
theorem dX9_suppresses_67 : decode cX9_suppresses 67 = .ok (.goto (-25), 3) := dk_167 255 231 (dk_at dksX9_suppresses_2 20 rfl rfl)
theorem dX9_suppresses_70 : decode cX9_suppresses 70 = .ok (.aload_n 0, 1) := dk_42 (dk_at dksX9_suppresses_2 23 rfl rfl)
theorem dX9_suppresses_71 : decode cX9_suppresses 71 = .ok (.getfield 157, 3) := dk_180 0 157 (dk_at dksX9_suppresses_3 0 rfl rfl)
theorem dX9_suppresses_74 : decode cX9_suppresses 74 = .ok (.iload_n 3, 1) := dk_29 (dk_at dksX9_suppresses_3 3 rfl rfl)
theorem dX9_suppresses_75 : decode cX9_suppresses 75 = .ok (.iload 4, 2) := dk_21 4 (dk_at dksX9_suppresses_3 4 rfl rfl)
theorem dX9_suppresses_77 : decode cX9_suppresses 77 = .ok (.iadd, 1) := dk_96 (dk_at dksX9_suppresses_3 6 rfl rfl)
theorem dX9_suppresses_78 : decode cX9_suppresses 78 = .ok (.iload_n 1, 1) := dk_27 (dk_at dksX9_suppresses_3 7 rfl rfl)
theorem dX9_suppresses_79 : decode cX9_suppresses 79 = .ok (.iastore, 1) := dk_79 (dk_at dksX9_suppresses_3 8 rfl rfl)
theorem dX9_suppresses_80 : decode cX9_suppresses 80 = .ok (.return_, 1) := dk_177 (dk_at dksX9_suppresses_3 9 rfl rfl)
theorem okX9_suppresses_0 : XOkL xms rX9_suppresses bX9_suppresses_0 := xcP (xok_sipush dX9_suppresses_0 rfl) rfl (xcP (xok_aload_n dX9_suppresses_3 rfl) rfl (xcP (xok_getfield (ref := "WaysAtlasModel") (Or.inl ⟨rfl, by decide⟩) dX9_suppresses_4 (Or.inl ⟨q1978, (Or.inl rfl)⟩) xh58) rfl (xcP (xok_imul dX9_suppresses_7) rfl (xcP (xok_istore_n dX9_suppresses_8 rfl) rfl (xcP (xok_aload_n dX9_suppresses_9 rfl) rfl (xcP (xok_getfield (ref := "WaysAtlasModel") (Or.inr ⟨rfl, by decide⟩) dX9_suppresses_10 (Or.inl ⟨q1983, (Or.inl rfl)⟩) xh1090) rfl (xcP (xok_iload_n dX9_suppresses_13 rfl) rfl (xcP (xok_iload_n dX9_suppresses_14 rfl) rfl (xcP (xok_iadd dX9_suppresses_15) rfl (xcP (xok_iaload dX9_suppresses_16) rfl (xcP (xok_bipush dX9_suppresses_17 rfl) rfl (xcP (xok_icmpne dX9_suppresses_19 (by decide)) rfl (xcP (xok_aload_n dX9_suppresses_22 rfl) rfl (xcP (xok_getfield (ref := "WaysAtlasModel") (Or.inr ⟨rfl, by decide⟩) dX9_suppresses_23 (Or.inl ⟨q1983, (Or.inl rfl)⟩) xh1090) rfl (xcP (xok_iload_n dX9_suppresses_26 rfl) rfl (xcP (xok_iload_n dX9_suppresses_27 rfl) rfl (xcP (xok_iadd dX9_suppresses_28) rfl (xcP (xok_iload_n dX9_suppresses_29 rfl) rfl (xcP (xok_iastore dX9_suppresses_30) rfl (xcR ⟨dX9_suppresses_31, rfl⟩))))))))))))))))))))
theorem okX9_suppresses_32 : XOkL xms rX9_suppresses bX9_suppresses_32 := xcP (xok_aload_n dX9_suppresses_32 rfl) rfl (xcP (xok_getfield (ref := "WaysAtlasModel") (Or.inr ⟨rfl, by decide⟩) dX9_suppresses_33 (Or.inl ⟨q1983, (Or.inl rfl)⟩) xh1090) rfl (xcP (xok_iload_n dX9_suppresses_36 rfl) rfl (xcP (xok_iload_n dX9_suppresses_37 rfl) rfl (xcP (xok_iadd dX9_suppresses_38) rfl (xcP (xok_iaload dX9_suppresses_39) rfl (xcP (xok_istore dX9_suppresses_40) rfl (xcP xok_fal rfl trivial)))))))
theorem okX9_suppresses_42 : XOkL xms rX9_suppresses bX9_suppresses_42 := xcP (xok_aload_n dX9_suppresses_42 rfl) rfl (xcP (xok_getfield (ref := "WaysAtlasModel") (Or.inr ⟨rfl, by decide⟩) dX9_suppresses_43 (Or.inl ⟨q1984, (Or.inl rfl)⟩) xh1091) rfl (xcP (xok_iload_n dX9_suppresses_46 rfl) rfl (xcP (xok_iload dX9_suppresses_47) rfl (xcP (xok_iadd dX9_suppresses_49) rfl (xcP (xok_iaload dX9_suppresses_50) rfl (xcP (xok_bipush dX9_suppresses_51 rfl) rfl (xcP (xok_icmpeq dX9_suppresses_53 (by decide)) rfl (xcP (xok_aload_n dX9_suppresses_56 rfl) rfl (xcP (xok_getfield (ref := "WaysAtlasModel") (Or.inr ⟨rfl, by decide⟩) dX9_suppresses_57 (Or.inl ⟨q1984, (Or.inl rfl)⟩) xh1091) rfl (xcP (xok_iload_n dX9_suppresses_60 rfl) rfl (xcP (xok_iload dX9_suppresses_61) rfl (xcP (xok_iadd dX9_suppresses_63) rfl (xcP (xok_iaload dX9_suppresses_64) rfl (xcP (xok_istore dX9_suppresses_65) rfl (xcP (xok_goto dX9_suppresses_67 (by decide)) rfl trivial)))))))))))))))
theorem okX9_suppresses_70 : XOkL xms rX9_suppresses bX9_suppresses_70 := xcP (xok_aload_n dX9_suppresses_70 rfl) rfl (xcP (xok_getfield (ref := "WaysAtlasModel") (Or.inr ⟨rfl, by decide⟩) dX9_suppresses_71 (Or.inl ⟨q1984, (Or.inl rfl)⟩) xh1091) rfl (xcP (xok_iload_n dX9_suppresses_74 rfl) rfl (xcP (xok_iload dX9_suppresses_75) rfl (xcP (xok_iadd dX9_suppresses_77) rfl (xcP (xok_iload_n dX9_suppresses_78 rfl) rfl (xcP (xok_iastore dX9_suppresses_79) rfl (xcR ⟨dX9_suppresses_80, rfl⟩)))))))
theorem okM_X9_suppresses : XOkM xms rX9_suppresses := xokM0 (List.forall_mem_cons.mpr ⟨⟨rfl, okX9_suppresses_0⟩, List.forall_mem_cons.mpr ⟨⟨rfl, okX9_suppresses_32⟩, List.forall_mem_cons.mpr ⟨⟨rfl, okX9_suppresses_42⟩, List.forall_mem_cons.mpr ⟨⟨rfl, okX9_suppresses_70⟩, fun _ h => nomatch h⟩⟩⟩⟩) (xokH0 rfl (fun _ _ => rfl)) (by decide +kernel) (by decide)
abbrev cX9_catchFor : ByteArray := prog_36_method_87_code
def dkwX9_catchFor_2 : List UInt8 := [182, 1, 210, 153, 0, 6, 21, 4, 172, 132, 3, 1, 167, 255, 199, 2, 172]
abbrev dktX9_catchFor_2 : List UInt8 := dkwX9_catchFor_2 ++ []
def dkwX9_catchFor_1 : List UInt8 := [96, 54, 4, 42, 180, 0, 75, 21, 4, 46, 27, 160, 0, 21, 42, 42, 180, 0, 78, 21, 4, 46, 28]
abbrev dktX9_catchFor_1 : List UInt8 := dkwX9_catchFor_1 ++ dktX9_catchFor_2
def dkwX9_catchFor_0 : List UInt8 := [3, 62, 29, 42, 180, 0, 84, 42, 180, 0, 235, 46, 162, 0, 50, 17, 0, 160, 42, 180, 0, 235, 104, 29]
abbrev dktX9_catchFor_0 : List UInt8 := dkwX9_catchFor_0 ++ dktX9_catchFor_1
theorem dksX9_catchFor_0 : cX9_catchFor.data.toList.drop 0 = dktX9_catchFor_0 := by decide +kernel
theorem dksX9_catchFor_1 : cX9_catchFor.data.toList.drop 24 = dktX9_catchFor_1 := dk_seg dksX9_catchFor_0 24 rfl rfl
theorem dksX9_catchFor_2 : cX9_catchFor.data.toList.drop 47 = dktX9_catchFor_2 := dk_seg dksX9_catchFor_1 23 rfl rfl
theorem dX9_catchFor_0 : decode cX9_catchFor 0 = .ok (.iconst 0, 1) := dk_3 (dk_at dksX9_catchFor_0 0 rfl rfl)
theorem dX9_catchFor_1 : decode cX9_catchFor 1 = .ok (.istore_n 3, 1) := dk_62 (dk_at dksX9_catchFor_0 1 rfl rfl)
theorem dX9_catchFor_2 : decode cX9_catchFor 2 = .ok (.iload_n 3, 1) := dk_29 (dk_at dksX9_catchFor_0 2 rfl rfl)
theorem dX9_catchFor_3 : decode cX9_catchFor 3 = .ok (.aload_n 0, 1) := dk_42 (dk_at dksX9_catchFor_0 3 rfl rfl)
theorem dX9_catchFor_4 : decode cX9_catchFor 4 = .ok (.getfield 84, 3) := dk_180 0 84 (dk_at dksX9_catchFor_0 4 rfl rfl)
theorem dX9_catchFor_7 : decode cX9_catchFor 7 = .ok (.aload_n 0, 1) := dk_42 (dk_at dksX9_catchFor_0 7 rfl rfl)
theorem dX9_catchFor_8 : decode cX9_catchFor 8 = .ok (.getfield 235, 3) := dk_180 0 235 (dk_at dksX9_catchFor_0 8 rfl rfl)
theorem dX9_catchFor_11 : decode cX9_catchFor 11 = .ok (.iaload, 1) := dk_46 (dk_at dksX9_catchFor_0 11 rfl rfl)
theorem dX9_catchFor_12 : decode cX9_catchFor 12 = .ok (.if_icmp .ge 50, 3) := dk_162 0 50 (dk_at dksX9_catchFor_0 12 rfl rfl)
theorem dX9_catchFor_15 : decode cX9_catchFor 15 = .ok (.sipush 160, 3) := dk_17 0 160 (dk_at dksX9_catchFor_0 15 rfl rfl)
theorem dX9_catchFor_18 : decode cX9_catchFor 18 = .ok (.aload_n 0, 1) := dk_42 (dk_at dksX9_catchFor_0 18 rfl rfl)
theorem dX9_catchFor_19 : decode cX9_catchFor 19 = .ok (.getfield 235, 3) := dk_180 0 235 (dk_at dksX9_catchFor_0 19 rfl rfl)
theorem dX9_catchFor_22 : decode cX9_catchFor 22 = .ok (.imul, 1) := dk_104 (dk_at dksX9_catchFor_0 22 rfl rfl)
theorem dX9_catchFor_23 : decode cX9_catchFor 23 = .ok (.iload_n 3, 1) := dk_29 (dk_at dksX9_catchFor_0 23 rfl rfl)
theorem dX9_catchFor_24 : decode cX9_catchFor 24 = .ok (.iadd, 1) := dk_96 (dk_at dksX9_catchFor_1 0 rfl rfl)
theorem dX9_catchFor_25 : decode cX9_catchFor 25 = .ok (.istore 4, 2) := dk_54 4 (dk_at dksX9_catchFor_1 1 rfl rfl)
theorem dX9_catchFor_27 : decode cX9_catchFor 27 = .ok (.aload_n 0, 1) := dk_42 (dk_at dksX9_catchFor_1 3 rfl rfl)
theorem dX9_catchFor_28 : decode cX9_catchFor 28 = .ok (.getfield 75, 3) := dk_180 0 75 (dk_at dksX9_catchFor_1 4 rfl rfl)
theorem dX9_catchFor_31 : decode cX9_catchFor 31 = .ok (.iload 4, 2) := dk_21 4 (dk_at dksX9_catchFor_1 7 rfl rfl)
theorem dX9_catchFor_33 : decode cX9_catchFor 33 = .ok (.iaload, 1) := dk_46 (dk_at dksX9_catchFor_1 9 rfl rfl)
theorem dX9_catchFor_34 : decode cX9_catchFor 34 = .ok (.iload_n 1, 1) := dk_27 (dk_at dksX9_catchFor_1 10 rfl rfl)
theorem dX9_catchFor_35 : decode cX9_catchFor 35 = .ok (.if_icmp .ne 21, 3) := dk_160 0 21 (dk_at dksX9_catchFor_1 11 rfl rfl)
theorem dX9_catchFor_38 : decode cX9_catchFor 38 = .ok (.aload_n 0, 1) := dk_42 (dk_at dksX9_catchFor_1 14 rfl rfl)
theorem dX9_catchFor_39 : decode cX9_catchFor 39 = .ok (.aload_n 0, 1) := dk_42 (dk_at dksX9_catchFor_1 15 rfl rfl)
theorem dX9_catchFor_40 : decode cX9_catchFor 40 = .ok (.getfield 78, 3) := dk_180 0 78 (dk_at dksX9_catchFor_1 16 rfl rfl)
theorem dX9_catchFor_43 : decode cX9_catchFor 43 = .ok (.iload 4, 2) := dk_21 4 (dk_at dksX9_catchFor_1 19 rfl rfl)
theorem dX9_catchFor_45 : decode cX9_catchFor 45 = .ok (.iaload, 1) := dk_46 (dk_at dksX9_catchFor_1 21 rfl rfl)
theorem dX9_catchFor_46 : decode cX9_catchFor 46 = .ok (.iload_n 2, 1) := dk_28 (dk_at dksX9_catchFor_1 22 rfl rfl)
theorem dX9_catchFor_47 : decode cX9_catchFor 47 = .ok (.invokevirtual 466, 3) := dk_182 1 210 (dk_at dksX9_catchFor_2 0 rfl rfl)
theorem dX9_catchFor_50 : decode cX9_catchFor 50 = .ok (.ifCond .eq 6, 3) := dk_153 0 6 (dk_at dksX9_catchFor_2 3 rfl rfl)
theorem dX9_catchFor_53 : decode cX9_catchFor 53 = .ok (.iload 4, 2) := dk_21 4 (dk_at dksX9_catchFor_2 6 rfl rfl)
theorem dX9_catchFor_55 : decode cX9_catchFor 55 = .ok (.ireturn, 1) := dk_172 (dk_at dksX9_catchFor_2 8 rfl rfl)
theorem dX9_catchFor_56 : decode cX9_catchFor 56 = .ok (.iinc 3 1, 3) := dk_132 3 1 (dk_at dksX9_catchFor_2 9 rfl rfl)
theorem dX9_catchFor_59 : decode cX9_catchFor 59 = .ok (.goto (-57), 3) := dk_167 255 199 (dk_at dksX9_catchFor_2 12 rfl rfl)
theorem dX9_catchFor_62 : decode cX9_catchFor 62 = .ok (.iconst (-1), 1) := dk_2 (dk_at dksX9_catchFor_2 15 rfl rfl)
theorem dX9_catchFor_63 : decode cX9_catchFor 63 = .ok (.ireturn, 1) := dk_172 (dk_at dksX9_catchFor_2 16 rfl rfl)
theorem okX9_catchFor_0 : XOkL xms rX9_catchFor bX9_catchFor_0 := xcP (xok_iconst dX9_catchFor_0 rfl) rfl (xcP (xok_istore_n dX9_catchFor_1 rfl) rfl (xcP xok_fal rfl trivial))
theorem okX9_catchFor_2 : XOkL xms rX9_catchFor bX9_catchFor_2 := xcP (xok_iload_n dX9_catchFor_2 rfl) rfl (xcP (xok_aload_n dX9_catchFor_3 rfl) rfl (xcP (xok_getfield (ref := "WaysAtlasModel") (Or.inr ⟨rfl, by decide⟩) dX9_catchFor_4 (Or.inl ⟨q1948, (Or.inl rfl)⟩) xh1067) rfl (xcP (xok_aload_n dX9_catchFor_7 rfl) rfl (xcP (xok_getfield (ref := "WaysAtlasModel") (Or.inl ⟨rfl, by decide⟩) dX9_catchFor_8 (Or.inl ⟨q1937, (Or.inl rfl)⟩) xh44) rfl (xcP (xok_iaload dX9_catchFor_11) rfl (xcP (xok_icmpge dX9_catchFor_12 (by decide)) rfl (xcP (xok_sipush dX9_catchFor_15 rfl) rfl (xcP (xok_aload_n dX9_catchFor_18 rfl) rfl (xcP (xok_getfield (ref := "WaysAtlasModel") (Or.inl ⟨rfl, by decide⟩) dX9_catchFor_19 (Or.inl ⟨q1937, (Or.inl rfl)⟩) xh44) rfl (xcP (xok_imul dX9_catchFor_22) rfl (xcP (xok_iload_n dX9_catchFor_23 rfl) rfl (xcP (xok_iadd dX9_catchFor_24) rfl (xcP (xok_istore dX9_catchFor_25) rfl (xcP (xok_aload_n dX9_catchFor_27 rfl) rfl (xcP (xok_getfield (ref := "WaysAtlasModel") (Or.inr ⟨rfl, by decide⟩) dX9_catchFor_28 (Or.inl ⟨q1945, (Or.inl rfl)⟩) xh1064) rfl (xcP (xok_iload dX9_catchFor_31) rfl (xcP (xok_iaload dX9_catchFor_33) rfl (xcP (xok_iload_n dX9_catchFor_34 rfl) rfl (xcP (xok_icmpne dX9_catchFor_35 (by decide)) rfl (xcP (xok_aload_n dX9_catchFor_38 rfl) rfl (xcP (xok_aload_n dX9_catchFor_39 rfl) rfl (xcP (xok_getfield (ref := "WaysAtlasModel") (Or.inr ⟨rfl, by decide⟩) dX9_catchFor_40 (Or.inl ⟨q1946, (Or.inl rfl)⟩) xh1065) rfl (xcP (xok_iload dX9_catchFor_43) rfl (xcP (xok_iaload dX9_catchFor_45) rfl (xcP (xok_iload_n dX9_catchFor_46 rfl) rfl (xcC0 (xokc_list (List.forall_mem_cons.mpr ⟨xokc_V (r := (RX9, TX9, 96)) xm156 (List.mem_of_getElem? (i := 9) rfl) (by decide) rfl dX9_catchFor_47 q2453 q2455 qs101 q149 q2456 (by decide +kernel), fun _ h => nomatch h⟩)) rfl (xcP (xok_ifeq dX9_catchFor_50 (by decide)) rfl (xcP (xok_iload dX9_catchFor_53) rfl (xcR ⟨dX9_catchFor_55, rfl⟩)))))))))))))))))))))))))))))
theorem okX9_catchFor_56 : XOkL xms rX9_catchFor bX9_catchFor_56 := xcP (xok_iinc dX9_catchFor_56 rfl) rfl (xcP (xok_goto dX9_catchFor_59 (by decide)) rfl trivial)
theorem okX9_catchFor_62 : XOkL xms rX9_catchFor bX9_catchFor_62 := xcP (xok_iconst dX9_catchFor_62 rfl) rfl (xcR ⟨dX9_catchFor_63, rfl⟩)
theorem okM_X9_catchFor : XOkM xms rX9_catchFor := xokM0 (List.forall_mem_cons.mpr ⟨⟨rfl, okX9_catchFor_0⟩, List.forall_mem_cons.mpr ⟨⟨rfl, okX9_catchFor_2⟩, List.forall_mem_cons.mpr ⟨⟨rfl, okX9_catchFor_56⟩, List.forall_mem_cons.mpr ⟨⟨rfl, okX9_catchFor_62⟩, fun _ h => nomatch h⟩⟩⟩⟩) (xokH0 rfl (fun _ _ => rfl)) (by decide +kernel) (by decide)
abbrev cX9_finishes : ByteArray := prog_36_method_88_code
def dkwX9_finishes_3 : List UInt8 := [42, 180, 0, 187, 27, 46, 182, 2, 55, 177]
abbrev dktX9_finishes_3 : List UInt8 := dkwX9_finishes_3 ++ []
def dkwX9_finishes_2 : List UInt8 := [28, 182, 2, 24, 167, 0, 29, 42, 89, 180, 1, 255, 4, 100, 181, 1, 255, 42, 42, 180, 0, 184, 27, 46]
abbrev dktX9_finishes_2 : List UInt8 := dkwX9_finishes_2 ++ dktX9_finishes_3
def dkwX9_finishes_1 : List UInt8 := [42, 180, 0, 172, 16, 80, 42, 180, 1, 219, 104, 42, 180, 0, 178, 27, 46, 96, 92, 46, 4, 96, 79, 42]
abbrev dktX9_finishes_1 : List UInt8 := dkwX9_finishes_1 ++ dktX9_finishes_2
def dkwX9_finishes_0 : List UInt8 := [42, 42, 180, 0, 178, 27, 46, 16, 9, 182, 1, 200, 61, 28, 155, 0, 41, 42, 180, 0, 181, 27, 6, 79]
abbrev dktX9_finishes_0 : List UInt8 := dkwX9_finishes_0 ++ dktX9_finishes_1
theorem dksX9_finishes_0 : cX9_finishes.data.toList.drop 0 = dktX9_finishes_0 := by decide +kernel
theorem dksX9_finishes_1 : cX9_finishes.data.toList.drop 24 = dktX9_finishes_1 := dk_seg dksX9_finishes_0 24 rfl rfl
theorem dksX9_finishes_2 : cX9_finishes.data.toList.drop 48 = dktX9_finishes_2 := dk_seg dksX9_finishes_1 24 rfl rfl
theorem dksX9_finishes_3 : cX9_finishes.data.toList.drop 72 = dktX9_finishes_3 := dk_seg dksX9_finishes_2 24 rfl rfl
theorem dX9_finishes_0 : decode cX9_finishes 0 = .ok (.aload_n 0, 1) := dk_42 (dk_at dksX9_finishes_0 0 rfl rfl)
theorem dX9_finishes_1 : decode cX9_finishes 1 = .ok (.aload_n 0, 1) := dk_42 (dk_at dksX9_finishes_0 1 rfl rfl)
theorem dX9_finishes_2 : decode cX9_finishes 2 = .ok (.getfield 178, 3) := dk_180 0 178 (dk_at dksX9_finishes_0 2 rfl rfl)
theorem dX9_finishes_5 : decode cX9_finishes 5 = .ok (.iload_n 1, 1) := dk_27 (dk_at dksX9_finishes_0 5 rfl rfl)
theorem dX9_finishes_6 : decode cX9_finishes 6 = .ok (.iaload, 1) := dk_46 (dk_at dksX9_finishes_0 6 rfl rfl)
theorem dX9_finishes_7 : decode cX9_finishes 7 = .ok (.bipush 9, 2) := dk_16 9 (dk_at dksX9_finishes_0 7 rfl rfl)
theorem dX9_finishes_9 : decode cX9_finishes 9 = .ok (.invokevirtual 456, 3) := dk_182 1 200 (dk_at dksX9_finishes_0 9 rfl rfl)
theorem dX9_finishes_12 : decode cX9_finishes 12 = .ok (.istore_n 2, 1) := dk_61 (dk_at dksX9_finishes_0 12 rfl rfl)
theorem dX9_finishes_13 : decode cX9_finishes 13 = .ok (.iload_n 2, 1) := dk_28 (dk_at dksX9_finishes_0 13 rfl rfl)
theorem dX9_finishes_14 : decode cX9_finishes 14 = .ok (.ifCond .lt 41, 3) := dk_155 0 41 (dk_at dksX9_finishes_0 14 rfl rfl)
theorem dX9_finishes_17 : decode cX9_finishes 17 = .ok (.aload_n 0, 1) := dk_42 (dk_at dksX9_finishes_0 17 rfl rfl)
theorem dX9_finishes_18 : decode cX9_finishes 18 = .ok (.getfield 181, 3) := dk_180 0 181 (dk_at dksX9_finishes_0 18 rfl rfl)
theorem dX9_finishes_21 : decode cX9_finishes 21 = .ok (.iload_n 1, 1) := dk_27 (dk_at dksX9_finishes_0 21 rfl rfl)
theorem dX9_finishes_22 : decode cX9_finishes 22 = .ok (.iconst 3, 1) := dk_6 (dk_at dksX9_finishes_0 22 rfl rfl)
theorem dX9_finishes_23 : decode cX9_finishes 23 = .ok (.iastore, 1) := dk_79 (dk_at dksX9_finishes_0 23 rfl rfl)
theorem dX9_finishes_24 : decode cX9_finishes 24 = .ok (.aload_n 0, 1) := dk_42 (dk_at dksX9_finishes_1 0 rfl rfl)
theorem dX9_finishes_25 : decode cX9_finishes 25 = .ok (.getfield 172, 3) := dk_180 0 172 (dk_at dksX9_finishes_1 1 rfl rfl)
theorem dX9_finishes_28 : decode cX9_finishes 28 = .ok (.bipush 80, 2) := dk_16 80 (dk_at dksX9_finishes_1 4 rfl rfl)
theorem dX9_finishes_30 : decode cX9_finishes 30 = .ok (.aload_n 0, 1) := dk_42 (dk_at dksX9_finishes_1 6 rfl rfl)
theorem dX9_finishes_31 : decode cX9_finishes 31 = .ok (.getfield 475, 3) := dk_180 1 219 (dk_at dksX9_finishes_1 7 rfl rfl)
theorem dX9_finishes_34 : decode cX9_finishes 34 = .ok (.imul, 1) := dk_104 (dk_at dksX9_finishes_1 10 rfl rfl)
theorem dX9_finishes_35 : decode cX9_finishes 35 = .ok (.aload_n 0, 1) := dk_42 (dk_at dksX9_finishes_1 11 rfl rfl)
theorem dX9_finishes_36 : decode cX9_finishes 36 = .ok (.getfield 178, 3) := dk_180 0 178 (dk_at dksX9_finishes_1 12 rfl rfl)
theorem dX9_finishes_39 : decode cX9_finishes 39 = .ok (.iload_n 1, 1) := dk_27 (dk_at dksX9_finishes_1 15 rfl rfl)
theorem dX9_finishes_40 : decode cX9_finishes 40 = .ok (.iaload, 1) := dk_46 (dk_at dksX9_finishes_1 16 rfl rfl)
theorem dX9_finishes_41 : decode cX9_finishes 41 = .ok (.iadd, 1) := dk_96 (dk_at dksX9_finishes_1 17 rfl rfl)
theorem dX9_finishes_42 : decode cX9_finishes 42 = .ok (.dup2, 1) := dk_92 (dk_at dksX9_finishes_1 18 rfl rfl)
theorem dX9_finishes_43 : decode cX9_finishes 43 = .ok (.iaload, 1) := dk_46 (dk_at dksX9_finishes_1 19 rfl rfl)
theorem dX9_finishes_44 : decode cX9_finishes 44 = .ok (.iconst 1, 1) := dk_4 (dk_at dksX9_finishes_1 20 rfl rfl)
theorem dX9_finishes_45 : decode cX9_finishes 45 = .ok (.iadd, 1) := dk_96 (dk_at dksX9_finishes_1 21 rfl rfl)
theorem dX9_finishes_46 : decode cX9_finishes 46 = .ok (.iastore, 1) := dk_79 (dk_at dksX9_finishes_1 22 rfl rfl)
theorem dX9_finishes_47 : decode cX9_finishes 47 = .ok (.aload_n 0, 1) := dk_42 (dk_at dksX9_finishes_1 23 rfl rfl)
theorem dX9_finishes_48 : decode cX9_finishes 48 = .ok (.iload_n 2, 1) := dk_28 (dk_at dksX9_finishes_2 0 rfl rfl)
theorem dX9_finishes_49 : decode cX9_finishes 49 = .ok (.invokevirtual 536, 3) := dk_182 2 24 (dk_at dksX9_finishes_2 1 rfl rfl)
theorem dX9_finishes_52 : decode cX9_finishes 52 = .ok (.goto 29, 3) := dk_167 0 29 (dk_at dksX9_finishes_2 4 rfl rfl)
theorem dX9_finishes_55 : decode cX9_finishes 55 = .ok (.aload_n 0, 1) := dk_42 (dk_at dksX9_finishes_2 7 rfl rfl)
theorem dX9_finishes_56 : decode cX9_finishes 56 = .ok (.dup, 1) := dk_89 (dk_at dksX9_finishes_2 8 rfl rfl)
theorem dX9_finishes_57 : decode cX9_finishes 57 = .ok (.getfield 511, 3) := dk_180 1 255 (dk_at dksX9_finishes_2 9 rfl rfl)
theorem dX9_finishes_60 : decode cX9_finishes 60 = .ok (.iconst 1, 1) := dk_4 (dk_at dksX9_finishes_2 12 rfl rfl)
theorem dX9_finishes_61 : decode cX9_finishes 61 = .ok (.isub, 1) := dk_100 (dk_at dksX9_finishes_2 13 rfl rfl)
theorem dX9_finishes_62 : decode cX9_finishes 62 = .ok (.putfield 511, 3) := dk_181 1 255 (dk_at dksX9_finishes_2 14 rfl rfl)
theorem dX9_finishes_65 : decode cX9_finishes 65 = .ok (.aload_n 0, 1) := dk_42 (dk_at dksX9_finishes_2 17 rfl rfl)
theorem dX9_finishes_66 : decode cX9_finishes 66 = .ok (.aload_n 0, 1) := dk_42 (dk_at dksX9_finishes_2 18 rfl rfl)
theorem dX9_finishes_67 : decode cX9_finishes 67 = .ok (.getfield 184, 3) := dk_180 0 184 (dk_at dksX9_finishes_2 19 rfl rfl)
theorem dX9_finishes_70 : decode cX9_finishes 70 = .ok (.iload_n 1, 1) := dk_27 (dk_at dksX9_finishes_2 22 rfl rfl)
theorem dX9_finishes_71 : decode cX9_finishes 71 = .ok (.iaload, 1) := dk_46 (dk_at dksX9_finishes_2 23 rfl rfl)
theorem dX9_finishes_72 : decode cX9_finishes 72 = .ok (.aload_n 0, 1) := dk_42 (dk_at dksX9_finishes_3 0 rfl rfl)
theorem dX9_finishes_73 : decode cX9_finishes 73 = .ok (.getfield 187, 3) := dk_180 0 187 (dk_at dksX9_finishes_3 1 rfl rfl)
theorem dX9_finishes_76 : decode cX9_finishes 76 = .ok (.iload_n 1, 1) := dk_27 (dk_at dksX9_finishes_3 4 rfl rfl)
theorem dX9_finishes_77 : decode cX9_finishes 77 = .ok (.iaload, 1) := dk_46 (dk_at dksX9_finishes_3 5 rfl rfl)
theorem dX9_finishes_78 : decode cX9_finishes 78 = .ok (.invokevirtual 567, 3) := dk_182 2 55 (dk_at dksX9_finishes_3 6 rfl rfl)
theorem dX9_finishes_81 : decode cX9_finishes 81 = .ok (.return_, 1) := dk_177 (dk_at dksX9_finishes_3 9 rfl rfl)
theorem okX9_finishes_0 : XOkL xms rX9_finishes bX9_finishes_0 := xcP (xok_aload_n dX9_finishes_0 rfl) rfl (xcP (xok_aload_n dX9_finishes_1 rfl) rfl (xcP (xok_getfield (ref := "WaysAtlasModel") (Or.inr ⟨rfl, by decide⟩) dX9_finishes_2 (Or.inl ⟨q1996, (Or.inl rfl)⟩) xh1098) rfl (xcP (xok_iload_n dX9_finishes_5 rfl) rfl (xcP (xok_iaload dX9_finishes_6) rfl (xcP (xok_bipush dX9_finishes_7 rfl) rfl (xcC0 (xokc_list (List.forall_mem_cons.mpr ⟨xokc_V (r := (RX9, TX9, 96)) xm153 (List.mem_of_getElem? (i := 9) rfl) (by decide) rfl dX9_finishes_9 q2441 q2443 qs100 q149 q2444 (by decide +kernel), fun _ h => nomatch h⟩)) rfl (xcP (xok_istore_n dX9_finishes_12 rfl) rfl (xcP (xok_iload_n dX9_finishes_13 rfl) rfl (xcP (xok_iflt dX9_finishes_14 (by decide)) rfl (xcP (xok_aload_n dX9_finishes_17 rfl) rfl (xcP (xok_getfield (ref := "WaysAtlasModel") (Or.inr ⟨rfl, by decide⟩) dX9_finishes_18 (Or.inl ⟨q1997, (Or.inl rfl)⟩) xh1099) rfl (xcP (xok_iload_n dX9_finishes_21 rfl) rfl (xcP (xok_iconst dX9_finishes_22 rfl) rfl (xcP (xok_iastore dX9_finishes_23) rfl (xcP (xok_aload_n dX9_finishes_24 rfl) rfl (xcP (xok_getfield (ref := "WaysAtlasModel") (Or.inr ⟨rfl, by decide⟩) dX9_finishes_25 (Or.inl ⟨q1989, (Or.inl rfl)⟩) xh1096) rfl (xcP (xok_bipush dX9_finishes_28 rfl) rfl (xcP (xok_aload_n dX9_finishes_30 rfl) rfl (xcP (xok_getfield (ref := "WaysAtlasModel") (Or.inl ⟨rfl, by decide⟩) dX9_finishes_31 (Or.inl ⟨q1978, (Or.inl rfl)⟩) xh58) rfl (xcP (xok_imul dX9_finishes_34) rfl (xcP (xok_aload_n dX9_finishes_35 rfl) rfl (xcP (xok_getfield (ref := "WaysAtlasModel") (Or.inr ⟨rfl, by decide⟩) dX9_finishes_36 (Or.inl ⟨q1996, (Or.inl rfl)⟩) xh1098) rfl (xcP (xok_iload_n dX9_finishes_39 rfl) rfl (xcP (xok_iaload dX9_finishes_40) rfl (xcP (xok_iadd dX9_finishes_41) rfl (xcP (xok_dup2 dX9_finishes_42) rfl (xcP (xok_iaload dX9_finishes_43) rfl (xcP (xok_iconst dX9_finishes_44 rfl) rfl (xcP (xok_iadd dX9_finishes_45) rfl (xcP (xok_iastore dX9_finishes_46) rfl (xcP (xok_aload_n dX9_finishes_47 rfl) rfl (xcP (xok_iload_n dX9_finishes_48 rfl) rfl (xcC0 (xokc_list (List.forall_mem_cons.mpr ⟨xokc_V (r := (RX9, TX9, 96)) xm163 (List.mem_of_getElem? (i := 9) rfl) (by decide) rfl dX9_finishes_49 q2481 q2483 qs107 q149 q2484 (by decide +kernel), fun _ h => nomatch h⟩)) rfl (xcP (xok_goto dX9_finishes_52 (by decide)) rfl trivial))))))))))))))))))))))))))))))))))
theorem okX9_finishes_55 : XOkL xms rX9_finishes bX9_finishes_55 := xcP (xok_aload_n dX9_finishes_55 rfl) rfl (xcP (xok_dup dX9_finishes_56) rfl (xcP (xok_getfield (ref := "WaysAtlasModel") (Or.inl ⟨rfl, by decide⟩) dX9_finishes_57 (Or.inl ⟨q1994, (Or.inl rfl)⟩) xh63) rfl (xcP (xok_iconst dX9_finishes_60 rfl) rfl (xcP (xok_isub dX9_finishes_61) rfl (xcP (xok_putfield (ref := "WaysAtlasModel") (Or.inl ⟨rfl, by decide, rfl⟩) dX9_finishes_62 (Or.inl ⟨q1994, (Or.inl rfl)⟩) (Or.inl rfl) xh63) rfl (xcP (xok_aload_n dX9_finishes_65 rfl) rfl (xcP (xok_aload_n dX9_finishes_66 rfl) rfl (xcP (xok_getfield (ref := "WaysAtlasModel") (Or.inr ⟨rfl, by decide⟩) dX9_finishes_67 (Or.inl ⟨q1998, (Or.inl rfl)⟩) xh1100) rfl (xcP (xok_iload_n dX9_finishes_70 rfl) rfl (xcP (xok_iaload dX9_finishes_71) rfl (xcP (xok_aload_n dX9_finishes_72 rfl) rfl (xcP (xok_getfield (ref := "WaysAtlasModel") (Or.inr ⟨rfl, by decide⟩) dX9_finishes_73 (Or.inl ⟨q1999, (Or.inl rfl)⟩) xh1101) rfl (xcP (xok_iload_n dX9_finishes_76 rfl) rfl (xcP (xok_iaload dX9_finishes_77) rfl (xcC0 (xokc_list (List.forall_mem_cons.mpr ⟨xokc_V (r := (RX9, TX9, 96)) xm178 (List.mem_of_getElem? (i := 9) rfl) (by decide) rfl dX9_finishes_78 q2541 q2543 qs122 q149 q2544 (by decide +kernel), fun _ h => nomatch h⟩)) rfl (xcP xok_fal rfl trivial))))))))))))))))
theorem okX9_finishes_81 : XOkL xms rX9_finishes bX9_finishes_81 := xcR ⟨dX9_finishes_81, rfl⟩
theorem okM_X9_finishes : XOkM xms rX9_finishes := xokM0 (List.forall_mem_cons.mpr ⟨⟨rfl, okX9_finishes_0⟩, List.forall_mem_cons.mpr ⟨⟨rfl, okX9_finishes_55⟩, List.forall_mem_cons.mpr ⟨⟨rfl, okX9_finishes_81⟩, fun _ h => nomatch h⟩⟩⟩) (xokH0 rfl (fun _ _ => rfl)) (by decide +kernel) (by decide)
abbrev cX9_comesToMethod : ByteArray := prog_36_method_91_code
def dkwX9_comesToMethod_7 : List UInt8 := [181, 1, 246, 177]
abbrev dktX9_comesToMethod_7 : List UInt8 := dkwX9_comesToMethod_7 ++ []
def dkwX9_comesToMethod_6 : List UInt8 := [155, 0, 20, 42, 180, 0, 199, 16, 6, 42, 180, 1, 240, 4, 100, 104, 28, 96, 29, 79, 42, 3]
abbrev dktX9_comesToMethod_6 : List UInt8 := dkwX9_comesToMethod_6 ++ dktX9_comesToMethod_7
def dkwX9_comesToMethod_5 : List UInt8 := [21, 4, 153, 0, 10, 42, 180, 1, 252, 167, 0, 5, 16, 247, 79, 167, 0, 34, 21, 4, 154, 0, 29, 28]
abbrev dktX9_comesToMethod_5 : List UInt8 := dkwX9_comesToMethod_5 ++ dktX9_comesToMethod_6
def dkwX9_comesToMethod_4 : List UInt8 := [21, 4, 153, 0, 7, 3, 167, 0, 4, 29, 79, 42, 180, 0, 142, 16, 10, 42, 180, 1, 219, 104, 5, 96]
abbrev dktX9_comesToMethod_4 : List UInt8 := dkwX9_comesToMethod_4 ++ dktX9_comesToMethod_5
def dkwX9_comesToMethod_3 : List UInt8 := [153, 0, 7, 4, 167, 0, 4, 3, 181, 1, 216, 42, 180, 0, 142, 16, 10, 42, 180, 1, 219, 104, 4, 96]
abbrev dktX9_comesToMethod_3 : List UInt8 := dkwX9_comesToMethod_3 ++ dktX9_comesToMethod_4
def dkwX9_comesToMethod_2 : List UInt8 := [181, 1, 255, 42, 89, 180, 1, 240, 4, 100, 181, 1, 240, 42, 180, 1, 240, 154, 0, 72, 42, 21, 4]
abbrev dktX9_comesToMethod_2 : List UInt8 := dkwX9_comesToMethod_2 ++ dktX9_comesToMethod_3
def dkwX9_comesToMethod_1 : List UInt8 := [42, 180, 1, 246, 7, 160, 0, 7, 4, 167, 0, 4, 3, 54, 4, 42, 89, 180, 1, 255, 4, 100]
abbrev dktX9_comesToMethod_1 : List UInt8 := dkwX9_comesToMethod_1 ++ dktX9_comesToMethod_2
def dkwX9_comesToMethod_0 : List UInt8 := [42, 180, 0, 178, 27, 46, 61, 42, 180, 1, 246, 4, 160, 0, 10, 42, 180, 1, 252, 167, 0, 4, 3, 62]
abbrev dktX9_comesToMethod_0 : List UInt8 := dkwX9_comesToMethod_0 ++ dktX9_comesToMethod_1
theorem dksX9_comesToMethod_0 : cX9_comesToMethod.data.toList.drop 0 = dktX9_comesToMethod_0 := by decide +kernel
theorem dksX9_comesToMethod_1 : cX9_comesToMethod.data.toList.drop 24 = dktX9_comesToMethod_1 := dk_seg dksX9_comesToMethod_0 24 rfl rfl
theorem dksX9_comesToMethod_2 : cX9_comesToMethod.data.toList.drop 46 = dktX9_comesToMethod_2 := dk_seg dksX9_comesToMethod_1 22 rfl rfl
theorem dksX9_comesToMethod_3 : cX9_comesToMethod.data.toList.drop 69 = dktX9_comesToMethod_3 := dk_seg dksX9_comesToMethod_2 23 rfl rfl
theorem dksX9_comesToMethod_4 : cX9_comesToMethod.data.toList.drop 93 = dktX9_comesToMethod_4 := dk_seg dksX9_comesToMethod_3 24 rfl rfl
theorem dksX9_comesToMethod_5 : cX9_comesToMethod.data.toList.drop 117 = dktX9_comesToMethod_5 := dk_seg dksX9_comesToMethod_4 24 rfl rfl
theorem dksX9_comesToMethod_6 : cX9_comesToMethod.data.toList.drop 141 = dktX9_comesToMethod_6 := dk_seg dksX9_comesToMethod_5 24 rfl rfl
theorem dksX9_comesToMethod_7 : cX9_comesToMethod.data.toList.drop 163 = dktX9_comesToMethod_7 := dk_seg dksX9_comesToMethod_6 22 rfl rfl
theorem dX9_comesToMethod_0 : decode cX9_comesToMethod 0 = .ok (.aload_n 0, 1) := dk_42 (dk_at dksX9_comesToMethod_0 0 rfl rfl)
theorem dX9_comesToMethod_1 : decode cX9_comesToMethod 1 = .ok (.getfield 178, 3) := dk_180 0 178 (dk_at dksX9_comesToMethod_0 1 rfl rfl)
theorem dX9_comesToMethod_4 : decode cX9_comesToMethod 4 = .ok (.iload_n 1, 1) := dk_27 (dk_at dksX9_comesToMethod_0 4 rfl rfl)
theorem dX9_comesToMethod_5 : decode cX9_comesToMethod 5 = .ok (.iaload, 1) := dk_46 (dk_at dksX9_comesToMethod_0 5 rfl rfl)
theorem dX9_comesToMethod_6 : decode cX9_comesToMethod 6 = .ok (.istore_n 2, 1) := dk_61 (dk_at dksX9_comesToMethod_0 6 rfl rfl)
theorem dX9_comesToMethod_7 : decode cX9_comesToMethod 7 = .ok (.aload_n 0, 1) := dk_42 (dk_at dksX9_comesToMethod_0 7 rfl rfl)
theorem dX9_comesToMethod_8 : decode cX9_comesToMethod 8 = .ok (.getfield 502, 3) := dk_180 1 246 (dk_at dksX9_comesToMethod_0 8 rfl rfl)
theorem dX9_comesToMethod_11 : decode cX9_comesToMethod 11 = .ok (.iconst 1, 1) := dk_4 (dk_at dksX9_comesToMethod_0 11 rfl rfl)
theorem dX9_comesToMethod_12 : decode cX9_comesToMethod 12 = .ok (.if_icmp .ne 10, 3) := dk_160 0 10 (dk_at dksX9_comesToMethod_0 12 rfl rfl)
theorem dX9_comesToMethod_15 : decode cX9_comesToMethod 15 = .ok (.aload_n 0, 1) := dk_42 (dk_at dksX9_comesToMethod_0 15 rfl rfl)
theorem dX9_comesToMethod_16 : decode cX9_comesToMethod 16 = .ok (.getfield 508, 3) := dk_180 1 252 (dk_at dksX9_comesToMethod_0 16 rfl rfl)
theorem dX9_comesToMethod_19 : decode cX9_comesToMethod 19 = .ok (.goto 4, 3) := dk_167 0 4 (dk_at dksX9_comesToMethod_0 19 rfl rfl)
theorem dX9_comesToMethod_22 : decode cX9_comesToMethod 22 = .ok (.iconst 0, 1) := dk_3 (dk_at dksX9_comesToMethod_0 22 rfl rfl)
theorem dX9_comesToMethod_23 : decode cX9_comesToMethod 23 = .ok (.istore_n 3, 1) := dk_62 (dk_at dksX9_comesToMethod_0 23 rfl rfl)
theorem dX9_comesToMethod_24 : decode cX9_comesToMethod 24 = .ok (.aload_n 0, 1) := dk_42 (dk_at dksX9_comesToMethod_1 0 rfl rfl)
theorem dX9_comesToMethod_25 : decode cX9_comesToMethod 25 = .ok (.getfield 502, 3) := dk_180 1 246 (dk_at dksX9_comesToMethod_1 1 rfl rfl)
theorem dX9_comesToMethod_28 : decode cX9_comesToMethod 28 = .ok (.iconst 4, 1) := dk_7 (dk_at dksX9_comesToMethod_1 4 rfl rfl)
theorem dX9_comesToMethod_29 : decode cX9_comesToMethod 29 = .ok (.if_icmp .ne 7, 3) := dk_160 0 7 (dk_at dksX9_comesToMethod_1 5 rfl rfl)
theorem dX9_comesToMethod_32 : decode cX9_comesToMethod 32 = .ok (.iconst 1, 1) := dk_4 (dk_at dksX9_comesToMethod_1 8 rfl rfl)
theorem dX9_comesToMethod_33 : decode cX9_comesToMethod 33 = .ok (.goto 4, 3) := dk_167 0 4 (dk_at dksX9_comesToMethod_1 9 rfl rfl)
theorem dX9_comesToMethod_36 : decode cX9_comesToMethod 36 = .ok (.iconst 0, 1) := dk_3 (dk_at dksX9_comesToMethod_1 12 rfl rfl)
theorem dX9_comesToMethod_37 : decode cX9_comesToMethod 37 = .ok (.istore 4, 2) := dk_54 4 (dk_at dksX9_comesToMethod_1 13 rfl rfl)
theorem dX9_comesToMethod_39 : decode cX9_comesToMethod 39 = .ok (.aload_n 0, 1) := dk_42 (dk_at dksX9_comesToMethod_1 15 rfl rfl)
theorem dX9_comesToMethod_40 : decode cX9_comesToMethod 40 = .ok (.dup, 1) := dk_89 (dk_at dksX9_comesToMethod_1 16 rfl rfl)
theorem dX9_comesToMethod_41 : decode cX9_comesToMethod 41 = .ok (.getfield 511, 3) := dk_180 1 255 (dk_at dksX9_comesToMethod_1 17 rfl rfl)
theorem dX9_comesToMethod_44 : decode cX9_comesToMethod 44 = .ok (.iconst 1, 1) := dk_4 (dk_at dksX9_comesToMethod_1 20 rfl rfl)
theorem dX9_comesToMethod_45 : decode cX9_comesToMethod 45 = .ok (.isub, 1) := dk_100 (dk_at dksX9_comesToMethod_1 21 rfl rfl)
theorem dX9_comesToMethod_46 : decode cX9_comesToMethod 46 = .ok (.putfield 511, 3) := dk_181 1 255 (dk_at dksX9_comesToMethod_2 0 rfl rfl)
theorem dX9_comesToMethod_49 : decode cX9_comesToMethod 49 = .ok (.aload_n 0, 1) := dk_42 (dk_at dksX9_comesToMethod_2 3 rfl rfl)
theorem dX9_comesToMethod_50 : decode cX9_comesToMethod 50 = .ok (.dup, 1) := dk_89 (dk_at dksX9_comesToMethod_2 4 rfl rfl)
theorem dX9_comesToMethod_51 : decode cX9_comesToMethod 51 = .ok (.getfield 496, 3) := dk_180 1 240 (dk_at dksX9_comesToMethod_2 5 rfl rfl)
theorem dX9_comesToMethod_54 : decode cX9_comesToMethod 54 = .ok (.iconst 1, 1) := dk_4 (dk_at dksX9_comesToMethod_2 8 rfl rfl)
theorem dX9_comesToMethod_55 : decode cX9_comesToMethod 55 = .ok (.isub, 1) := dk_100 (dk_at dksX9_comesToMethod_2 9 rfl rfl)
theorem dX9_comesToMethod_56 : decode cX9_comesToMethod 56 = .ok (.putfield 496, 3) := dk_181 1 240 (dk_at dksX9_comesToMethod_2 10 rfl rfl)
theorem dX9_comesToMethod_59 : decode cX9_comesToMethod 59 = .ok (.aload_n 0, 1) := dk_42 (dk_at dksX9_comesToMethod_2 13 rfl rfl)
theorem dX9_comesToMethod_60 : decode cX9_comesToMethod 60 = .ok (.getfield 496, 3) := dk_180 1 240 (dk_at dksX9_comesToMethod_2 14 rfl rfl)
theorem dX9_comesToMethod_63 : decode cX9_comesToMethod 63 = .ok (.ifCond .ne 72, 3) := dk_154 0 72 (dk_at dksX9_comesToMethod_2 17 rfl rfl)
theorem dX9_comesToMethod_66 : decode cX9_comesToMethod 66 = .ok (.aload_n 0, 1) := dk_42 (dk_at dksX9_comesToMethod_2 20 rfl rfl)
theorem dX9_comesToMethod_67 : decode cX9_comesToMethod 67 = .ok (.iload 4, 2) := dk_21 4 (dk_at dksX9_comesToMethod_2 21 rfl rfl)
theorem dX9_comesToMethod_69 : decode cX9_comesToMethod 69 = .ok (.ifCond .eq 7, 3) := dk_153 0 7 (dk_at dksX9_comesToMethod_3 0 rfl rfl)
theorem dX9_comesToMethod_72 : decode cX9_comesToMethod 72 = .ok (.iconst 1, 1) := dk_4 (dk_at dksX9_comesToMethod_3 3 rfl rfl)
theorem dX9_comesToMethod_73 : decode cX9_comesToMethod 73 = .ok (.goto 4, 3) := dk_167 0 4 (dk_at dksX9_comesToMethod_3 4 rfl rfl)
theorem dX9_comesToMethod_76 : decode cX9_comesToMethod 76 = .ok (.iconst 0, 1) := dk_3 (dk_at dksX9_comesToMethod_3 7 rfl rfl)
theorem dX9_comesToMethod_77 : decode cX9_comesToMethod 77 = .ok (.putfield 472, 3) := dk_181 1 216 (dk_at dksX9_comesToMethod_3 8 rfl rfl)
theorem dX9_comesToMethod_80 : decode cX9_comesToMethod 80 = .ok (.aload_n 0, 1) := dk_42 (dk_at dksX9_comesToMethod_3 11 rfl rfl)
theorem dX9_comesToMethod_81 : decode cX9_comesToMethod 81 = .ok (.getfield 142, 3) := dk_180 0 142 (dk_at dksX9_comesToMethod_3 12 rfl rfl)
theorem dX9_comesToMethod_84 : decode cX9_comesToMethod 84 = .ok (.bipush 10, 2) := dk_16 10 (dk_at dksX9_comesToMethod_3 15 rfl rfl)
theorem dX9_comesToMethod_86 : decode cX9_comesToMethod 86 = .ok (.aload_n 0, 1) := dk_42 (dk_at dksX9_comesToMethod_3 17 rfl rfl)
theorem dX9_comesToMethod_87 : decode cX9_comesToMethod 87 = .ok (.getfield 475, 3) := dk_180 1 219 (dk_at dksX9_comesToMethod_3 18 rfl rfl)
theorem dX9_comesToMethod_90 : decode cX9_comesToMethod 90 = .ok (.imul, 1) := dk_104 (dk_at dksX9_comesToMethod_3 21 rfl rfl)
theorem dX9_comesToMethod_91 : decode cX9_comesToMethod 91 = .ok (.iconst 1, 1) := dk_4 (dk_at dksX9_comesToMethod_3 22 rfl rfl)
theorem dX9_comesToMethod_92 : decode cX9_comesToMethod 92 = .ok (.iadd, 1) := dk_96 (dk_at dksX9_comesToMethod_3 23 rfl rfl)
theorem dX9_comesToMethod_93 : decode cX9_comesToMethod 93 = .ok (.iload 4, 2) := dk_21 4 (dk_at dksX9_comesToMethod_4 0 rfl rfl)
theorem dX9_comesToMethod_95 : decode cX9_comesToMethod 95 = .ok (.ifCond .eq 7, 3) := dk_153 0 7 (dk_at dksX9_comesToMethod_4 2 rfl rfl)
theorem dX9_comesToMethod_98 : decode cX9_comesToMethod 98 = .ok (.iconst 0, 1) := dk_3 (dk_at dksX9_comesToMethod_4 5 rfl rfl)
theorem dX9_comesToMethod_99 : decode cX9_comesToMethod 99 = .ok (.goto 4, 3) := dk_167 0 4 (dk_at dksX9_comesToMethod_4 6 rfl rfl)
theorem dX9_comesToMethod_102 : decode cX9_comesToMethod 102 = .ok (.iload_n 3, 1) := dk_29 (dk_at dksX9_comesToMethod_4 9 rfl rfl)
theorem dX9_comesToMethod_103 : decode cX9_comesToMethod 103 = .ok (.iastore, 1) := dk_79 (dk_at dksX9_comesToMethod_4 10 rfl rfl)
theorem dX9_comesToMethod_104 : decode cX9_comesToMethod 104 = .ok (.aload_n 0, 1) := dk_42 (dk_at dksX9_comesToMethod_4 11 rfl rfl)
theorem dX9_comesToMethod_105 : decode cX9_comesToMethod 105 = .ok (.getfield 142, 3) := dk_180 0 142 (dk_at dksX9_comesToMethod_4 12 rfl rfl)
theorem dX9_comesToMethod_108 : decode cX9_comesToMethod 108 = .ok (.bipush 10, 2) := dk_16 10 (dk_at dksX9_comesToMethod_4 15 rfl rfl)
theorem dX9_comesToMethod_110 : decode cX9_comesToMethod 110 = .ok (.aload_n 0, 1) := dk_42 (dk_at dksX9_comesToMethod_4 17 rfl rfl)
theorem dX9_comesToMethod_111 : decode cX9_comesToMethod 111 = .ok (.getfield 475, 3) := dk_180 1 219 (dk_at dksX9_comesToMethod_4 18 rfl rfl)
theorem dX9_comesToMethod_114 : decode cX9_comesToMethod 114 = .ok (.imul, 1) := dk_104 (dk_at dksX9_comesToMethod_4 21 rfl rfl)
theorem dX9_comesToMethod_115 : decode cX9_comesToMethod 115 = .ok (.iconst 2, 1) := dk_5 (dk_at dksX9_comesToMethod_4 22 rfl rfl)
theorem dX9_comesToMethod_116 : decode cX9_comesToMethod 116 = .ok (.iadd, 1) := dk_96 (dk_at dksX9_comesToMethod_4 23 rfl rfl)
theorem dX9_comesToMethod_117 : decode cX9_comesToMethod 117 = .ok (.iload 4, 2) := dk_21 4 (dk_at dksX9_comesToMethod_5 0 rfl rfl)
theorem dX9_comesToMethod_119 : decode cX9_comesToMethod 119 = .ok (.ifCond .eq 10, 3) := dk_153 0 10 (dk_at dksX9_comesToMethod_5 2 rfl rfl)
theorem dX9_comesToMethod_122 : decode cX9_comesToMethod 122 = .ok (.aload_n 0, 1) := dk_42 (dk_at dksX9_comesToMethod_5 5 rfl rfl)
theorem dX9_comesToMethod_123 : decode cX9_comesToMethod 123 = .ok (.getfield 508, 3) := dk_180 1 252 (dk_at dksX9_comesToMethod_5 6 rfl rfl)
theorem dX9_comesToMethod_126 : decode cX9_comesToMethod 126 = .ok (.goto 5, 3) := dk_167 0 5 (dk_at dksX9_comesToMethod_5 9 rfl rfl)
theorem dX9_comesToMethod_129 : decode cX9_comesToMethod 129 = .ok (.bipush (-9), 2) := dk_16 247 (dk_at dksX9_comesToMethod_5 12 rfl rfl)
theorem dX9_comesToMethod_131 : decode cX9_comesToMethod 131 = .ok (.iastore, 1) := dk_79 (dk_at dksX9_comesToMethod_5 14 rfl rfl)
theorem dX9_comesToMethod_132 : decode cX9_comesToMethod 132 = .ok (.goto 34, 3) := dk_167 0 34 (dk_at dksX9_comesToMethod_5 15 rfl rfl)
theorem dX9_comesToMethod_135 : decode cX9_comesToMethod 135 = .ok (.iload 4, 2) := dk_21 4 (dk_at dksX9_comesToMethod_5 18 rfl rfl)
theorem dX9_comesToMethod_137 : decode cX9_comesToMethod 137 = .ok (.ifCond .ne 29, 3) := dk_154 0 29 (dk_at dksX9_comesToMethod_5 20 rfl rfl)
theorem dX9_comesToMethod_140 : decode cX9_comesToMethod 140 = .ok (.iload_n 2, 1) := dk_28 (dk_at dksX9_comesToMethod_5 23 rfl rfl)
theorem dX9_comesToMethod_141 : decode cX9_comesToMethod 141 = .ok (.ifCond .lt 20, 3) := dk_155 0 20 (dk_at dksX9_comesToMethod_6 0 rfl rfl)
theorem dX9_comesToMethod_144 : decode cX9_comesToMethod 144 = .ok (.aload_n 0, 1) := dk_42 (dk_at dksX9_comesToMethod_6 3 rfl rfl)
theorem dX9_comesToMethod_145 : decode cX9_comesToMethod 145 = .ok (.getfield 199, 3) := dk_180 0 199 (dk_at dksX9_comesToMethod_6 4 rfl rfl)
theorem dX9_comesToMethod_148 : decode cX9_comesToMethod 148 = .ok (.bipush 6, 2) := dk_16 6 (dk_at dksX9_comesToMethod_6 7 rfl rfl)
theorem dX9_comesToMethod_150 : decode cX9_comesToMethod 150 = .ok (.aload_n 0, 1) := dk_42 (dk_at dksX9_comesToMethod_6 9 rfl rfl)
theorem dX9_comesToMethod_151 : decode cX9_comesToMethod 151 = .ok (.getfield 496, 3) := dk_180 1 240 (dk_at dksX9_comesToMethod_6 10 rfl rfl)
theorem dX9_comesToMethod_154 : decode cX9_comesToMethod 154 = .ok (.iconst 1, 1) := dk_4 (dk_at dksX9_comesToMethod_6 13 rfl rfl)
theorem dX9_comesToMethod_155 : decode cX9_comesToMethod 155 = .ok (.isub, 1) := dk_100 (dk_at dksX9_comesToMethod_6 14 rfl rfl)
theorem dX9_comesToMethod_156 : decode cX9_comesToMethod 156 = .ok (.imul, 1) := dk_104 (dk_at dksX9_comesToMethod_6 15 rfl rfl)
theorem dX9_comesToMethod_157 : decode cX9_comesToMethod 157 = .ok (.iload_n 2, 1) := dk_28 (dk_at dksX9_comesToMethod_6 16 rfl rfl)
theorem dX9_comesToMethod_158 : decode cX9_comesToMethod 158 = .ok (.iadd, 1) := dk_96 (dk_at dksX9_comesToMethod_6 17 rfl rfl)
theorem dX9_comesToMethod_159 : decode cX9_comesToMethod 159 = .ok (.iload_n 3, 1) := dk_29 (dk_at dksX9_comesToMethod_6 18 rfl rfl)
theorem dX9_comesToMethod_160 : decode cX9_comesToMethod 160 = .ok (.iastore, 1) := dk_79 (dk_at dksX9_comesToMethod_6 19 rfl rfl)
theorem dX9_comesToMethod_161 : decode cX9_comesToMethod 161 = .ok (.aload_n 0, 1) := dk_42 (dk_at dksX9_comesToMethod_6 20 rfl rfl)
theorem dX9_comesToMethod_162 : decode cX9_comesToMethod 162 = .ok (.iconst 0, 1) := dk_3 (dk_at dksX9_comesToMethod_6 21 rfl rfl)
theorem dX9_comesToMethod_163 : decode cX9_comesToMethod 163 = .ok (.putfield 502, 3) := dk_181 1 246 (dk_at dksX9_comesToMethod_7 0 rfl rfl)
theorem dX9_comesToMethod_166 : decode cX9_comesToMethod 166 = .ok (.return_, 1) := dk_177 (dk_at dksX9_comesToMethod_7 3 rfl rfl)
theorem okX9_comesToMethod_0 : XOkL xms rX9_comesToMethod bX9_comesToMethod_0 := xcP (xok_aload_n dX9_comesToMethod_0 rfl) rfl (xcP (xok_getfield (ref := "WaysAtlasModel") (Or.inr ⟨rfl, by decide⟩) dX9_comesToMethod_1 (Or.inl ⟨q1996, (Or.inl rfl)⟩) xh1098) rfl (xcP (xok_iload_n dX9_comesToMethod_4 rfl) rfl (xcP (xok_iaload dX9_comesToMethod_5) rfl (xcP (xok_istore_n dX9_comesToMethod_6 rfl) rfl (xcP (xok_aload_n dX9_comesToMethod_7 rfl) rfl (xcP (xok_getfield (ref := "WaysAtlasModel") (Or.inl ⟨rfl, by decide⟩) dX9_comesToMethod_8 (Or.inl ⟨q1992, (Or.inl rfl)⟩) xh61) rfl (xcP (xok_iconst dX9_comesToMethod_11 rfl) rfl (xcP (xok_icmpne dX9_comesToMethod_12 (by decide)) rfl (xcP (xok_aload_n dX9_comesToMethod_15 rfl) rfl (xcP (xok_getfield (ref := "WaysAtlasModel") (Or.inl ⟨rfl, by decide⟩) dX9_comesToMethod_16 (Or.inl ⟨q1993, (Or.inl rfl)⟩) xh62) rfl (xcP (xok_goto dX9_comesToMethod_19 (by decide)) rfl trivial)))))))))))
theorem okX9_comesToMethod_22 : XOkL xms rX9_comesToMethod bX9_comesToMethod_22 := xcP (xok_iconst dX9_comesToMethod_22 rfl) rfl (xcP xok_fal rfl trivial)
theorem okX9_comesToMethod_23 : XOkL xms rX9_comesToMethod bX9_comesToMethod_23 := xcP (xok_istore_n dX9_comesToMethod_23 rfl) rfl (xcP (xok_aload_n dX9_comesToMethod_24 rfl) rfl (xcP (xok_getfield (ref := "WaysAtlasModel") (Or.inl ⟨rfl, by decide⟩) dX9_comesToMethod_25 (Or.inl ⟨q1992, (Or.inl rfl)⟩) xh61) rfl (xcP (xok_iconst dX9_comesToMethod_28 rfl) rfl (xcP (xok_icmpne dX9_comesToMethod_29 (by decide)) rfl (xcP (xok_iconst dX9_comesToMethod_32 rfl) rfl (xcP (xok_goto dX9_comesToMethod_33 (by decide)) rfl trivial))))))
theorem okX9_comesToMethod_36 : XOkL xms rX9_comesToMethod bX9_comesToMethod_36 := xcP (xok_iconst dX9_comesToMethod_36 rfl) rfl (xcP xok_fal rfl trivial)
theorem okX9_comesToMethod_37 : XOkL xms rX9_comesToMethod bX9_comesToMethod_37 := xcP (xok_istore dX9_comesToMethod_37) rfl (xcP (xok_aload_n dX9_comesToMethod_39 rfl) rfl (xcP (xok_dup dX9_comesToMethod_40) rfl (xcP (xok_getfield (ref := "WaysAtlasModel") (Or.inl ⟨rfl, by decide⟩) dX9_comesToMethod_41 (Or.inl ⟨q1994, (Or.inl rfl)⟩) xh63) rfl (xcP (xok_iconst dX9_comesToMethod_44 rfl) rfl (xcP (xok_isub dX9_comesToMethod_45) rfl (xcP (xok_putfield (ref := "WaysAtlasModel") (Or.inl ⟨rfl, by decide, rfl⟩) dX9_comesToMethod_46 (Or.inl ⟨q1994, (Or.inl rfl)⟩) (Or.inl rfl) xh63) rfl (xcP (xok_aload_n dX9_comesToMethod_49 rfl) rfl (xcP (xok_dup dX9_comesToMethod_50) rfl (xcP (xok_getfield (ref := "WaysAtlasModel") (Or.inl ⟨rfl, by decide⟩) dX9_comesToMethod_51 (Or.inl ⟨q2003, (Or.inl rfl)⟩) xh64) rfl (xcP (xok_iconst dX9_comesToMethod_54 rfl) rfl (xcP (xok_isub dX9_comesToMethod_55) rfl (xcP (xok_putfield (ref := "WaysAtlasModel") (Or.inl ⟨rfl, by decide, rfl⟩) dX9_comesToMethod_56 (Or.inl ⟨q2003, (Or.inl rfl)⟩) (Or.inl rfl) xh64) rfl (xcP (xok_aload_n dX9_comesToMethod_59 rfl) rfl (xcP (xok_getfield (ref := "WaysAtlasModel") (Or.inl ⟨rfl, by decide⟩) dX9_comesToMethod_60 (Or.inl ⟨q2003, (Or.inl rfl)⟩) xh64) rfl (xcP (xok_ifne dX9_comesToMethod_63 (by decide)) rfl (xcP (xok_aload_n dX9_comesToMethod_66 rfl) rfl (xcP (xok_iload dX9_comesToMethod_67) rfl (xcP (xok_ifeq dX9_comesToMethod_69 (by decide)) rfl (xcP (xok_iconst dX9_comesToMethod_72 rfl) rfl (xcP (xok_goto dX9_comesToMethod_73 (by decide)) rfl trivial))))))))))))))))))))
theorem okX9_comesToMethod_76 : XOkL xms rX9_comesToMethod bX9_comesToMethod_76 := xcP (xok_iconst dX9_comesToMethod_76 rfl) rfl (xcP xok_fal rfl trivial)
theorem okX9_comesToMethod_77 : XOkL xms rX9_comesToMethod bX9_comesToMethod_77 := xcP (xok_putfield (ref := "WaysAtlasModel") (Or.inl ⟨rfl, by decide, rfl⟩) dX9_comesToMethod_77 (Or.inl ⟨q1991, (Or.inl rfl)⟩) (Or.inl rfl) xh60) rfl (xcP (xok_aload_n dX9_comesToMethod_80 rfl) rfl (xcP (xok_getfield (ref := "WaysAtlasModel") (Or.inr ⟨rfl, by decide⟩) dX9_comesToMethod_81 (Or.inl ⟨q1979, (Or.inl rfl)⟩) xh1086) rfl (xcP (xok_bipush dX9_comesToMethod_84 rfl) rfl (xcP (xok_aload_n dX9_comesToMethod_86 rfl) rfl (xcP (xok_getfield (ref := "WaysAtlasModel") (Or.inl ⟨rfl, by decide⟩) dX9_comesToMethod_87 (Or.inl ⟨q1978, (Or.inl rfl)⟩) xh58) rfl (xcP (xok_imul dX9_comesToMethod_90) rfl (xcP (xok_iconst dX9_comesToMethod_91 rfl) rfl (xcP (xok_iadd dX9_comesToMethod_92) rfl (xcP (xok_iload dX9_comesToMethod_93) rfl (xcP (xok_ifeq dX9_comesToMethod_95 (by decide)) rfl (xcP (xok_iconst dX9_comesToMethod_98 rfl) rfl (xcP (xok_goto dX9_comesToMethod_99 (by decide)) rfl trivial))))))))))))
theorem okX9_comesToMethod_102 : XOkL xms rX9_comesToMethod bX9_comesToMethod_102 := xcP (xok_iload_n dX9_comesToMethod_102 rfl) rfl (xcP xok_fal rfl trivial)
theorem okX9_comesToMethod_103 : XOkL xms rX9_comesToMethod bX9_comesToMethod_103 := xcP (xok_iastore dX9_comesToMethod_103) rfl (xcP (xok_aload_n dX9_comesToMethod_104 rfl) rfl (xcP (xok_getfield (ref := "WaysAtlasModel") (Or.inr ⟨rfl, by decide⟩) dX9_comesToMethod_105 (Or.inl ⟨q1979, (Or.inl rfl)⟩) xh1086) rfl (xcP (xok_bipush dX9_comesToMethod_108 rfl) rfl (xcP (xok_aload_n dX9_comesToMethod_110 rfl) rfl (xcP (xok_getfield (ref := "WaysAtlasModel") (Or.inl ⟨rfl, by decide⟩) dX9_comesToMethod_111 (Or.inl ⟨q1978, (Or.inl rfl)⟩) xh58) rfl (xcP (xok_imul dX9_comesToMethod_114) rfl (xcP (xok_iconst dX9_comesToMethod_115 rfl) rfl (xcP (xok_iadd dX9_comesToMethod_116) rfl (xcP (xok_iload dX9_comesToMethod_117) rfl (xcP (xok_ifeq dX9_comesToMethod_119 (by decide)) rfl (xcP (xok_aload_n dX9_comesToMethod_122 rfl) rfl (xcP (xok_getfield (ref := "WaysAtlasModel") (Or.inl ⟨rfl, by decide⟩) dX9_comesToMethod_123 (Or.inl ⟨q1993, (Or.inl rfl)⟩) xh62) rfl (xcP (xok_goto dX9_comesToMethod_126 (by decide)) rfl trivial)))))))))))))
theorem okX9_comesToMethod_129 : XOkL xms rX9_comesToMethod bX9_comesToMethod_129 := xcP (xok_bipush dX9_comesToMethod_129 rfl) rfl (xcP xok_fal rfl trivial)
theorem okX9_comesToMethod_131 : XOkL xms rX9_comesToMethod bX9_comesToMethod_131 := xcP (xok_iastore dX9_comesToMethod_131) rfl (xcP (xok_goto dX9_comesToMethod_132 (by decide)) rfl trivial)
theorem okX9_comesToMethod_135 : XOkL xms rX9_comesToMethod bX9_comesToMethod_135 := xcP (xok_iload dX9_comesToMethod_135) rfl (xcP (xok_ifne dX9_comesToMethod_137 (by decide)) rfl (xcP (xok_iload_n dX9_comesToMethod_140 rfl) rfl (xcP (xok_iflt dX9_comesToMethod_141 (by decide)) rfl (xcP (xok_aload_n dX9_comesToMethod_144 rfl) rfl (xcP (xok_getfield (ref := "WaysAtlasModel") (Or.inr ⟨rfl, by decide⟩) dX9_comesToMethod_145 (Or.inl ⟨q2004, (Or.inl rfl)⟩) xh1105) rfl (xcP (xok_bipush dX9_comesToMethod_148 rfl) rfl (xcP (xok_aload_n dX9_comesToMethod_150 rfl) rfl (xcP (xok_getfield (ref := "WaysAtlasModel") (Or.inl ⟨rfl, by decide⟩) dX9_comesToMethod_151 (Or.inl ⟨q2003, (Or.inl rfl)⟩) xh64) rfl (xcP (xok_iconst dX9_comesToMethod_154 rfl) rfl (xcP (xok_isub dX9_comesToMethod_155) rfl (xcP (xok_imul dX9_comesToMethod_156) rfl (xcP (xok_iload_n dX9_comesToMethod_157 rfl) rfl (xcP (xok_iadd dX9_comesToMethod_158) rfl (xcP (xok_iload_n dX9_comesToMethod_159 rfl) rfl (xcP (xok_iastore dX9_comesToMethod_160) rfl (xcP xok_fal rfl trivial))))))))))))))))
theorem okX9_comesToMethod_161 : XOkL xms rX9_comesToMethod bX9_comesToMethod_161 := xcP (xok_aload_n dX9_comesToMethod_161 rfl) rfl (xcP (xok_iconst dX9_comesToMethod_162 rfl) rfl (xcP (xok_putfield (ref := "WaysAtlasModel") (Or.inl ⟨rfl, by decide, rfl⟩) dX9_comesToMethod_163 (Or.inl ⟨q1992, (Or.inl rfl)⟩) (Or.inl rfl) xh61) rfl (xcP xok_fal rfl trivial)))
theorem okX9_comesToMethod_166 : XOkL xms rX9_comesToMethod bX9_comesToMethod_166 := xcR ⟨dX9_comesToMethod_166, rfl⟩
theorem okM_X9_comesToMethod : XOkM xms rX9_comesToMethod := xokM0 (List.forall_mem_cons.mpr ⟨⟨rfl, okX9_comesToMethod_0⟩, List.forall_mem_cons.mpr ⟨⟨rfl, okX9_comesToMethod_22⟩, List.forall_mem_cons.mpr ⟨⟨rfl, okX9_comesToMethod_23⟩, List.forall_mem_cons.mpr ⟨⟨rfl, okX9_comesToMethod_36⟩, List.forall_mem_cons.mpr ⟨⟨rfl, okX9_comesToMethod_37⟩, List.forall_mem_cons.mpr ⟨⟨rfl, okX9_comesToMethod_76⟩, List.forall_mem_cons.mpr ⟨⟨rfl, okX9_comesToMethod_77⟩, List.forall_mem_cons.mpr ⟨⟨rfl, okX9_comesToMethod_102⟩, List.forall_mem_cons.mpr ⟨⟨rfl, okX9_comesToMethod_103⟩, List.forall_mem_cons.mpr ⟨⟨rfl, okX9_comesToMethod_129⟩, List.forall_mem_cons.mpr ⟨⟨rfl, okX9_comesToMethod_131⟩, List.forall_mem_cons.mpr ⟨⟨rfl, okX9_comesToMethod_135⟩, List.forall_mem_cons.mpr ⟨⟨rfl, okX9_comesToMethod_161⟩, List.forall_mem_cons.mpr ⟨⟨rfl, okX9_comesToMethod_166⟩, fun _ h => nomatch h⟩⟩⟩⟩⟩⟩⟩⟩⟩⟩⟩⟩⟩⟩) (xokH0 rfl (fun _ _ => rfl)) (by decide +kernel) (by decide)
abbrev cX9_ran : ByteArray := prog_36_method_97_code
def dkwX9_ran_1 : List UInt8 := [27, 104, 28, 96, 46, 167, 0, 4, 2, 172]
abbrev dktX9_ran_1 : List UInt8 := dkwX9_ran_1 ++ []
def dkwX9_ran_0 : List UInt8 := [42, 27, 182, 2, 104, 153, 0, 27, 28, 3, 16, 9, 184, 0, 239, 153, 0, 17, 42, 180, 0, 142, 16, 10]
abbrev dktX9_ran_0 : List UInt8 := dkwX9_ran_0 ++ dktX9_ran_1
theorem dksX9_ran_0 : cX9_ran.data.toList.drop 0 = dktX9_ran_0 := by decide +kernel
theorem dksX9_ran_1 : cX9_ran.data.toList.drop 24 = dktX9_ran_1 := dk_seg dksX9_ran_0 24 rfl rfl
theorem dX9_ran_0 : decode cX9_ran 0 = .ok (.aload_n 0, 1) := dk_42 (dk_at dksX9_ran_0 0 rfl rfl)
theorem dX9_ran_1 : decode cX9_ran 1 = .ok (.iload_n 1, 1) := dk_27 (dk_at dksX9_ran_0 1 rfl rfl)
theorem dX9_ran_2 : decode cX9_ran 2 = .ok (.invokevirtual 616, 3) := dk_182 2 104 (dk_at dksX9_ran_0 2 rfl rfl)
theorem dX9_ran_5 : decode cX9_ran 5 = .ok (.ifCond .eq 27, 3) := dk_153 0 27 (dk_at dksX9_ran_0 5 rfl rfl)
theorem dX9_ran_8 : decode cX9_ran 8 = .ok (.iload_n 2, 1) := dk_28 (dk_at dksX9_ran_0 8 rfl rfl)
theorem dX9_ran_9 : decode cX9_ran 9 = .ok (.iconst 0, 1) := dk_3 (dk_at dksX9_ran_0 9 rfl rfl)
theorem dX9_ran_10 : decode cX9_ran 10 = .ok (.bipush 9, 2) := dk_16 9 (dk_at dksX9_ran_0 10 rfl rfl)
theorem dX9_ran_12 : decode cX9_ran 12 = .ok (.invokestatic 239, 3) := dk_184 0 239 (dk_at dksX9_ran_0 12 rfl rfl)
theorem dX9_ran_15 : decode cX9_ran 15 = .ok (.ifCond .eq 17, 3) := dk_153 0 17 (dk_at dksX9_ran_0 15 rfl rfl)
theorem dX9_ran_18 : decode cX9_ran 18 = .ok (.aload_n 0, 1) := dk_42 (dk_at dksX9_ran_0 18 rfl rfl)
theorem dX9_ran_19 : decode cX9_ran 19 = .ok (.getfield 142, 3) := dk_180 0 142 (dk_at dksX9_ran_0 19 rfl rfl)
theorem dX9_ran_22 : decode cX9_ran 22 = .ok (.bipush 10, 2) := dk_16 10 (dk_at dksX9_ran_0 22 rfl rfl)
theorem dX9_ran_24 : decode cX9_ran 24 = .ok (.iload_n 1, 1) := dk_27 (dk_at dksX9_ran_1 0 rfl rfl)
theorem dX9_ran_25 : decode cX9_ran 25 = .ok (.imul, 1) := dk_104 (dk_at dksX9_ran_1 1 rfl rfl)
theorem dX9_ran_26 : decode cX9_ran 26 = .ok (.iload_n 2, 1) := dk_28 (dk_at dksX9_ran_1 2 rfl rfl)
theorem dX9_ran_27 : decode cX9_ran 27 = .ok (.iadd, 1) := dk_96 (dk_at dksX9_ran_1 3 rfl rfl)
theorem dX9_ran_28 : decode cX9_ran 28 = .ok (.iaload, 1) := dk_46 (dk_at dksX9_ran_1 4 rfl rfl)
theorem dX9_ran_29 : decode cX9_ran 29 = .ok (.goto 4, 3) := dk_167 0 4 (dk_at dksX9_ran_1 5 rfl rfl)
theorem dX9_ran_32 : decode cX9_ran 32 = .ok (.iconst (-1), 1) := dk_2 (dk_at dksX9_ran_1 8 rfl rfl)
theorem dX9_ran_33 : decode cX9_ran 33 = .ok (.ireturn, 1) := dk_172 (dk_at dksX9_ran_1 9 rfl rfl)
theorem okX9_ran_0 : XOkL xms rX9_ran bX9_ran_0 := xcP (xok_aload_n dX9_ran_0 rfl) rfl (xcP (xok_iload_n dX9_ran_1 rfl) rfl (xcC0 (xokc_list (List.forall_mem_cons.mpr ⟨xokc_V (r := (RX9, TX9, 96)) xm192 (List.mem_of_getElem? (i := 9) rfl) (by decide) rfl dX9_ran_2 q2597 q2599 qs135 q149 q2600 (by decide +kernel), fun _ h => nomatch h⟩)) rfl (xcP (xok_ifeq dX9_ran_5 (by decide)) rfl (xcP (xok_iload_n dX9_ran_8 rfl) rfl (xcP (xok_iconst dX9_ran_9 rfl) rfl (xcP (xok_bipush dX9_ran_10 rfl) rfl (xcC0 (xokc_S xm99 rfl dX9_ran_12 q2224 q2225 q149 q2226 (by decide +kernel)) rfl (xcP (xok_ifeq dX9_ran_15 (by decide)) rfl (xcP (xok_aload_n dX9_ran_18 rfl) rfl (xcP (xok_getfield (ref := "WaysAtlasModel") (Or.inr ⟨rfl, by decide⟩) dX9_ran_19 (Or.inl ⟨q1979, (Or.inl rfl)⟩) xh1086) rfl (xcP (xok_bipush dX9_ran_22 rfl) rfl (xcP (xok_iload_n dX9_ran_24 rfl) rfl (xcP (xok_imul dX9_ran_25) rfl (xcP (xok_iload_n dX9_ran_26 rfl) rfl (xcP (xok_iadd dX9_ran_27) rfl (xcP (xok_iaload dX9_ran_28) rfl (xcP (xok_goto dX9_ran_29 (by decide)) rfl trivial)))))))))))))))))
theorem okX9_ran_32 : XOkL xms rX9_ran bX9_ran_32 := xcP (xok_iconst dX9_ran_32 rfl) rfl (xcP xok_fal rfl trivial)
theorem okX9_ran_33 : XOkL xms rX9_ran bX9_ran_33 := xcR ⟨dX9_ran_33, rfl⟩
theorem okM_X9_ran : XOkM xms rX9_ran := xokM0 (List.forall_mem_cons.mpr ⟨⟨rfl, okX9_ran_0⟩, List.forall_mem_cons.mpr ⟨⟨rfl, okX9_ran_32⟩, List.forall_mem_cons.mpr ⟨⟨rfl, okX9_ran_33⟩, fun _ h => nomatch h⟩⟩⟩) (xokH0 rfl (fun _ _ => rfl)) (by decide +kernel) (by decide)
abbrev cX9_isRun : ByteArray := prog_36_method_96_code
def dkwX9_isRun_0 : List UInt8 := [27, 3, 4, 184, 0, 239, 153, 0, 16, 42, 180, 0, 138, 27, 51, 153, 0, 7, 4, 167, 0, 4, 3, 172]
abbrev dktX9_isRun_0 : List UInt8 := dkwX9_isRun_0 ++ []
theorem dksX9_isRun_0 : cX9_isRun.data.toList.drop 0 = dktX9_isRun_0 := by decide +kernel
theorem dX9_isRun_0 : decode cX9_isRun 0 = .ok (.iload_n 1, 1) := dk_27 (dk_at dksX9_isRun_0 0 rfl rfl)
theorem dX9_isRun_1 : decode cX9_isRun 1 = .ok (.iconst 0, 1) := dk_3 (dk_at dksX9_isRun_0 1 rfl rfl)
theorem dX9_isRun_2 : decode cX9_isRun 2 = .ok (.iconst 1, 1) := dk_4 (dk_at dksX9_isRun_0 2 rfl rfl)
theorem dX9_isRun_3 : decode cX9_isRun 3 = .ok (.invokestatic 239, 3) := dk_184 0 239 (dk_at dksX9_isRun_0 3 rfl rfl)
theorem dX9_isRun_6 : decode cX9_isRun 6 = .ok (.ifCond .eq 16, 3) := dk_153 0 16 (dk_at dksX9_isRun_0 6 rfl rfl)
theorem dX9_isRun_9 : decode cX9_isRun 9 = .ok (.aload_n 0, 1) := dk_42 (dk_at dksX9_isRun_0 9 rfl rfl)
theorem dX9_isRun_10 : decode cX9_isRun 10 = .ok (.getfield 138, 3) := dk_180 0 138 (dk_at dksX9_isRun_0 10 rfl rfl)
theorem dX9_isRun_13 : decode cX9_isRun 13 = .ok (.iload_n 1, 1) := dk_27 (dk_at dksX9_isRun_0 13 rfl rfl)
theorem dX9_isRun_14 : decode cX9_isRun 14 = .ok (.baload, 1) := dk_51 (dk_at dksX9_isRun_0 14 rfl rfl)
theorem dX9_isRun_15 : decode cX9_isRun 15 = .ok (.ifCond .eq 7, 3) := dk_153 0 7 (dk_at dksX9_isRun_0 15 rfl rfl)
theorem dX9_isRun_18 : decode cX9_isRun 18 = .ok (.iconst 1, 1) := dk_4 (dk_at dksX9_isRun_0 18 rfl rfl)
theorem dX9_isRun_19 : decode cX9_isRun 19 = .ok (.goto 4, 3) := dk_167 0 4 (dk_at dksX9_isRun_0 19 rfl rfl)
theorem dX9_isRun_22 : decode cX9_isRun 22 = .ok (.iconst 0, 1) := dk_3 (dk_at dksX9_isRun_0 22 rfl rfl)
theorem dX9_isRun_23 : decode cX9_isRun 23 = .ok (.ireturn, 1) := dk_172 (dk_at dksX9_isRun_0 23 rfl rfl)
theorem okX9_isRun_0 : XOkL xms rX9_isRun bX9_isRun_0 := xcP (xok_iload_n dX9_isRun_0 rfl) rfl (xcP (xok_iconst dX9_isRun_1 rfl) rfl (xcP (xok_iconst dX9_isRun_2 rfl) rfl (xcC0 (xokc_S xm99 rfl dX9_isRun_3 q2224 q2225 q149 q2226 (by decide +kernel)) rfl (xcP (xok_ifeq dX9_isRun_6 (by decide)) rfl (xcP (xok_aload_n dX9_isRun_9 rfl) rfl (xcP (xok_getfield (ref := "WaysAtlasModel") (Or.inr ⟨rfl, by decide⟩) dX9_isRun_10 (Or.inl ⟨q1977, (Or.inl rfl)⟩) xh1085) rfl (xcP (xok_iload_n dX9_isRun_13 rfl) rfl (xcP (xok_zaload dX9_isRun_14) rfl (xcP (xok_ifeq dX9_isRun_15 (by decide)) rfl (xcP (xok_iconst dX9_isRun_18 rfl) rfl (xcP (xok_goto dX9_isRun_19 (by decide)) rfl trivial)))))))))))
theorem okX9_isRun_22 : XOkL xms rX9_isRun bX9_isRun_22 := xcP (xok_iconst dX9_isRun_22 rfl) rfl (xcP xok_fal rfl trivial)
theorem okX9_isRun_23 : XOkL xms rX9_isRun bX9_isRun_23 := xcR ⟨dX9_isRun_23, rfl⟩
theorem okM_X9_isRun : XOkM xms rX9_isRun := xokM0 (List.forall_mem_cons.mpr ⟨⟨rfl, okX9_isRun_0⟩, List.forall_mem_cons.mpr ⟨⟨rfl, okX9_isRun_22⟩, List.forall_mem_cons.mpr ⟨⟨rfl, okX9_isRun_23⟩, fun _ h => nomatch h⟩⟩⟩) (xokH0 rfl (fun _ _ => rfl)) (by decide +kernel) (by decide)
abbrev cX9_mark : ByteArray := prog_36_method_98_code
def dkwX9_mark_2 : List UInt8 := [16, 247, 172]
abbrev dktX9_mark_2 : List UInt8 := dkwX9_mark_2 ++ []
def dkwX9_mark_1 : List UInt8 := [46, 4, 100, 184, 0, 239, 153, 0, 18, 42, 180, 0, 145, 17, 1, 154, 27, 104, 28, 96, 46, 167, 0, 5]
abbrev dktX9_mark_1 : List UInt8 := dkwX9_mark_1 ++ dktX9_mark_2
def dkwX9_mark_0 : List UInt8 := [42, 27, 182, 2, 104, 154, 0, 7, 2, 167, 0, 41, 28, 3, 42, 180, 0, 142, 16, 10, 27, 104, 6, 96]
abbrev dktX9_mark_0 : List UInt8 := dkwX9_mark_0 ++ dktX9_mark_1
theorem dksX9_mark_0 : cX9_mark.data.toList.drop 0 = dktX9_mark_0 := by decide +kernel
theorem dksX9_mark_1 : cX9_mark.data.toList.drop 24 = dktX9_mark_1 := dk_seg dksX9_mark_0 24 rfl rfl
theorem dksX9_mark_2 : cX9_mark.data.toList.drop 48 = dktX9_mark_2 := dk_seg dksX9_mark_1 24 rfl rfl
theorem dX9_mark_0 : decode cX9_mark 0 = .ok (.aload_n 0, 1) := dk_42 (dk_at dksX9_mark_0 0 rfl rfl)
theorem dX9_mark_1 : decode cX9_mark 1 = .ok (.iload_n 1, 1) := dk_27 (dk_at dksX9_mark_0 1 rfl rfl)
theorem dX9_mark_2 : decode cX9_mark 2 = .ok (.invokevirtual 616, 3) := dk_182 2 104 (dk_at dksX9_mark_0 2 rfl rfl)
theorem dX9_mark_5 : decode cX9_mark 5 = .ok (.ifCond .ne 7, 3) := dk_154 0 7 (dk_at dksX9_mark_0 5 rfl rfl)
theorem dX9_mark_8 : decode cX9_mark 8 = .ok (.iconst (-1), 1) := dk_2 (dk_at dksX9_mark_0 8 rfl rfl)
theorem dX9_mark_9 : decode cX9_mark 9 = .ok (.goto 41, 3) := dk_167 0 41 (dk_at dksX9_mark_0 9 rfl rfl)
theorem dX9_mark_12 : decode cX9_mark 12 = .ok (.iload_n 2, 1) := dk_28 (dk_at dksX9_mark_0 12 rfl rfl)
theorem dX9_mark_13 : decode cX9_mark 13 = .ok (.iconst 0, 1) := dk_3 (dk_at dksX9_mark_0 13 rfl rfl)
theorem dX9_mark_14 : decode cX9_mark 14 = .ok (.aload_n 0, 1) := dk_42 (dk_at dksX9_mark_0 14 rfl rfl)
theorem dX9_mark_15 : decode cX9_mark 15 = .ok (.getfield 142, 3) := dk_180 0 142 (dk_at dksX9_mark_0 15 rfl rfl)
theorem dX9_mark_18 : decode cX9_mark 18 = .ok (.bipush 10, 2) := dk_16 10 (dk_at dksX9_mark_0 18 rfl rfl)
theorem dX9_mark_20 : decode cX9_mark 20 = .ok (.iload_n 1, 1) := dk_27 (dk_at dksX9_mark_0 20 rfl rfl)
theorem dX9_mark_21 : decode cX9_mark 21 = .ok (.imul, 1) := dk_104 (dk_at dksX9_mark_0 21 rfl rfl)
theorem dX9_mark_22 : decode cX9_mark 22 = .ok (.iconst 3, 1) := dk_6 (dk_at dksX9_mark_0 22 rfl rfl)
theorem dX9_mark_23 : decode cX9_mark 23 = .ok (.iadd, 1) := dk_96 (dk_at dksX9_mark_0 23 rfl rfl)
theorem dX9_mark_24 : decode cX9_mark 24 = .ok (.iaload, 1) := dk_46 (dk_at dksX9_mark_1 0 rfl rfl)
theorem dX9_mark_25 : decode cX9_mark 25 = .ok (.iconst 1, 1) := dk_4 (dk_at dksX9_mark_1 1 rfl rfl)
theorem dX9_mark_26 : decode cX9_mark 26 = .ok (.isub, 1) := dk_100 (dk_at dksX9_mark_1 2 rfl rfl)
theorem dX9_mark_27 : decode cX9_mark 27 = .ok (.invokestatic 239, 3) := dk_184 0 239 (dk_at dksX9_mark_1 3 rfl rfl)
theorem dX9_mark_30 : decode cX9_mark 30 = .ok (.ifCond .eq 18, 3) := dk_153 0 18 (dk_at dksX9_mark_1 6 rfl rfl)
theorem dX9_mark_33 : decode cX9_mark 33 = .ok (.aload_n 0, 1) := dk_42 (dk_at dksX9_mark_1 9 rfl rfl)
theorem dX9_mark_34 : decode cX9_mark 34 = .ok (.getfield 145, 3) := dk_180 0 145 (dk_at dksX9_mark_1 10 rfl rfl)
theorem dX9_mark_37 : decode cX9_mark 37 = .ok (.sipush 410, 3) := dk_17 1 154 (dk_at dksX9_mark_1 13 rfl rfl)
theorem dX9_mark_40 : decode cX9_mark 40 = .ok (.iload_n 1, 1) := dk_27 (dk_at dksX9_mark_1 16 rfl rfl)
theorem dX9_mark_41 : decode cX9_mark 41 = .ok (.imul, 1) := dk_104 (dk_at dksX9_mark_1 17 rfl rfl)
theorem dX9_mark_42 : decode cX9_mark 42 = .ok (.iload_n 2, 1) := dk_28 (dk_at dksX9_mark_1 18 rfl rfl)
theorem dX9_mark_43 : decode cX9_mark 43 = .ok (.iadd, 1) := dk_96 (dk_at dksX9_mark_1 19 rfl rfl)
theorem dX9_mark_44 : decode cX9_mark 44 = .ok (.iaload, 1) := dk_46 (dk_at dksX9_mark_1 20 rfl rfl)
theorem dX9_mark_45 : decode cX9_mark 45 = .ok (.goto 5, 3) := dk_167 0 5 (dk_at dksX9_mark_1 21 rfl rfl)
theorem dX9_mark_48 : decode cX9_mark 48 = .ok (.bipush (-9), 2) := dk_16 247 (dk_at dksX9_mark_2 0 rfl rfl)
theorem dX9_mark_50 : decode cX9_mark 50 = .ok (.ireturn, 1) := dk_172 (dk_at dksX9_mark_2 2 rfl rfl)
theorem okX9_mark_0 : XOkL xms rX9_mark bX9_mark_0 := xcP (xok_aload_n dX9_mark_0 rfl) rfl (xcP (xok_iload_n dX9_mark_1 rfl) rfl (xcC0 (xokc_list (List.forall_mem_cons.mpr ⟨xokc_V (r := (RX9, TX9, 96)) xm192 (List.mem_of_getElem? (i := 9) rfl) (by decide) rfl dX9_mark_2 q2597 q2599 qs135 q149 q2600 (by decide +kernel), fun _ h => nomatch h⟩)) rfl (xcP (xok_ifne dX9_mark_5 (by decide)) rfl (xcP (xok_iconst dX9_mark_8 rfl) rfl (xcP (xok_goto dX9_mark_9 (by decide)) rfl trivial)))))
theorem okX9_mark_12 : XOkL xms rX9_mark bX9_mark_12 := xcP (xok_iload_n dX9_mark_12 rfl) rfl (xcP (xok_iconst dX9_mark_13 rfl) rfl (xcP (xok_aload_n dX9_mark_14 rfl) rfl (xcP (xok_getfield (ref := "WaysAtlasModel") (Or.inr ⟨rfl, by decide⟩) dX9_mark_15 (Or.inl ⟨q1979, (Or.inl rfl)⟩) xh1086) rfl (xcP (xok_bipush dX9_mark_18 rfl) rfl (xcP (xok_iload_n dX9_mark_20 rfl) rfl (xcP (xok_imul dX9_mark_21) rfl (xcP (xok_iconst dX9_mark_22 rfl) rfl (xcP (xok_iadd dX9_mark_23) rfl (xcP (xok_iaload dX9_mark_24) rfl (xcP (xok_iconst dX9_mark_25 rfl) rfl (xcP (xok_isub dX9_mark_26) rfl (xcC0 (xokc_S xm99 rfl dX9_mark_27 q2224 q2225 q149 q2226 (by decide +kernel)) rfl (xcP (xok_ifeq dX9_mark_30 (by decide)) rfl (xcP (xok_aload_n dX9_mark_33 rfl) rfl (xcP (xok_getfield (ref := "WaysAtlasModel") (Or.inr ⟨rfl, by decide⟩) dX9_mark_34 (Or.inl ⟨q1980, (Or.inl rfl)⟩) xh1087) rfl (xcP (xok_sipush dX9_mark_37 rfl) rfl (xcP (xok_iload_n dX9_mark_40 rfl) rfl (xcP (xok_imul dX9_mark_41) rfl (xcP (xok_iload_n dX9_mark_42 rfl) rfl (xcP (xok_iadd dX9_mark_43) rfl (xcP (xok_iaload dX9_mark_44) rfl (xcP (xok_goto dX9_mark_45 (by decide)) rfl trivial))))))))))))))))))))))
theorem okX9_mark_48 : XOkL xms rX9_mark bX9_mark_48 := xcP (xok_bipush dX9_mark_48 rfl) rfl (xcP xok_fal rfl trivial)
theorem okX9_mark_50 : XOkL xms rX9_mark bX9_mark_50 := xcR ⟨dX9_mark_50, rfl⟩
theorem okM_X9_mark : XOkM xms rX9_mark := xokM0 (List.forall_mem_cons.mpr ⟨⟨rfl, okX9_mark_0⟩, List.forall_mem_cons.mpr ⟨⟨rfl, okX9_mark_12⟩, List.forall_mem_cons.mpr ⟨⟨rfl, okX9_mark_48⟩, List.forall_mem_cons.mpr ⟨⟨rfl, okX9_mark_50⟩, fun _ h => nomatch h⟩⟩⟩⟩) (xokH0 rfl (fun _ _ => rfl)) (by decide +kernel) (by decide)
abbrev cX9_failure : ByteArray := prog_36_method_99_code
def dkwX9_failure_5 : List UInt8 := [42, 180, 0, 157, 21, 4, 46, 172, 42, 180, 0, 160, 21, 4, 46, 172, 42, 180, 0, 163, 21, 4, 46, 172]
abbrev dktX9_failure_5 : List UInt8 := dkwX9_failure_5 ++ []
def dkwX9_failure_4 : List UInt8 := [42, 180, 0, 148, 21, 4, 46, 172, 42, 180, 0, 151, 21, 4, 46, 172, 42, 180, 0, 154, 21, 4, 46, 172]
abbrev dktX9_failure_4 : List UInt8 := dkwX9_failure_4 ++ dktX9_failure_5
def dkwX9_failure_3 : List UInt8 := [170, 0, 0, 0, 0, 0, 75, 0, 0, 0, 0, 0, 0, 0, 4, 0, 0, 0, 35, 0, 0, 0, 43, 0, 0, 0, 51, 0, 0, 0, 59, 0, 0, 0, 67]
abbrev dktX9_failure_3 : List UInt8 := dkwX9_failure_3 ++ dktX9_failure_4
def dkwX9_failure_2 : List UInt8 := [27, 104, 28, 96, 54, 4, 29]
abbrev dktX9_failure_2 : List UInt8 := dkwX9_failure_2 ++ dktX9_failure_3
def dkwX9_failure_1 : List UInt8 := [180, 0, 142, 16, 10, 27, 104, 7, 96, 46, 4, 100, 184, 0, 239, 154, 0, 6, 16, 247, 172, 17, 1, 164]
abbrev dktX9_failure_1 : List UInt8 := dkwX9_failure_1 ++ dktX9_failure_2
def dkwX9_failure_0 : List UInt8 := [42, 27, 182, 2, 104, 153, 0, 12, 29, 3, 8, 184, 0, 239, 154, 0, 5, 2, 172, 28, 3, 42]
abbrev dktX9_failure_0 : List UInt8 := dkwX9_failure_0 ++ dktX9_failure_1
theorem dksX9_failure_0 : cX9_failure.data.toList.drop 0 = dktX9_failure_0 := by decide +kernel
theorem dksX9_failure_1 : cX9_failure.data.toList.drop 22 = dktX9_failure_1 := dk_seg dksX9_failure_0 22 rfl rfl
theorem dksX9_failure_2 : cX9_failure.data.toList.drop 46 = dktX9_failure_2 := dk_seg dksX9_failure_1 24 rfl rfl
theorem dksX9_failure_3 : cX9_failure.data.toList.drop 53 = dktX9_failure_3 := dk_seg dksX9_failure_2 7 rfl rfl
theorem dksX9_failure_4 : cX9_failure.data.toList.drop 88 = dktX9_failure_4 := dk_seg dksX9_failure_3 35 rfl rfl
theorem dksX9_failure_5 : cX9_failure.data.toList.drop 112 = dktX9_failure_5 := dk_seg dksX9_failure_4 24 rfl rfl
theorem dX9_failure_0 : decode cX9_failure 0 = .ok (.aload_n 0, 1) := dk_42 (dk_at dksX9_failure_0 0 rfl rfl)
theorem dX9_failure_1 : decode cX9_failure 1 = .ok (.iload_n 1, 1) := dk_27 (dk_at dksX9_failure_0 1 rfl rfl)
theorem dX9_failure_2 : decode cX9_failure 2 = .ok (.invokevirtual 616, 3) := dk_182 2 104 (dk_at dksX9_failure_0 2 rfl rfl)
theorem dX9_failure_5 : decode cX9_failure 5 = .ok (.ifCond .eq 12, 3) := dk_153 0 12 (dk_at dksX9_failure_0 5 rfl rfl)
theorem dX9_failure_8 : decode cX9_failure 8 = .ok (.iload_n 3, 1) := dk_29 (dk_at dksX9_failure_0 8 rfl rfl)
theorem dX9_failure_9 : decode cX9_failure 9 = .ok (.iconst 0, 1) := dk_3 (dk_at dksX9_failure_0 9 rfl rfl)
theorem dX9_failure_10 : decode cX9_failure 10 = .ok (.iconst 5, 1) := dk_8 (dk_at dksX9_failure_0 10 rfl rfl)
theorem dX9_failure_11 : decode cX9_failure 11 = .ok (.invokestatic 239, 3) := dk_184 0 239 (dk_at dksX9_failure_0 11 rfl rfl)
theorem dX9_failure_14 : decode cX9_failure 14 = .ok (.ifCond .ne 5, 3) := dk_154 0 5 (dk_at dksX9_failure_0 14 rfl rfl)
theorem dX9_failure_17 : decode cX9_failure 17 = .ok (.iconst (-1), 1) := dk_2 (dk_at dksX9_failure_0 17 rfl rfl)
theorem dX9_failure_18 : decode cX9_failure 18 = .ok (.ireturn, 1) := dk_172 (dk_at dksX9_failure_0 18 rfl rfl)
theorem dX9_failure_19 : decode cX9_failure 19 = .ok (.iload_n 2, 1) := dk_28 (dk_at dksX9_failure_0 19 rfl rfl)
theorem dX9_failure_20 : decode cX9_failure 20 = .ok (.iconst 0, 1) := dk_3 (dk_at dksX9_failure_0 20 rfl rfl)
theorem dX9_failure_21 : decode cX9_failure 21 = .ok (.aload_n 0, 1) := dk_42 (dk_at dksX9_failure_0 21 rfl rfl)
theorem dX9_failure_22 : decode cX9_failure 22 = .ok (.getfield 142, 3) := dk_180 0 142 (dk_at dksX9_failure_1 0 rfl rfl)
theorem dX9_failure_25 : decode cX9_failure 25 = .ok (.bipush 10, 2) := dk_16 10 (dk_at dksX9_failure_1 3 rfl rfl)
theorem dX9_failure_27 : decode cX9_failure 27 = .ok (.iload_n 1, 1) := dk_27 (dk_at dksX9_failure_1 5 rfl rfl)
theorem dX9_failure_28 : decode cX9_failure 28 = .ok (.imul, 1) := dk_104 (dk_at dksX9_failure_1 6 rfl rfl)
theorem dX9_failure_29 : decode cX9_failure 29 = .ok (.iconst 4, 1) := dk_7 (dk_at dksX9_failure_1 7 rfl rfl)
theorem dX9_failure_30 : decode cX9_failure 30 = .ok (.iadd, 1) := dk_96 (dk_at dksX9_failure_1 8 rfl rfl)
theorem dX9_failure_31 : decode cX9_failure 31 = .ok (.iaload, 1) := dk_46 (dk_at dksX9_failure_1 9 rfl rfl)
theorem dX9_failure_32 : decode cX9_failure 32 = .ok (.iconst 1, 1) := dk_4 (dk_at dksX9_failure_1 10 rfl rfl)
theorem dX9_failure_33 : decode cX9_failure 33 = .ok (.isub, 1) := dk_100 (dk_at dksX9_failure_1 11 rfl rfl)
theorem dX9_failure_34 : decode cX9_failure 34 = .ok (.invokestatic 239, 3) := dk_184 0 239 (dk_at dksX9_failure_1 12 rfl rfl)
theorem dX9_failure_37 : decode cX9_failure 37 = .ok (.ifCond .ne 6, 3) := dk_154 0 6 (dk_at dksX9_failure_1 15 rfl rfl)
theorem dX9_failure_40 : decode cX9_failure 40 = .ok (.bipush (-9), 2) := dk_16 247 (dk_at dksX9_failure_1 18 rfl rfl)
theorem dX9_failure_42 : decode cX9_failure 42 = .ok (.ireturn, 1) := dk_172 (dk_at dksX9_failure_1 20 rfl rfl)
theorem dX9_failure_43 : decode cX9_failure 43 = .ok (.sipush 420, 3) := dk_17 1 164 (dk_at dksX9_failure_1 21 rfl rfl)
theorem dX9_failure_46 : decode cX9_failure 46 = .ok (.iload_n 1, 1) := dk_27 (dk_at dksX9_failure_2 0 rfl rfl)
theorem dX9_failure_47 : decode cX9_failure 47 = .ok (.imul, 1) := dk_104 (dk_at dksX9_failure_2 1 rfl rfl)
theorem dX9_failure_48 : decode cX9_failure 48 = .ok (.iload_n 2, 1) := dk_28 (dk_at dksX9_failure_2 2 rfl rfl)
theorem dX9_failure_49 : decode cX9_failure 49 = .ok (.iadd, 1) := dk_96 (dk_at dksX9_failure_2 3 rfl rfl)
theorem dX9_failure_50 : decode cX9_failure 50 = .ok (.istore 4, 2) := dk_54 4 (dk_at dksX9_failure_2 4 rfl rfl)
theorem dX9_failure_52 : decode cX9_failure 52 = .ok (.iload_n 3, 1) := dk_29 (dk_at dksX9_failure_2 6 rfl rfl)
theorem dX9_failure_53 : decode cX9_failure 53 = .ok (.tableswitch 75 0 4 #[35, 43, 51, 59, 67], 35) := by decide +kernel
theorem dX9_failure_88 : decode cX9_failure 88 = .ok (.aload_n 0, 1) := dk_42 (dk_at dksX9_failure_4 0 rfl rfl)
theorem dX9_failure_89 : decode cX9_failure 89 = .ok (.getfield 148, 3) := dk_180 0 148 (dk_at dksX9_failure_4 1 rfl rfl)
theorem dX9_failure_92 : decode cX9_failure 92 = .ok (.iload 4, 2) := dk_21 4 (dk_at dksX9_failure_4 4 rfl rfl)
theorem dX9_failure_94 : decode cX9_failure 94 = .ok (.iaload, 1) := dk_46 (dk_at dksX9_failure_4 6 rfl rfl)
theorem dX9_failure_95 : decode cX9_failure 95 = .ok (.ireturn, 1) := dk_172 (dk_at dksX9_failure_4 7 rfl rfl)
theorem dX9_failure_96 : decode cX9_failure 96 = .ok (.aload_n 0, 1) := dk_42 (dk_at dksX9_failure_4 8 rfl rfl)
theorem dX9_failure_97 : decode cX9_failure 97 = .ok (.getfield 151, 3) := dk_180 0 151 (dk_at dksX9_failure_4 9 rfl rfl)
theorem dX9_failure_100 : decode cX9_failure 100 = .ok (.iload 4, 2) := dk_21 4 (dk_at dksX9_failure_4 12 rfl rfl)
theorem dX9_failure_102 : decode cX9_failure 102 = .ok (.iaload, 1) := dk_46 (dk_at dksX9_failure_4 14 rfl rfl)
theorem dX9_failure_103 : decode cX9_failure 103 = .ok (.ireturn, 1) := dk_172 (dk_at dksX9_failure_4 15 rfl rfl)
theorem dX9_failure_104 : decode cX9_failure 104 = .ok (.aload_n 0, 1) := dk_42 (dk_at dksX9_failure_4 16 rfl rfl)
theorem dX9_failure_105 : decode cX9_failure 105 = .ok (.getfield 154, 3) := dk_180 0 154 (dk_at dksX9_failure_4 17 rfl rfl)
theorem dX9_failure_108 : decode cX9_failure 108 = .ok (.iload 4, 2) := dk_21 4 (dk_at dksX9_failure_4 20 rfl rfl)
theorem dX9_failure_110 : decode cX9_failure 110 = .ok (.iaload, 1) := dk_46 (dk_at dksX9_failure_4 22 rfl rfl)
theorem dX9_failure_111 : decode cX9_failure 111 = .ok (.ireturn, 1) := dk_172 (dk_at dksX9_failure_4 23 rfl rfl)
theorem dX9_failure_112 : decode cX9_failure 112 = .ok (.aload_n 0, 1) := dk_42 (dk_at dksX9_failure_5 0 rfl rfl)
theorem dX9_failure_113 : decode cX9_failure 113 = .ok (.getfield 157, 3) := dk_180 0 157 (dk_at dksX9_failure_5 1 rfl rfl)
theorem dX9_failure_116 : decode cX9_failure 116 = .ok (.iload 4, 2) := dk_21 4 (dk_at dksX9_failure_5 4 rfl rfl)
theorem dX9_failure_118 : decode cX9_failure 118 = .ok (.iaload, 1) := dk_46 (dk_at dksX9_failure_5 6 rfl rfl)
theorem dX9_failure_119 : decode cX9_failure 119 = .ok (.ireturn, 1) := dk_172 (dk_at dksX9_failure_5 7 rfl rfl)
theorem dX9_failure_120 : decode cX9_failure 120 = .ok (.aload_n 0, 1) := dk_42 (dk_at dksX9_failure_5 8 rfl rfl)
theorem dX9_failure_121 : decode cX9_failure 121 = .ok (.getfield 160, 3) := dk_180 0 160 (dk_at dksX9_failure_5 9 rfl rfl)
theorem dX9_failure_124 : decode cX9_failure 124 = .ok (.iload 4, 2) := dk_21 4 (dk_at dksX9_failure_5 12 rfl rfl)
theorem dX9_failure_126 : decode cX9_failure 126 = .ok (.iaload, 1) := dk_46 (dk_at dksX9_failure_5 14 rfl rfl)
theorem dX9_failure_127 : decode cX9_failure 127 = .ok (.ireturn, 1) := dk_172 (dk_at dksX9_failure_5 15 rfl rfl)
theorem dX9_failure_128 : decode cX9_failure 128 = .ok (.aload_n 0, 1) := dk_42 (dk_at dksX9_failure_5 16 rfl rfl)
theorem dX9_failure_129 : decode cX9_failure 129 = .ok (.getfield 163, 3) := dk_180 0 163 (dk_at dksX9_failure_5 17 rfl rfl)
theorem dX9_failure_132 : decode cX9_failure 132 = .ok (.iload 4, 2) := dk_21 4 (dk_at dksX9_failure_5 20 rfl rfl)
theorem dX9_failure_134 : decode cX9_failure 134 = .ok (.iaload, 1) := dk_46 (dk_at dksX9_failure_5 22 rfl rfl)
theorem dX9_failure_135 : decode cX9_failure 135 = .ok (.ireturn, 1) := dk_172 (dk_at dksX9_failure_5 23 rfl rfl)
theorem okX9_failure_0 : XOkL xms rX9_failure bX9_failure_0 := xcP (xok_aload_n dX9_failure_0 rfl) rfl (xcP (xok_iload_n dX9_failure_1 rfl) rfl (xcC0 (xokc_list (List.forall_mem_cons.mpr ⟨xokc_V (r := (RX9, TX9, 96)) xm192 (List.mem_of_getElem? (i := 9) rfl) (by decide) rfl dX9_failure_2 q2597 q2599 qs135 q149 q2600 (by decide +kernel), fun _ h => nomatch h⟩)) rfl (xcP (xok_ifeq dX9_failure_5 (by decide)) rfl (xcP (xok_iload_n dX9_failure_8 rfl) rfl (xcP (xok_iconst dX9_failure_9 rfl) rfl (xcP (xok_iconst dX9_failure_10 rfl) rfl (xcC0 (xokc_S xm99 rfl dX9_failure_11 q2224 q2225 q149 q2226 (by decide +kernel)) rfl (xcP (xok_ifne dX9_failure_14 (by decide)) rfl (xcP xok_fal rfl trivial)))))))))
theorem okX9_failure_17 : XOkL xms rX9_failure bX9_failure_17 := xcP (xok_iconst dX9_failure_17 rfl) rfl (xcR ⟨dX9_failure_18, rfl⟩)
theorem okX9_failure_19 : XOkL xms rX9_failure bX9_failure_19 := xcP (xok_iload_n dX9_failure_19 rfl) rfl (xcP (xok_iconst dX9_failure_20 rfl) rfl (xcP (xok_aload_n dX9_failure_21 rfl) rfl (xcP (xok_getfield (ref := "WaysAtlasModel") (Or.inr ⟨rfl, by decide⟩) dX9_failure_22 (Or.inl ⟨q1979, (Or.inl rfl)⟩) xh1086) rfl (xcP (xok_bipush dX9_failure_25 rfl) rfl (xcP (xok_iload_n dX9_failure_27 rfl) rfl (xcP (xok_imul dX9_failure_28) rfl (xcP (xok_iconst dX9_failure_29 rfl) rfl (xcP (xok_iadd dX9_failure_30) rfl (xcP (xok_iaload dX9_failure_31) rfl (xcP (xok_iconst dX9_failure_32 rfl) rfl (xcP (xok_isub dX9_failure_33) rfl (xcC0 (xokc_S xm99 rfl dX9_failure_34 q2224 q2225 q149 q2226 (by decide +kernel)) rfl (xcP (xok_ifne dX9_failure_37 (by decide)) rfl (xcP (xok_bipush dX9_failure_40 rfl) rfl (xcR ⟨dX9_failure_42, rfl⟩)))))))))))))))
theorem okX9_failure_43 : XOkL xms rX9_failure bX9_failure_43 := xcP (xok_sipush dX9_failure_43 rfl) rfl (xcP (xok_iload_n dX9_failure_46 rfl) rfl (xcP (xok_imul dX9_failure_47) rfl (xcP (xok_iload_n dX9_failure_48 rfl) rfl (xcP (xok_iadd dX9_failure_49) rfl (xcP (xok_istore dX9_failure_50) rfl (xcP (xok_iload_n dX9_failure_52 rfl) rfl (xcP (xok_tsw dX9_failure_53 (by decide) (by decide) (by decide)) rfl trivial)))))))
theorem okX9_failure_88 : XOkL xms rX9_failure bX9_failure_88 := xcP (xok_aload_n dX9_failure_88 rfl) rfl (xcP (xok_getfield (ref := "WaysAtlasModel") (Or.inr ⟨rfl, by decide⟩) dX9_failure_89 (Or.inl ⟨q1981, (Or.inl rfl)⟩) xh1088) rfl (xcP (xok_iload dX9_failure_92) rfl (xcP (xok_iaload dX9_failure_94) rfl (xcR ⟨dX9_failure_95, rfl⟩))))
theorem okX9_failure_96 : XOkL xms rX9_failure bX9_failure_96 := xcP (xok_aload_n dX9_failure_96 rfl) rfl (xcP (xok_getfield (ref := "WaysAtlasModel") (Or.inr ⟨rfl, by decide⟩) dX9_failure_97 (Or.inl ⟨q1982, (Or.inl rfl)⟩) xh1089) rfl (xcP (xok_iload dX9_failure_100) rfl (xcP (xok_iaload dX9_failure_102) rfl (xcR ⟨dX9_failure_103, rfl⟩))))
theorem okX9_failure_104 : XOkL xms rX9_failure bX9_failure_104 := xcP (xok_aload_n dX9_failure_104 rfl) rfl (xcP (xok_getfield (ref := "WaysAtlasModel") (Or.inr ⟨rfl, by decide⟩) dX9_failure_105 (Or.inl ⟨q1983, (Or.inl rfl)⟩) xh1090) rfl (xcP (xok_iload dX9_failure_108) rfl (xcP (xok_iaload dX9_failure_110) rfl (xcR ⟨dX9_failure_111, rfl⟩))))
theorem okX9_failure_112 : XOkL xms rX9_failure bX9_failure_112 := xcP (xok_aload_n dX9_failure_112 rfl) rfl (xcP (xok_getfield (ref := "WaysAtlasModel") (Or.inr ⟨rfl, by decide⟩) dX9_failure_113 (Or.inl ⟨q1984, (Or.inl rfl)⟩) xh1091) rfl (xcP (xok_iload dX9_failure_116) rfl (xcP (xok_iaload dX9_failure_118) rfl (xcR ⟨dX9_failure_119, rfl⟩))))
theorem okX9_failure_120 : XOkL xms rX9_failure bX9_failure_120 := xcP (xok_aload_n dX9_failure_120 rfl) rfl (xcP (xok_getfield (ref := "WaysAtlasModel") (Or.inr ⟨rfl, by decide⟩) dX9_failure_121 (Or.inl ⟨q1985, (Or.inl rfl)⟩) xh1092) rfl (xcP (xok_iload dX9_failure_124) rfl (xcP (xok_iaload dX9_failure_126) rfl (xcR ⟨dX9_failure_127, rfl⟩))))
theorem okX9_failure_128 : XOkL xms rX9_failure bX9_failure_128 := xcP (xok_aload_n dX9_failure_128 rfl) rfl (xcP (xok_getfield (ref := "WaysAtlasModel") (Or.inr ⟨rfl, by decide⟩) dX9_failure_129 (Or.inl ⟨q1986, (Or.inl rfl)⟩) xh1093) rfl (xcP (xok_iload dX9_failure_132) rfl (xcP (xok_iaload dX9_failure_134) rfl (xcR ⟨dX9_failure_135, rfl⟩))))
theorem okM_X9_failure : XOkM xms rX9_failure := xokM0 (List.forall_mem_cons.mpr ⟨⟨rfl, okX9_failure_0⟩, List.forall_mem_cons.mpr ⟨⟨rfl, okX9_failure_17⟩, List.forall_mem_cons.mpr ⟨⟨rfl, okX9_failure_19⟩, List.forall_mem_cons.mpr ⟨⟨rfl, okX9_failure_43⟩, List.forall_mem_cons.mpr ⟨⟨rfl, okX9_failure_88⟩, List.forall_mem_cons.mpr ⟨⟨rfl, okX9_failure_96⟩, List.forall_mem_cons.mpr ⟨⟨rfl, okX9_failure_104⟩, List.forall_mem_cons.mpr ⟨⟨rfl, okX9_failure_112⟩, List.forall_mem_cons.mpr ⟨⟨rfl, okX9_failure_120⟩, List.forall_mem_cons.mpr ⟨⟨rfl, okX9_failure_128⟩, fun _ h => nomatch h⟩⟩⟩⟩⟩⟩⟩⟩⟩⟩) (xokH0 rfl (fun _ _ => rfl)) (by decide +kernel) (by decide)
abbrev cX9_trace : ByteArray := prog_36_method_100_code
def dkwX9_trace_3 : List UInt8 := [167, 0, 5, 16, 247, 172]
abbrev dktX9_trace_3 : List UInt8 := dkwX9_trace_3 ++ []
def dkwX9_trace_2 : List UInt8 := [184, 0, 239, 153, 0, 23, 42, 180, 0, 166, 17, 19, 176, 27, 104, 16, 12, 28, 104, 96, 29, 96, 46]
abbrev dktX9_trace_2 : List UInt8 := dkwX9_trace_2 ++ dktX9_trace_3
def dkwX9_trace_1 : List UInt8 := [100, 184, 0, 239, 153, 0, 45, 29, 3, 42, 180, 0, 163, 17, 1, 164, 27, 104, 28, 96, 46, 4, 100]
abbrev dktX9_trace_1 : List UInt8 := dkwX9_trace_1 ++ dktX9_trace_2
def dkwX9_trace_0 : List UInt8 := [42, 27, 182, 2, 104, 154, 0, 5, 2, 172, 28, 3, 42, 180, 0, 142, 16, 10, 27, 104, 7, 96, 46, 4]
abbrev dktX9_trace_0 : List UInt8 := dkwX9_trace_0 ++ dktX9_trace_1
theorem dksX9_trace_0 : cX9_trace.data.toList.drop 0 = dktX9_trace_0 := by decide +kernel
theorem dksX9_trace_1 : cX9_trace.data.toList.drop 24 = dktX9_trace_1 := dk_seg dksX9_trace_0 24 rfl rfl
theorem dksX9_trace_2 : cX9_trace.data.toList.drop 47 = dktX9_trace_2 := dk_seg dksX9_trace_1 23 rfl rfl
theorem dksX9_trace_3 : cX9_trace.data.toList.drop 70 = dktX9_trace_3 := dk_seg dksX9_trace_2 23 rfl rfl
theorem dX9_trace_0 : decode cX9_trace 0 = .ok (.aload_n 0, 1) := dk_42 (dk_at dksX9_trace_0 0 rfl rfl)
theorem dX9_trace_1 : decode cX9_trace 1 = .ok (.iload_n 1, 1) := dk_27 (dk_at dksX9_trace_0 1 rfl rfl)
theorem dX9_trace_2 : decode cX9_trace 2 = .ok (.invokevirtual 616, 3) := dk_182 2 104 (dk_at dksX9_trace_0 2 rfl rfl)
theorem dX9_trace_5 : decode cX9_trace 5 = .ok (.ifCond .ne 5, 3) := dk_154 0 5 (dk_at dksX9_trace_0 5 rfl rfl)
theorem dX9_trace_8 : decode cX9_trace 8 = .ok (.iconst (-1), 1) := dk_2 (dk_at dksX9_trace_0 8 rfl rfl)
theorem dX9_trace_9 : decode cX9_trace 9 = .ok (.ireturn, 1) := dk_172 (dk_at dksX9_trace_0 9 rfl rfl)
theorem dX9_trace_10 : decode cX9_trace 10 = .ok (.iload_n 2, 1) := dk_28 (dk_at dksX9_trace_0 10 rfl rfl)
theorem dX9_trace_11 : decode cX9_trace 11 = .ok (.iconst 0, 1) := dk_3 (dk_at dksX9_trace_0 11 rfl rfl)
theorem dX9_trace_12 : decode cX9_trace 12 = .ok (.aload_n 0, 1) := dk_42 (dk_at dksX9_trace_0 12 rfl rfl)
theorem dX9_trace_13 : decode cX9_trace 13 = .ok (.getfield 142, 3) := dk_180 0 142 (dk_at dksX9_trace_0 13 rfl rfl)
theorem dX9_trace_16 : decode cX9_trace 16 = .ok (.bipush 10, 2) := dk_16 10 (dk_at dksX9_trace_0 16 rfl rfl)
theorem dX9_trace_18 : decode cX9_trace 18 = .ok (.iload_n 1, 1) := dk_27 (dk_at dksX9_trace_0 18 rfl rfl)
theorem dX9_trace_19 : decode cX9_trace 19 = .ok (.imul, 1) := dk_104 (dk_at dksX9_trace_0 19 rfl rfl)
theorem dX9_trace_20 : decode cX9_trace 20 = .ok (.iconst 4, 1) := dk_7 (dk_at dksX9_trace_0 20 rfl rfl)
theorem dX9_trace_21 : decode cX9_trace 21 = .ok (.iadd, 1) := dk_96 (dk_at dksX9_trace_0 21 rfl rfl)
theorem dX9_trace_22 : decode cX9_trace 22 = .ok (.iaload, 1) := dk_46 (dk_at dksX9_trace_0 22 rfl rfl)
theorem dX9_trace_23 : decode cX9_trace 23 = .ok (.iconst 1, 1) := dk_4 (dk_at dksX9_trace_0 23 rfl rfl)
theorem dX9_trace_24 : decode cX9_trace 24 = .ok (.isub, 1) := dk_100 (dk_at dksX9_trace_1 0 rfl rfl)
theorem dX9_trace_25 : decode cX9_trace 25 = .ok (.invokestatic 239, 3) := dk_184 0 239 (dk_at dksX9_trace_1 1 rfl rfl)
theorem dX9_trace_28 : decode cX9_trace 28 = .ok (.ifCond .eq 45, 3) := dk_153 0 45 (dk_at dksX9_trace_1 4 rfl rfl)
theorem dX9_trace_31 : decode cX9_trace 31 = .ok (.iload_n 3, 1) := dk_29 (dk_at dksX9_trace_1 7 rfl rfl)
theorem dX9_trace_32 : decode cX9_trace 32 = .ok (.iconst 0, 1) := dk_3 (dk_at dksX9_trace_1 8 rfl rfl)
theorem dX9_trace_33 : decode cX9_trace 33 = .ok (.aload_n 0, 1) := dk_42 (dk_at dksX9_trace_1 9 rfl rfl)
theorem dX9_trace_34 : decode cX9_trace 34 = .ok (.getfield 163, 3) := dk_180 0 163 (dk_at dksX9_trace_1 10 rfl rfl)
theorem dX9_trace_37 : decode cX9_trace 37 = .ok (.sipush 420, 3) := dk_17 1 164 (dk_at dksX9_trace_1 13 rfl rfl)
theorem dX9_trace_40 : decode cX9_trace 40 = .ok (.iload_n 1, 1) := dk_27 (dk_at dksX9_trace_1 16 rfl rfl)
theorem dX9_trace_41 : decode cX9_trace 41 = .ok (.imul, 1) := dk_104 (dk_at dksX9_trace_1 17 rfl rfl)
theorem dX9_trace_42 : decode cX9_trace 42 = .ok (.iload_n 2, 1) := dk_28 (dk_at dksX9_trace_1 18 rfl rfl)
theorem dX9_trace_43 : decode cX9_trace 43 = .ok (.iadd, 1) := dk_96 (dk_at dksX9_trace_1 19 rfl rfl)
theorem dX9_trace_44 : decode cX9_trace 44 = .ok (.iaload, 1) := dk_46 (dk_at dksX9_trace_1 20 rfl rfl)
theorem dX9_trace_45 : decode cX9_trace 45 = .ok (.iconst 1, 1) := dk_4 (dk_at dksX9_trace_1 21 rfl rfl)
theorem dX9_trace_46 : decode cX9_trace 46 = .ok (.isub, 1) := dk_100 (dk_at dksX9_trace_1 22 rfl rfl)
theorem dX9_trace_47 : decode cX9_trace 47 = .ok (.invokestatic 239, 3) := dk_184 0 239 (dk_at dksX9_trace_2 0 rfl rfl)
theorem dX9_trace_50 : decode cX9_trace 50 = .ok (.ifCond .eq 23, 3) := dk_153 0 23 (dk_at dksX9_trace_2 3 rfl rfl)
theorem dX9_trace_53 : decode cX9_trace 53 = .ok (.aload_n 0, 1) := dk_42 (dk_at dksX9_trace_2 6 rfl rfl)
theorem dX9_trace_54 : decode cX9_trace 54 = .ok (.getfield 166, 3) := dk_180 0 166 (dk_at dksX9_trace_2 7 rfl rfl)
theorem dX9_trace_57 : decode cX9_trace 57 = .ok (.sipush 5040, 3) := dk_17 19 176 (dk_at dksX9_trace_2 10 rfl rfl)
theorem dX9_trace_60 : decode cX9_trace 60 = .ok (.iload_n 1, 1) := dk_27 (dk_at dksX9_trace_2 13 rfl rfl)
theorem dX9_trace_61 : decode cX9_trace 61 = .ok (.imul, 1) := dk_104 (dk_at dksX9_trace_2 14 rfl rfl)
theorem dX9_trace_62 : decode cX9_trace 62 = .ok (.bipush 12, 2) := dk_16 12 (dk_at dksX9_trace_2 15 rfl rfl)
theorem dX9_trace_64 : decode cX9_trace 64 = .ok (.iload_n 2, 1) := dk_28 (dk_at dksX9_trace_2 17 rfl rfl)
theorem dX9_trace_65 : decode cX9_trace 65 = .ok (.imul, 1) := dk_104 (dk_at dksX9_trace_2 18 rfl rfl)
theorem dX9_trace_66 : decode cX9_trace 66 = .ok (.iadd, 1) := dk_96 (dk_at dksX9_trace_2 19 rfl rfl)
theorem dX9_trace_67 : decode cX9_trace 67 = .ok (.iload_n 3, 1) := dk_29 (dk_at dksX9_trace_2 20 rfl rfl)
theorem dX9_trace_68 : decode cX9_trace 68 = .ok (.iadd, 1) := dk_96 (dk_at dksX9_trace_2 21 rfl rfl)
theorem dX9_trace_69 : decode cX9_trace 69 = .ok (.iaload, 1) := dk_46 (dk_at dksX9_trace_2 22 rfl rfl)
theorem dX9_trace_70 : decode cX9_trace 70 = .ok (.goto 5, 3) := dk_167 0 5 (dk_at dksX9_trace_3 0 rfl rfl)
theorem dX9_trace_73 : decode cX9_trace 73 = .ok (.bipush (-9), 2) := dk_16 247 (dk_at dksX9_trace_3 3 rfl rfl)
theorem dX9_trace_75 : decode cX9_trace 75 = .ok (.ireturn, 1) := dk_172 (dk_at dksX9_trace_3 5 rfl rfl)
theorem okX9_trace_0 : XOkL xms rX9_trace bX9_trace_0 := xcP (xok_aload_n dX9_trace_0 rfl) rfl (xcP (xok_iload_n dX9_trace_1 rfl) rfl (xcC0 (xokc_list (List.forall_mem_cons.mpr ⟨xokc_V (r := (RX9, TX9, 96)) xm192 (List.mem_of_getElem? (i := 9) rfl) (by decide) rfl dX9_trace_2 q2597 q2599 qs135 q149 q2600 (by decide +kernel), fun _ h => nomatch h⟩)) rfl (xcP (xok_ifne dX9_trace_5 (by decide)) rfl (xcP (xok_iconst dX9_trace_8 rfl) rfl (xcR ⟨dX9_trace_9, rfl⟩)))))
theorem okX9_trace_10 : XOkL xms rX9_trace bX9_trace_10 := xcP (xok_iload_n dX9_trace_10 rfl) rfl (xcP (xok_iconst dX9_trace_11 rfl) rfl (xcP (xok_aload_n dX9_trace_12 rfl) rfl (xcP (xok_getfield (ref := "WaysAtlasModel") (Or.inr ⟨rfl, by decide⟩) dX9_trace_13 (Or.inl ⟨q1979, (Or.inl rfl)⟩) xh1086) rfl (xcP (xok_bipush dX9_trace_16 rfl) rfl (xcP (xok_iload_n dX9_trace_18 rfl) rfl (xcP (xok_imul dX9_trace_19) rfl (xcP (xok_iconst dX9_trace_20 rfl) rfl (xcP (xok_iadd dX9_trace_21) rfl (xcP (xok_iaload dX9_trace_22) rfl (xcP (xok_iconst dX9_trace_23 rfl) rfl (xcP (xok_isub dX9_trace_24) rfl (xcC0 (xokc_S xm99 rfl dX9_trace_25 q2224 q2225 q149 q2226 (by decide +kernel)) rfl (xcP (xok_ifeq dX9_trace_28 (by decide)) rfl (xcP (xok_iload_n dX9_trace_31 rfl) rfl (xcP (xok_iconst dX9_trace_32 rfl) rfl (xcP (xok_aload_n dX9_trace_33 rfl) rfl (xcP (xok_getfield (ref := "WaysAtlasModel") (Or.inr ⟨rfl, by decide⟩) dX9_trace_34 (Or.inl ⟨q1986, (Or.inl rfl)⟩) xh1093) rfl (xcP (xok_sipush dX9_trace_37 rfl) rfl (xcP (xok_iload_n dX9_trace_40 rfl) rfl (xcP (xok_imul dX9_trace_41) rfl (xcP (xok_iload_n dX9_trace_42 rfl) rfl (xcP (xok_iadd dX9_trace_43) rfl (xcP (xok_iaload dX9_trace_44) rfl (xcP (xok_iconst dX9_trace_45 rfl) rfl (xcP (xok_isub dX9_trace_46) rfl (xcC0 (xokc_S xm99 rfl dX9_trace_47 q2224 q2225 q149 q2226 (by decide +kernel)) rfl (xcP (xok_ifeq dX9_trace_50 (by decide)) rfl (xcP (xok_aload_n dX9_trace_53 rfl) rfl (xcP (xok_getfield (ref := "WaysAtlasModel") (Or.inr ⟨rfl, by decide⟩) dX9_trace_54 (Or.inl ⟨q1987, (Or.inl rfl)⟩) xh1094) rfl (xcP (xok_sipush dX9_trace_57 rfl) rfl (xcP (xok_iload_n dX9_trace_60 rfl) rfl (xcP (xok_imul dX9_trace_61) rfl (xcP (xok_bipush dX9_trace_62 rfl) rfl (xcP (xok_iload_n dX9_trace_64 rfl) rfl (xcP (xok_imul dX9_trace_65) rfl (xcP (xok_iadd dX9_trace_66) rfl (xcP (xok_iload_n dX9_trace_67 rfl) rfl (xcP (xok_iadd dX9_trace_68) rfl (xcP (xok_iaload dX9_trace_69) rfl (xcP (xok_goto dX9_trace_70 (by decide)) rfl trivial))))))))))))))))))))))))))))))))))))))))
theorem okX9_trace_73 : XOkL xms rX9_trace bX9_trace_73 := xcP (xok_bipush dX9_trace_73 rfl) rfl (xcP xok_fal rfl trivial)
theorem okX9_trace_75 : XOkL xms rX9_trace bX9_trace_75 := xcR ⟨dX9_trace_75, rfl⟩
theorem okM_X9_trace : XOkM xms rX9_trace := xokM0 (List.forall_mem_cons.mpr ⟨⟨rfl, okX9_trace_0⟩, List.forall_mem_cons.mpr ⟨⟨rfl, okX9_trace_10⟩, List.forall_mem_cons.mpr ⟨⟨rfl, okX9_trace_73⟩, List.forall_mem_cons.mpr ⟨⟨rfl, okX9_trace_75⟩, fun _ h => nomatch h⟩⟩⟩⟩) (xokH0 rfl (fun _ _ => rfl)) (by decide +kernel) (by decide)
abbrev cX9_closed : ByteArray := prog_36_method_101_code
def dkwX9_closed_2 : List UInt8 := [167, 0, 5, 16, 247, 172]
abbrev dktX9_closed_2 : List UInt8 := dkwX9_closed_2 ++ []
def dkwX9_closed_1 : List UInt8 := [96, 46, 4, 100, 184, 0, 239, 153, 0, 18, 42, 180, 0, 169, 17, 1, 154, 27, 104, 28, 96, 46]
abbrev dktX9_closed_1 : List UInt8 := dkwX9_closed_1 ++ dktX9_closed_2
def dkwX9_closed_0 : List UInt8 := [42, 27, 182, 2, 104, 154, 0, 7, 2, 167, 0, 42, 28, 3, 42, 180, 0, 142, 16, 10, 27, 104, 16, 6]
abbrev dktX9_closed_0 : List UInt8 := dkwX9_closed_0 ++ dktX9_closed_1
theorem dksX9_closed_0 : cX9_closed.data.toList.drop 0 = dktX9_closed_0 := by decide +kernel
theorem dksX9_closed_1 : cX9_closed.data.toList.drop 24 = dktX9_closed_1 := dk_seg dksX9_closed_0 24 rfl rfl
theorem dksX9_closed_2 : cX9_closed.data.toList.drop 46 = dktX9_closed_2 := dk_seg dksX9_closed_1 22 rfl rfl
theorem dX9_closed_0 : decode cX9_closed 0 = .ok (.aload_n 0, 1) := dk_42 (dk_at dksX9_closed_0 0 rfl rfl)
theorem dX9_closed_1 : decode cX9_closed 1 = .ok (.iload_n 1, 1) := dk_27 (dk_at dksX9_closed_0 1 rfl rfl)
theorem dX9_closed_2 : decode cX9_closed 2 = .ok (.invokevirtual 616, 3) := dk_182 2 104 (dk_at dksX9_closed_0 2 rfl rfl)
theorem dX9_closed_5 : decode cX9_closed 5 = .ok (.ifCond .ne 7, 3) := dk_154 0 7 (dk_at dksX9_closed_0 5 rfl rfl)
theorem dX9_closed_8 : decode cX9_closed 8 = .ok (.iconst (-1), 1) := dk_2 (dk_at dksX9_closed_0 8 rfl rfl)
theorem dX9_closed_9 : decode cX9_closed 9 = .ok (.goto 42, 3) := dk_167 0 42 (dk_at dksX9_closed_0 9 rfl rfl)
theorem dX9_closed_12 : decode cX9_closed 12 = .ok (.iload_n 2, 1) := dk_28 (dk_at dksX9_closed_0 12 rfl rfl)
theorem dX9_closed_13 : decode cX9_closed 13 = .ok (.iconst 0, 1) := dk_3 (dk_at dksX9_closed_0 13 rfl rfl)
theorem dX9_closed_14 : decode cX9_closed 14 = .ok (.aload_n 0, 1) := dk_42 (dk_at dksX9_closed_0 14 rfl rfl)
theorem dX9_closed_15 : decode cX9_closed 15 = .ok (.getfield 142, 3) := dk_180 0 142 (dk_at dksX9_closed_0 15 rfl rfl)
theorem dX9_closed_18 : decode cX9_closed 18 = .ok (.bipush 10, 2) := dk_16 10 (dk_at dksX9_closed_0 18 rfl rfl)
theorem dX9_closed_20 : decode cX9_closed 20 = .ok (.iload_n 1, 1) := dk_27 (dk_at dksX9_closed_0 20 rfl rfl)
theorem dX9_closed_21 : decode cX9_closed 21 = .ok (.imul, 1) := dk_104 (dk_at dksX9_closed_0 21 rfl rfl)
theorem dX9_closed_22 : decode cX9_closed 22 = .ok (.bipush 6, 2) := dk_16 6 (dk_at dksX9_closed_0 22 rfl rfl)
theorem dX9_closed_24 : decode cX9_closed 24 = .ok (.iadd, 1) := dk_96 (dk_at dksX9_closed_1 0 rfl rfl)
theorem dX9_closed_25 : decode cX9_closed 25 = .ok (.iaload, 1) := dk_46 (dk_at dksX9_closed_1 1 rfl rfl)
theorem dX9_closed_26 : decode cX9_closed 26 = .ok (.iconst 1, 1) := dk_4 (dk_at dksX9_closed_1 2 rfl rfl)
theorem dX9_closed_27 : decode cX9_closed 27 = .ok (.isub, 1) := dk_100 (dk_at dksX9_closed_1 3 rfl rfl)
theorem dX9_closed_28 : decode cX9_closed 28 = .ok (.invokestatic 239, 3) := dk_184 0 239 (dk_at dksX9_closed_1 4 rfl rfl)
theorem dX9_closed_31 : decode cX9_closed 31 = .ok (.ifCond .eq 18, 3) := dk_153 0 18 (dk_at dksX9_closed_1 7 rfl rfl)
theorem dX9_closed_34 : decode cX9_closed 34 = .ok (.aload_n 0, 1) := dk_42 (dk_at dksX9_closed_1 10 rfl rfl)
theorem dX9_closed_35 : decode cX9_closed 35 = .ok (.getfield 169, 3) := dk_180 0 169 (dk_at dksX9_closed_1 11 rfl rfl)
theorem dX9_closed_38 : decode cX9_closed 38 = .ok (.sipush 410, 3) := dk_17 1 154 (dk_at dksX9_closed_1 14 rfl rfl)
theorem dX9_closed_41 : decode cX9_closed 41 = .ok (.iload_n 1, 1) := dk_27 (dk_at dksX9_closed_1 17 rfl rfl)
theorem dX9_closed_42 : decode cX9_closed 42 = .ok (.imul, 1) := dk_104 (dk_at dksX9_closed_1 18 rfl rfl)
theorem dX9_closed_43 : decode cX9_closed 43 = .ok (.iload_n 2, 1) := dk_28 (dk_at dksX9_closed_1 19 rfl rfl)
theorem dX9_closed_44 : decode cX9_closed 44 = .ok (.iadd, 1) := dk_96 (dk_at dksX9_closed_1 20 rfl rfl)
theorem dX9_closed_45 : decode cX9_closed 45 = .ok (.iaload, 1) := dk_46 (dk_at dksX9_closed_1 21 rfl rfl)
theorem dX9_closed_46 : decode cX9_closed 46 = .ok (.goto 5, 3) := dk_167 0 5 (dk_at dksX9_closed_2 0 rfl rfl)
theorem dX9_closed_49 : decode cX9_closed 49 = .ok (.bipush (-9), 2) := dk_16 247 (dk_at dksX9_closed_2 3 rfl rfl)
theorem dX9_closed_51 : decode cX9_closed 51 = .ok (.ireturn, 1) := dk_172 (dk_at dksX9_closed_2 5 rfl rfl)
theorem okX9_closed_0 : XOkL xms rX9_closed bX9_closed_0 := xcP (xok_aload_n dX9_closed_0 rfl) rfl (xcP (xok_iload_n dX9_closed_1 rfl) rfl (xcC0 (xokc_list (List.forall_mem_cons.mpr ⟨xokc_V (r := (RX9, TX9, 96)) xm192 (List.mem_of_getElem? (i := 9) rfl) (by decide) rfl dX9_closed_2 q2597 q2599 qs135 q149 q2600 (by decide +kernel), fun _ h => nomatch h⟩)) rfl (xcP (xok_ifne dX9_closed_5 (by decide)) rfl (xcP (xok_iconst dX9_closed_8 rfl) rfl (xcP (xok_goto dX9_closed_9 (by decide)) rfl trivial)))))
theorem okX9_closed_12 : XOkL xms rX9_closed bX9_closed_12 := xcP (xok_iload_n dX9_closed_12 rfl) rfl (xcP (xok_iconst dX9_closed_13 rfl) rfl (xcP (xok_aload_n dX9_closed_14 rfl) rfl (xcP (xok_getfield (ref := "WaysAtlasModel") (Or.inr ⟨rfl, by decide⟩) dX9_closed_15 (Or.inl ⟨q1979, (Or.inl rfl)⟩) xh1086) rfl (xcP (xok_bipush dX9_closed_18 rfl) rfl (xcP (xok_iload_n dX9_closed_20 rfl) rfl (xcP (xok_imul dX9_closed_21) rfl (xcP (xok_bipush dX9_closed_22 rfl) rfl (xcP (xok_iadd dX9_closed_24) rfl (xcP (xok_iaload dX9_closed_25) rfl (xcP (xok_iconst dX9_closed_26 rfl) rfl (xcP (xok_isub dX9_closed_27) rfl (xcC0 (xokc_S xm99 rfl dX9_closed_28 q2224 q2225 q149 q2226 (by decide +kernel)) rfl (xcP (xok_ifeq dX9_closed_31 (by decide)) rfl (xcP (xok_aload_n dX9_closed_34 rfl) rfl (xcP (xok_getfield (ref := "WaysAtlasModel") (Or.inr ⟨rfl, by decide⟩) dX9_closed_35 (Or.inl ⟨q1988, (Or.inl rfl)⟩) xh1095) rfl (xcP (xok_sipush dX9_closed_38 rfl) rfl (xcP (xok_iload_n dX9_closed_41 rfl) rfl (xcP (xok_imul dX9_closed_42) rfl (xcP (xok_iload_n dX9_closed_43 rfl) rfl (xcP (xok_iadd dX9_closed_44) rfl (xcP (xok_iaload dX9_closed_45) rfl (xcP (xok_goto dX9_closed_46 (by decide)) rfl trivial))))))))))))))))))))))
theorem okX9_closed_49 : XOkL xms rX9_closed bX9_closed_49 := xcP (xok_bipush dX9_closed_49 rfl) rfl (xcP xok_fal rfl trivial)
theorem okX9_closed_51 : XOkL xms rX9_closed bX9_closed_51 := xcR ⟨dX9_closed_51, rfl⟩
theorem okM_X9_closed : XOkM xms rX9_closed := xokM0 (List.forall_mem_cons.mpr ⟨⟨rfl, okX9_closed_0⟩, List.forall_mem_cons.mpr ⟨⟨rfl, okX9_closed_12⟩, List.forall_mem_cons.mpr ⟨⟨rfl, okX9_closed_49⟩, List.forall_mem_cons.mpr ⟨⟨rfl, okX9_closed_51⟩, fun _ h => nomatch h⟩⟩⟩⟩) (xokH0 rfl (fun _ _ => rfl)) (by decide +kernel) (by decide)
abbrev cX9_entered : ByteArray := prog_36_method_102_code
def dkwX9_entered_1 : List UInt8 := [155, 0, 17, 42, 180, 0, 172, 16, 80, 27, 104, 28, 96, 46, 167, 0, 4, 2, 172]
abbrev dktX9_entered_1 : List UInt8 := dkwX9_entered_1 ++ []
def dkwX9_entered_0 : List UInt8 := [42, 27, 182, 2, 104, 153, 0, 35, 42, 28, 182, 1, 203, 153, 0, 27, 42, 28, 16, 9, 182, 1, 200]
abbrev dktX9_entered_0 : List UInt8 := dkwX9_entered_0 ++ dktX9_entered_1
theorem dksX9_entered_0 : cX9_entered.data.toList.drop 0 = dktX9_entered_0 := by decide +kernel
theorem dksX9_entered_1 : cX9_entered.data.toList.drop 23 = dktX9_entered_1 := dk_seg dksX9_entered_0 23 rfl rfl
theorem dX9_entered_0 : decode cX9_entered 0 = .ok (.aload_n 0, 1) := dk_42 (dk_at dksX9_entered_0 0 rfl rfl)
theorem dX9_entered_1 : decode cX9_entered 1 = .ok (.iload_n 1, 1) := dk_27 (dk_at dksX9_entered_0 1 rfl rfl)
theorem dX9_entered_2 : decode cX9_entered 2 = .ok (.invokevirtual 616, 3) := dk_182 2 104 (dk_at dksX9_entered_0 2 rfl rfl)
theorem dX9_entered_5 : decode cX9_entered 5 = .ok (.ifCond .eq 35, 3) := dk_153 0 35 (dk_at dksX9_entered_0 5 rfl rfl)
theorem dX9_entered_8 : decode cX9_entered 8 = .ok (.aload_n 0, 1) := dk_42 (dk_at dksX9_entered_0 8 rfl rfl)
theorem dX9_entered_9 : decode cX9_entered 9 = .ok (.iload_n 2, 1) := dk_28 (dk_at dksX9_entered_0 9 rfl rfl)
theorem dX9_entered_10 : decode cX9_entered 10 = .ok (.invokevirtual 459, 3) := dk_182 1 203 (dk_at dksX9_entered_0 10 rfl rfl)
theorem dX9_entered_13 : decode cX9_entered 13 = .ok (.ifCond .eq 27, 3) := dk_153 0 27 (dk_at dksX9_entered_0 13 rfl rfl)
theorem dX9_entered_16 : decode cX9_entered 16 = .ok (.aload_n 0, 1) := dk_42 (dk_at dksX9_entered_0 16 rfl rfl)
theorem dX9_entered_17 : decode cX9_entered 17 = .ok (.iload_n 2, 1) := dk_28 (dk_at dksX9_entered_0 17 rfl rfl)
theorem dX9_entered_18 : decode cX9_entered 18 = .ok (.bipush 9, 2) := dk_16 9 (dk_at dksX9_entered_0 18 rfl rfl)
theorem dX9_entered_20 : decode cX9_entered 20 = .ok (.invokevirtual 456, 3) := dk_182 1 200 (dk_at dksX9_entered_0 20 rfl rfl)
theorem dX9_entered_23 : decode cX9_entered 23 = .ok (.ifCond .lt 17, 3) := dk_155 0 17 (dk_at dksX9_entered_1 0 rfl rfl)
theorem dX9_entered_26 : decode cX9_entered 26 = .ok (.aload_n 0, 1) := dk_42 (dk_at dksX9_entered_1 3 rfl rfl)
theorem dX9_entered_27 : decode cX9_entered 27 = .ok (.getfield 172, 3) := dk_180 0 172 (dk_at dksX9_entered_1 4 rfl rfl)
theorem dX9_entered_30 : decode cX9_entered 30 = .ok (.bipush 80, 2) := dk_16 80 (dk_at dksX9_entered_1 7 rfl rfl)
theorem dX9_entered_32 : decode cX9_entered 32 = .ok (.iload_n 1, 1) := dk_27 (dk_at dksX9_entered_1 9 rfl rfl)
theorem dX9_entered_33 : decode cX9_entered 33 = .ok (.imul, 1) := dk_104 (dk_at dksX9_entered_1 10 rfl rfl)
theorem dX9_entered_34 : decode cX9_entered 34 = .ok (.iload_n 2, 1) := dk_28 (dk_at dksX9_entered_1 11 rfl rfl)
theorem dX9_entered_35 : decode cX9_entered 35 = .ok (.iadd, 1) := dk_96 (dk_at dksX9_entered_1 12 rfl rfl)
theorem dX9_entered_36 : decode cX9_entered 36 = .ok (.iaload, 1) := dk_46 (dk_at dksX9_entered_1 13 rfl rfl)
theorem dX9_entered_37 : decode cX9_entered 37 = .ok (.goto 4, 3) := dk_167 0 4 (dk_at dksX9_entered_1 14 rfl rfl)
theorem dX9_entered_40 : decode cX9_entered 40 = .ok (.iconst (-1), 1) := dk_2 (dk_at dksX9_entered_1 17 rfl rfl)
theorem dX9_entered_41 : decode cX9_entered 41 = .ok (.ireturn, 1) := dk_172 (dk_at dksX9_entered_1 18 rfl rfl)
theorem okX9_entered_0 : XOkL xms rX9_entered bX9_entered_0 := xcP (xok_aload_n dX9_entered_0 rfl) rfl (xcP (xok_iload_n dX9_entered_1 rfl) rfl (xcC0 (xokc_list (List.forall_mem_cons.mpr ⟨xokc_V (r := (RX9, TX9, 96)) xm192 (List.mem_of_getElem? (i := 9) rfl) (by decide) rfl dX9_entered_2 q2597 q2599 qs135 q149 q2600 (by decide +kernel), fun _ h => nomatch h⟩)) rfl (xcP (xok_ifeq dX9_entered_5 (by decide)) rfl (xcP (xok_aload_n dX9_entered_8 rfl) rfl (xcP (xok_iload_n dX9_entered_9 rfl) rfl (xcC0 (xokc_list (List.forall_mem_cons.mpr ⟨xokc_V (r := (RX9, TX9, 96)) xm151 (List.mem_of_getElem? (i := 9) rfl) (by decide) rfl dX9_entered_10 q2433 q2435 qs98 q149 q2436 (by decide +kernel), fun _ h => nomatch h⟩)) rfl (xcP (xok_ifeq dX9_entered_13 (by decide)) rfl (xcP (xok_aload_n dX9_entered_16 rfl) rfl (xcP (xok_iload_n dX9_entered_17 rfl) rfl (xcP (xok_bipush dX9_entered_18 rfl) rfl (xcC0 (xokc_list (List.forall_mem_cons.mpr ⟨xokc_V (r := (RX9, TX9, 96)) xm153 (List.mem_of_getElem? (i := 9) rfl) (by decide) rfl dX9_entered_20 q2441 q2443 qs100 q149 q2444 (by decide +kernel), fun _ h => nomatch h⟩)) rfl (xcP (xok_iflt dX9_entered_23 (by decide)) rfl (xcP (xok_aload_n dX9_entered_26 rfl) rfl (xcP (xok_getfield (ref := "WaysAtlasModel") (Or.inr ⟨rfl, by decide⟩) dX9_entered_27 (Or.inl ⟨q1989, (Or.inl rfl)⟩) xh1096) rfl (xcP (xok_bipush dX9_entered_30 rfl) rfl (xcP (xok_iload_n dX9_entered_32 rfl) rfl (xcP (xok_imul dX9_entered_33) rfl (xcP (xok_iload_n dX9_entered_34 rfl) rfl (xcP (xok_iadd dX9_entered_35) rfl (xcP (xok_iaload dX9_entered_36) rfl (xcP (xok_goto dX9_entered_37 (by decide)) rfl trivial)))))))))))))))))))))
theorem okX9_entered_40 : XOkL xms rX9_entered bX9_entered_40 := xcP (xok_iconst dX9_entered_40 rfl) rfl (xcP xok_fal rfl trivial)
theorem okX9_entered_41 : XOkL xms rX9_entered bX9_entered_41 := xcR ⟨dX9_entered_41, rfl⟩
theorem okM_X9_entered : XOkM xms rX9_entered := xokM0 (List.forall_mem_cons.mpr ⟨⟨rfl, okX9_entered_0⟩, List.forall_mem_cons.mpr ⟨⟨rfl, okX9_entered_40⟩, List.forall_mem_cons.mpr ⟨⟨rfl, okX9_entered_41⟩, fun _ h => nomatch h⟩⟩⟩) (xokH0 rfl (fun _ _ => rfl)) (by decide +kernel) (by decide)
abbrev cX9_ways : ByteArray := prog_36_method_104_code
def dkwX9_ways_5 : List UInt8 := [167, 255, 195, 42, 180, 2, 107, 172]
abbrev dktX9_ways_5 : List UInt8 := dkwX9_ways_5 ++ []
def dkwX9_ways_4 : List UInt8 := [181, 1, 234, 42, 27, 28, 29, 17, 1, 144, 182, 2, 100, 54, 4, 42, 182, 2, 110, 132, 5, 1]
abbrev dktX9_ways_4 : List UInt8 := dkwX9_ways_4 ++ dktX9_ways_5
def dkwX9_ways_3 : List UInt8 := [46, 181, 1, 228, 42, 42, 180, 0, 223, 21, 5, 46, 181, 1, 231, 42, 42, 180, 0, 226, 21, 5, 46]
abbrev dktX9_ways_3 : List UInt8 := dkwX9_ways_3 ++ dktX9_ways_4
def dkwX9_ways_2 : List UInt8 := [42, 5, 181, 1, 222, 3, 54, 5, 21, 5, 42, 180, 1, 225, 162, 0, 58, 42, 42, 180, 0, 220, 21, 5]
abbrev dktX9_ways_2 : List UInt8 := dkwX9_ways_2 ++ dktX9_ways_3
def dkwX9_ways_1 : List UInt8 := [181, 1, 225, 42, 3, 181, 2, 107, 42, 27, 28, 29, 17, 1, 144, 182, 2, 100, 54, 4, 42, 182, 2, 110]
abbrev dktX9_ways_1 : List UInt8 := dkwX9_ways_1 ++ dktX9_ways_2
def dkwX9_ways_0 : List UInt8 := [42, 27, 182, 2, 97, 154, 0, 5, 2, 172, 42, 5, 181, 1, 219, 42, 4, 181, 1, 222, 42, 3]
abbrev dktX9_ways_0 : List UInt8 := dkwX9_ways_0 ++ dktX9_ways_1
theorem dksX9_ways_0 : cX9_ways.data.toList.drop 0 = dktX9_ways_0 := by decide +kernel
theorem dksX9_ways_1 : cX9_ways.data.toList.drop 22 = dktX9_ways_1 := dk_seg dksX9_ways_0 22 rfl rfl
theorem dksX9_ways_2 : cX9_ways.data.toList.drop 46 = dktX9_ways_2 := dk_seg dksX9_ways_1 24 rfl rfl
theorem dksX9_ways_3 : cX9_ways.data.toList.drop 70 = dktX9_ways_3 := dk_seg dksX9_ways_2 24 rfl rfl
theorem dksX9_ways_4 : cX9_ways.data.toList.drop 93 = dktX9_ways_4 := dk_seg dksX9_ways_3 23 rfl rfl
theorem dksX9_ways_5 : cX9_ways.data.toList.drop 115 = dktX9_ways_5 := dk_seg dksX9_ways_4 22 rfl rfl
theorem dX9_ways_0 : decode cX9_ways 0 = .ok (.aload_n 0, 1) := dk_42 (dk_at dksX9_ways_0 0 rfl rfl)
theorem dX9_ways_1 : decode cX9_ways 1 = .ok (.iload_n 1, 1) := dk_27 (dk_at dksX9_ways_0 1 rfl rfl)
theorem dX9_ways_2 : decode cX9_ways 2 = .ok (.invokevirtual 609, 3) := dk_182 2 97 (dk_at dksX9_ways_0 2 rfl rfl)
theorem dX9_ways_5 : decode cX9_ways 5 = .ok (.ifCond .ne 5, 3) := dk_154 0 5 (dk_at dksX9_ways_0 5 rfl rfl)
theorem dX9_ways_8 : decode cX9_ways 8 = .ok (.iconst (-1), 1) := dk_2 (dk_at dksX9_ways_0 8 rfl rfl)
theorem dX9_ways_9 : decode cX9_ways 9 = .ok (.ireturn, 1) := dk_172 (dk_at dksX9_ways_0 9 rfl rfl)
theorem dX9_ways_10 : decode cX9_ways 10 = .ok (.aload_n 0, 1) := dk_42 (dk_at dksX9_ways_0 10 rfl rfl)
theorem dX9_ways_11 : decode cX9_ways 11 = .ok (.iconst 2, 1) := dk_5 (dk_at dksX9_ways_0 11 rfl rfl)
theorem dX9_ways_12 : decode cX9_ways 12 = .ok (.putfield 475, 3) := dk_181 1 219 (dk_at dksX9_ways_0 12 rfl rfl)
theorem dX9_ways_15 : decode cX9_ways 15 = .ok (.aload_n 0, 1) := dk_42 (dk_at dksX9_ways_0 15 rfl rfl)
theorem dX9_ways_16 : decode cX9_ways 16 = .ok (.iconst 1, 1) := dk_4 (dk_at dksX9_ways_0 16 rfl rfl)
theorem dX9_ways_17 : decode cX9_ways 17 = .ok (.putfield 478, 3) := dk_181 1 222 (dk_at dksX9_ways_0 17 rfl rfl)
theorem dX9_ways_20 : decode cX9_ways 20 = .ok (.aload_n 0, 1) := dk_42 (dk_at dksX9_ways_0 20 rfl rfl)
theorem dX9_ways_21 : decode cX9_ways 21 = .ok (.iconst 0, 1) := dk_3 (dk_at dksX9_ways_0 21 rfl rfl)
theorem dX9_ways_22 : decode cX9_ways 22 = .ok (.putfield 481, 3) := dk_181 1 225 (dk_at dksX9_ways_1 0 rfl rfl)
theorem dX9_ways_25 : decode cX9_ways 25 = .ok (.aload_n 0, 1) := dk_42 (dk_at dksX9_ways_1 3 rfl rfl)
theorem dX9_ways_26 : decode cX9_ways 26 = .ok (.iconst 0, 1) := dk_3 (dk_at dksX9_ways_1 4 rfl rfl)
theorem dX9_ways_27 : decode cX9_ways 27 = .ok (.putfield 619, 3) := dk_181 2 107 (dk_at dksX9_ways_1 5 rfl rfl)
theorem dX9_ways_30 : decode cX9_ways 30 = .ok (.aload_n 0, 1) := dk_42 (dk_at dksX9_ways_1 8 rfl rfl)
theorem dX9_ways_31 : decode cX9_ways 31 = .ok (.iload_n 1, 1) := dk_27 (dk_at dksX9_ways_1 9 rfl rfl)
theorem dX9_ways_32 : decode cX9_ways 32 = .ok (.iload_n 2, 1) := dk_28 (dk_at dksX9_ways_1 10 rfl rfl)
theorem dX9_ways_33 : decode cX9_ways 33 = .ok (.iload_n 3, 1) := dk_29 (dk_at dksX9_ways_1 11 rfl rfl)
theorem dX9_ways_34 : decode cX9_ways 34 = .ok (.sipush 400, 3) := dk_17 1 144 (dk_at dksX9_ways_1 12 rfl rfl)
theorem dX9_ways_37 : decode cX9_ways 37 = .ok (.invokevirtual 612, 3) := dk_182 2 100 (dk_at dksX9_ways_1 15 rfl rfl)
theorem dX9_ways_40 : decode cX9_ways 40 = .ok (.istore 4, 2) := dk_54 4 (dk_at dksX9_ways_1 18 rfl rfl)
theorem dX9_ways_42 : decode cX9_ways 42 = .ok (.aload_n 0, 1) := dk_42 (dk_at dksX9_ways_1 20 rfl rfl)
theorem dX9_ways_43 : decode cX9_ways 43 = .ok (.invokevirtual 622, 3) := dk_182 2 110 (dk_at dksX9_ways_1 21 rfl rfl)
theorem dX9_ways_46 : decode cX9_ways 46 = .ok (.aload_n 0, 1) := dk_42 (dk_at dksX9_ways_2 0 rfl rfl)
theorem dX9_ways_47 : decode cX9_ways 47 = .ok (.iconst 2, 1) := dk_5 (dk_at dksX9_ways_2 1 rfl rfl)
theorem dX9_ways_48 : decode cX9_ways 48 = .ok (.putfield 478, 3) := dk_181 1 222 (dk_at dksX9_ways_2 2 rfl rfl)
theorem dX9_ways_51 : decode cX9_ways 51 = .ok (.iconst 0, 1) := dk_3 (dk_at dksX9_ways_2 5 rfl rfl)
theorem dX9_ways_52 : decode cX9_ways 52 = .ok (.istore 5, 2) := dk_54 5 (dk_at dksX9_ways_2 6 rfl rfl)
theorem dX9_ways_54 : decode cX9_ways 54 = .ok (.iload 5, 2) := dk_21 5 (dk_at dksX9_ways_2 8 rfl rfl)
theorem dX9_ways_56 : decode cX9_ways 56 = .ok (.aload_n 0, 1) := dk_42 (dk_at dksX9_ways_2 10 rfl rfl)
theorem dX9_ways_57 : decode cX9_ways 57 = .ok (.getfield 481, 3) := dk_180 1 225 (dk_at dksX9_ways_2 11 rfl rfl)
theorem dX9_ways_60 : decode cX9_ways 60 = .ok (.if_icmp .ge 58, 3) := dk_162 0 58 (dk_at dksX9_ways_2 14 rfl rfl)
theorem dX9_ways_63 : decode cX9_ways 63 = .ok (.aload_n 0, 1) := dk_42 (dk_at dksX9_ways_2 17 rfl rfl)
theorem dX9_ways_64 : decode cX9_ways 64 = .ok (.aload_n 0, 1) := dk_42 (dk_at dksX9_ways_2 18 rfl rfl)
theorem dX9_ways_65 : decode cX9_ways 65 = .ok (.getfield 220, 3) := dk_180 0 220 (dk_at dksX9_ways_2 19 rfl rfl)
theorem dX9_ways_68 : decode cX9_ways 68 = .ok (.iload 5, 2) := dk_21 5 (dk_at dksX9_ways_2 22 rfl rfl)
theorem dX9_ways_70 : decode cX9_ways 70 = .ok (.iaload, 1) := dk_46 (dk_at dksX9_ways_3 0 rfl rfl)
theorem dX9_ways_71 : decode cX9_ways 71 = .ok (.putfield 484, 3) := dk_181 1 228 (dk_at dksX9_ways_3 1 rfl rfl)
theorem dX9_ways_74 : decode cX9_ways 74 = .ok (.aload_n 0, 1) := dk_42 (dk_at dksX9_ways_3 4 rfl rfl)
theorem dX9_ways_75 : decode cX9_ways 75 = .ok (.aload_n 0, 1) := dk_42 (dk_at dksX9_ways_3 5 rfl rfl)
theorem dX9_ways_76 : decode cX9_ways 76 = .ok (.getfield 223, 3) := dk_180 0 223 (dk_at dksX9_ways_3 6 rfl rfl)
theorem dX9_ways_79 : decode cX9_ways 79 = .ok (.iload 5, 2) := dk_21 5 (dk_at dksX9_ways_3 9 rfl rfl)
theorem dX9_ways_81 : decode cX9_ways 81 = .ok (.iaload, 1) := dk_46 (dk_at dksX9_ways_3 11 rfl rfl)
theorem dX9_ways_82 : decode cX9_ways 82 = .ok (.putfield 487, 3) := dk_181 1 231 (dk_at dksX9_ways_3 12 rfl rfl)
theorem dX9_ways_85 : decode cX9_ways 85 = .ok (.aload_n 0, 1) := dk_42 (dk_at dksX9_ways_3 15 rfl rfl)
theorem dX9_ways_86 : decode cX9_ways 86 = .ok (.aload_n 0, 1) := dk_42 (dk_at dksX9_ways_3 16 rfl rfl)
theorem dX9_ways_87 : decode cX9_ways 87 = .ok (.getfield 226, 3) := dk_180 0 226 (dk_at dksX9_ways_3 17 rfl rfl)
theorem dX9_ways_90 : decode cX9_ways 90 = .ok (.iload 5, 2) := dk_21 5 (dk_at dksX9_ways_3 20 rfl rfl)
theorem dX9_ways_92 : decode cX9_ways 92 = .ok (.iaload, 1) := dk_46 (dk_at dksX9_ways_3 22 rfl rfl)
theorem dX9_ways_93 : decode cX9_ways 93 = .ok (.putfield 490, 3) := dk_181 1 234 (dk_at dksX9_ways_4 0 rfl rfl)
theorem dX9_ways_96 : decode cX9_ways 96 = .ok (.aload_n 0, 1) := dk_42 (dk_at dksX9_ways_4 3 rfl rfl)
theorem dX9_ways_97 : decode cX9_ways 97 = .ok (.iload_n 1, 1) := dk_27 (dk_at dksX9_ways_4 4 rfl rfl)
theorem dX9_ways_98 : decode cX9_ways 98 = .ok (.iload_n 2, 1) := dk_28 (dk_at dksX9_ways_4 5 rfl rfl)
theorem dX9_ways_99 : decode cX9_ways 99 = .ok (.iload_n 3, 1) := dk_29 (dk_at dksX9_ways_4 6 rfl rfl)
theorem dX9_ways_100 : decode cX9_ways 100 = .ok (.sipush 400, 3) := dk_17 1 144 (dk_at dksX9_ways_4 7 rfl rfl)
theorem dX9_ways_103 : decode cX9_ways 103 = .ok (.invokevirtual 612, 3) := dk_182 2 100 (dk_at dksX9_ways_4 10 rfl rfl)
theorem dX9_ways_106 : decode cX9_ways 106 = .ok (.istore 4, 2) := dk_54 4 (dk_at dksX9_ways_4 13 rfl rfl)
theorem dX9_ways_108 : decode cX9_ways 108 = .ok (.aload_n 0, 1) := dk_42 (dk_at dksX9_ways_4 15 rfl rfl)
theorem dX9_ways_109 : decode cX9_ways 109 = .ok (.invokevirtual 622, 3) := dk_182 2 110 (dk_at dksX9_ways_4 16 rfl rfl)
theorem dX9_ways_112 : decode cX9_ways 112 = .ok (.iinc 5 1, 3) := dk_132 5 1 (dk_at dksX9_ways_4 19 rfl rfl)
theorem dX9_ways_115 : decode cX9_ways 115 = .ok (.goto (-61), 3) := dk_167 255 195 (dk_at dksX9_ways_5 0 rfl rfl)
theorem dX9_ways_118 : decode cX9_ways 118 = .ok (.aload_n 0, 1) := dk_42 (dk_at dksX9_ways_5 3 rfl rfl)
theorem dX9_ways_119 : decode cX9_ways 119 = .ok (.getfield 619, 3) := dk_180 2 107 (dk_at dksX9_ways_5 4 rfl rfl)
theorem dX9_ways_122 : decode cX9_ways 122 = .ok (.ireturn, 1) := dk_172 (dk_at dksX9_ways_5 7 rfl rfl)
theorem okX9_ways_0 : XOkL xms rX9_ways bX9_ways_0 := xcP (xok_aload_n dX9_ways_0 rfl) rfl (xcP (xok_iload_n dX9_ways_1 rfl) rfl (xcC0 (xokc_list (List.forall_mem_cons.mpr ⟨xokc_V (r := (RX9, TX9, 96)) xm158 (List.mem_of_getElem? (i := 9) rfl) (by decide) rfl dX9_ways_2 q2461 q2463 qs102 q149 q2464 (by decide +kernel), fun _ h => nomatch h⟩)) rfl (xcP (xok_ifne dX9_ways_5 (by decide)) rfl (xcP (xok_iconst dX9_ways_8 rfl) rfl (xcR ⟨dX9_ways_9, rfl⟩)))))
theorem okX9_ways_10 : XOkL xms rX9_ways bX9_ways_10 := xcP (xok_aload_n dX9_ways_10 rfl) rfl (xcP (xok_iconst dX9_ways_11 rfl) rfl (xcP (xok_putfield (ref := "WaysAtlasModel") (Or.inl ⟨rfl, by decide, rfl⟩) dX9_ways_12 (Or.inl ⟨q1978, (Or.inl rfl)⟩) (Or.inl rfl) xh58) rfl (xcP (xok_aload_n dX9_ways_15 rfl) rfl (xcP (xok_iconst dX9_ways_16 rfl) rfl (xcP (xok_putfield (ref := "WaysAtlasModel") (Or.inl ⟨rfl, by decide, rfl⟩) dX9_ways_17 (Or.inl ⟨q2012, (Or.inl rfl)⟩) (Or.inl rfl) xh66) rfl (xcP (xok_aload_n dX9_ways_20 rfl) rfl (xcP (xok_iconst dX9_ways_21 rfl) rfl (xcP (xok_putfield (ref := "WaysAtlasModel") (Or.inl ⟨rfl, by decide, rfl⟩) dX9_ways_22 (Or.inl ⟨q2016, (Or.inl rfl)⟩) (Or.inl rfl) xh70) rfl (xcP (xok_aload_n dX9_ways_25 rfl) rfl (xcP (xok_iconst dX9_ways_26 rfl) rfl (xcP (xok_putfield (ref := "WaysAtlasModel") (Or.inl ⟨rfl, by decide, rfl⟩) dX9_ways_27 (Or.inl ⟨q2024, (Or.inl rfl)⟩) (Or.inl rfl) xh73) rfl (xcP (xok_aload_n dX9_ways_30 rfl) rfl (xcP (xok_iload_n dX9_ways_31 rfl) rfl (xcP (xok_iload_n dX9_ways_32 rfl) rfl (xcP (xok_iload_n dX9_ways_33 rfl) rfl (xcP (xok_sipush dX9_ways_34 rfl) rfl (xcC0 (xokc_list (List.forall_mem_cons.mpr ⟨xokc_V (r := (RX9, TX9, 96)) xm159 (List.mem_of_getElem? (i := 9) rfl) (by decide) rfl dX9_ways_37 q2465 q2467 qs103 q149 q2468 (by decide +kernel), fun _ h => nomatch h⟩)) rfl (xcP (xok_istore dX9_ways_40) rfl (xcP (xok_aload_n dX9_ways_42 rfl) rfl (xcC0 (xokc_list (List.forall_mem_cons.mpr ⟨xokc_V (r := (RX9, TX9, 96)) xm199 (List.mem_of_getElem? (i := 9) rfl) (by decide) rfl dX9_ways_43 q2625 q2627 qs136 q149 q2628 (by decide +kernel), fun _ h => nomatch h⟩)) rfl (xcP (xok_aload_n dX9_ways_46 rfl) rfl (xcP (xok_iconst dX9_ways_47 rfl) rfl (xcP (xok_putfield (ref := "WaysAtlasModel") (Or.inl ⟨rfl, by decide, rfl⟩) dX9_ways_48 (Or.inl ⟨q2012, (Or.inl rfl)⟩) (Or.inl rfl) xh66) rfl (xcP (xok_iconst dX9_ways_51 rfl) rfl (xcP (xok_istore dX9_ways_52) rfl (xcP xok_fal rfl trivial))))))))))))))))))))))))))
theorem okX9_ways_54 : XOkL xms rX9_ways bX9_ways_54 := xcP (xok_iload dX9_ways_54) rfl (xcP (xok_aload_n dX9_ways_56 rfl) rfl (xcP (xok_getfield (ref := "WaysAtlasModel") (Or.inl ⟨rfl, by decide⟩) dX9_ways_57 (Or.inl ⟨q2016, (Or.inl rfl)⟩) xh70) rfl (xcP (xok_icmpge dX9_ways_60 (by decide)) rfl (xcP (xok_aload_n dX9_ways_63 rfl) rfl (xcP (xok_aload_n dX9_ways_64 rfl) rfl (xcP (xok_getfield (ref := "WaysAtlasModel") (Or.inr ⟨rfl, by decide⟩) dX9_ways_65 (Or.inl ⟨q2017, (Or.inl rfl)⟩) xh1112) rfl (xcP (xok_iload dX9_ways_68) rfl (xcP (xok_iaload dX9_ways_70) rfl (xcP (xok_putfield (ref := "WaysAtlasModel") (Or.inl ⟨rfl, by decide, rfl⟩) dX9_ways_71 (Or.inl ⟨q2013, (Or.inl rfl)⟩) (Or.inl rfl) xh67) rfl (xcP (xok_aload_n dX9_ways_74 rfl) rfl (xcP (xok_aload_n dX9_ways_75 rfl) rfl (xcP (xok_getfield (ref := "WaysAtlasModel") (Or.inr ⟨rfl, by decide⟩) dX9_ways_76 (Or.inl ⟨q2018, (Or.inl rfl)⟩) xh1113) rfl (xcP (xok_iload dX9_ways_79) rfl (xcP (xok_iaload dX9_ways_81) rfl (xcP (xok_putfield (ref := "WaysAtlasModel") (Or.inl ⟨rfl, by decide, rfl⟩) dX9_ways_82 (Or.inl ⟨q2014, (Or.inl rfl)⟩) (Or.inl rfl) xh68) rfl (xcP (xok_aload_n dX9_ways_85 rfl) rfl (xcP (xok_aload_n dX9_ways_86 rfl) rfl (xcP (xok_getfield (ref := "WaysAtlasModel") (Or.inr ⟨rfl, by decide⟩) dX9_ways_87 (Or.inl ⟨q2019, (Or.inl rfl)⟩) xh1114) rfl (xcP (xok_iload dX9_ways_90) rfl (xcP (xok_iaload dX9_ways_92) rfl (xcP (xok_putfield (ref := "WaysAtlasModel") (Or.inl ⟨rfl, by decide, rfl⟩) dX9_ways_93 (Or.inl ⟨q2015, (Or.inl rfl)⟩) (Or.inl rfl) xh69) rfl (xcP (xok_aload_n dX9_ways_96 rfl) rfl (xcP (xok_iload_n dX9_ways_97 rfl) rfl (xcP (xok_iload_n dX9_ways_98 rfl) rfl (xcP (xok_iload_n dX9_ways_99 rfl) rfl (xcP (xok_sipush dX9_ways_100 rfl) rfl (xcC0 (xokc_list (List.forall_mem_cons.mpr ⟨xokc_V (r := (RX9, TX9, 96)) xm159 (List.mem_of_getElem? (i := 9) rfl) (by decide) rfl dX9_ways_103 q2465 q2467 qs103 q149 q2468 (by decide +kernel), fun _ h => nomatch h⟩)) rfl (xcP (xok_istore dX9_ways_106) rfl (xcP (xok_aload_n dX9_ways_108 rfl) rfl (xcC0 (xokc_list (List.forall_mem_cons.mpr ⟨xokc_V (r := (RX9, TX9, 96)) xm199 (List.mem_of_getElem? (i := 9) rfl) (by decide) rfl dX9_ways_109 q2625 q2627 qs136 q149 q2628 (by decide +kernel), fun _ h => nomatch h⟩)) rfl (xcP (xok_iinc dX9_ways_112 rfl) rfl (xcP (xok_goto dX9_ways_115 (by decide)) rfl trivial))))))))))))))))))))))))))))))))
theorem okX9_ways_118 : XOkL xms rX9_ways bX9_ways_118 := xcP (xok_aload_n dX9_ways_118 rfl) rfl (xcP (xok_getfield (ref := "WaysAtlasModel") (Or.inl ⟨rfl, by decide⟩) dX9_ways_119 (Or.inl ⟨q2024, (Or.inl rfl)⟩) xh73) rfl (xcR ⟨dX9_ways_122, rfl⟩))
theorem okM_X9_ways : XOkM xms rX9_ways := xokM0 (List.forall_mem_cons.mpr ⟨⟨rfl, okX9_ways_0⟩, List.forall_mem_cons.mpr ⟨⟨rfl, okX9_ways_10⟩, List.forall_mem_cons.mpr ⟨⟨rfl, okX9_ways_54⟩, List.forall_mem_cons.mpr ⟨⟨rfl, okX9_ways_118⟩, fun _ h => nomatch h⟩⟩⟩⟩) (xokH0 rfl (fun _ _ => rfl)) (by decide +kernel) (by decide)
