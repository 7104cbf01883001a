set_option maxRecDepth 100000
theorem q137 : (Jvm.Cond.initialized "WaysAtlasLaw") ∈ lw_all := lw_g (lw_at lw_m1 0 rfl) rfl
theorem q180 : (Jvm.Cond.classLink "WaysAtlasLaw" (7 : Nat) "WaysAtlas") ∈ lw_all := lw_g (lw_at lw_m1 43 rfl) rfl
theorem q182 : (Jvm.Cond.methodLink "WaysAtlasLaw" (9 : Nat) ({ cls := "WaysAtlas", name := "<init>", desc := "()V" } : Jvm.MethodName)) ∈ lw_all := lw_g (lw_at lw_m1 45 rfl) rfl
theorem q676 : (Jvm.Cond.methodLink "WaysAtlasLaw" (15 : Nat) ({ cls := "WaysAtlas", name := "say", desc := "(JI)I" } : Jvm.MethodName)) ∈ lw_all := lw_g (lw_at lw_m3 59 rfl) rfl
theorem q683 : (Jvm.Cond.methodLink "WaysAtlasLaw" (20 : Nat) ({ cls := "WaysAtlas", name := "compile", desc := "(Z)I" } : Jvm.MethodName)) ∈ lw_all := lw_g (lw_at lw_m3 66 rfl) rfl
theorem q1481 : (Jvm.Cond.methodLink "WaysAtlasLaw" (25 : Nat) ({ cls := "WaysAtlas", name := "fault", desc := "()I" } : Jvm.MethodName)) ∈ lw_all := lw_g (lw_at lw_m6 144 rfl) rfl
theorem q1485 : (Jvm.Cond.methodLink "WaysAtlasLaw" (30 : Nat) ({ cls := "WaysAtlas", name := "count", desc := "(I)I" } : Jvm.MethodName)) ∈ lw_all := lw_g (lw_at lw_m6 148 rfl) rfl
theorem q1489 : (Jvm.Cond.methodLink "WaysAtlasLaw" (35 : Nat) ({ cls := "WaysAtlas", name := "plan", desc := "(IIII)I" } : Jvm.MethodName)) ∈ lw_all := lw_g (lw_at lw_m6 152 rfl) rfl
theorem q1533 : (Jvm.Cond.methodLink "WaysAtlasLaw" (40 : Nat) ({ cls := "WaysAtlas", name := "clear", desc := "()I" } : Jvm.MethodName)) ∈ lw_all := lw_g (lw_at lw_m6 196 rfl) rfl
theorem q1537 : (Jvm.Cond.methodLink "WaysAtlasLaw" (44 : Nat) ({ cls := "WaysAtlas", name := "run", desc := "(ZIIII)I" } : Jvm.MethodName)) ∈ lw_all := lw_g (lw_at lw_m6 200 rfl) rfl
theorem q1823 : (Jvm.Cond.methodLink "WaysAtlasLaw" (49 : Nat) ({ cls := "WaysAtlas", name := "ran", desc := "(II)I" } : Jvm.MethodName)) ∈ lw_all := lw_g (lw_at lw_m8 6 rfl) rfl
theorem q1834 : (Jvm.Cond.methodLink "WaysAtlasLaw" (54 : Nat) ({ cls := "WaysAtlas", name := "mark", desc := "(II)I" } : Jvm.MethodName)) ∈ lw_all := lw_g (lw_at lw_m8 17 rfl) rfl
theorem q1838 : (Jvm.Cond.methodLink "WaysAtlasLaw" (58 : Nat) ({ cls := "WaysAtlas", name := "failure", desc := "(III)I" } : Jvm.MethodName)) ∈ lw_all := lw_g (lw_at lw_m8 21 rfl) rfl
theorem q1845 : (Jvm.Cond.methodLink "WaysAtlasLaw" (63 : Nat) ({ cls := "WaysAtlas", name := "trace", desc := "(III)I" } : Jvm.MethodName)) ∈ lw_all := lw_g (lw_at lw_m8 28 rfl) rfl
theorem q1849 : (Jvm.Cond.methodLink "WaysAtlasLaw" (67 : Nat) ({ cls := "WaysAtlas", name := "closed", desc := "(II)I" } : Jvm.MethodName)) ∈ lw_all := lw_g (lw_at lw_m8 32 rfl) rfl
theorem q1853 : (Jvm.Cond.methodLink "WaysAtlasLaw" (71 : Nat) ({ cls := "WaysAtlas", name := "entered", desc := "(II)I" } : Jvm.MethodName)) ∈ lw_all := lw_g (lw_at lw_m8 36 rfl) rfl
theorem q1876 : (Jvm.Cond.methodLink "WaysAtlasLaw" (75 : Nat) ({ cls := "WaysAtlas", name := "handler", desc := "(II)I" } : Jvm.MethodName)) ∈ lw_all := lw_g (lw_at lw_m8 59 rfl) rfl
theorem q1881 : (Jvm.Cond.methodLink "WaysAtlasLaw" (79 : Nat) ({ cls := "WaysAtlas", name := "ways", desc := "(III)I" } : Jvm.MethodName)) ∈ lw_all := lw_g (lw_at lw_m8 64 rfl) rfl
theorem q1898 : (Jvm.Cond.methodLink "WaysAtlasLaw" (83 : Nat) ({ cls := "WaysAtlas", name := "same", desc := "(III)I" } : Jvm.MethodName)) ∈ lw_all := lw_g (lw_at lw_m8 81 rfl) rfl
theorem q1902 : (Jvm.Cond.classLink "WaysAtlasLaw" (10 : Nat) "WaysAtlasModel") ∈ lw_all := lw_g (lw_at lw_m8 85 rfl) rfl
theorem q1904 : (Jvm.Cond.methodLink "WaysAtlasLaw" (12 : Nat) ({ cls := "WaysAtlasModel", name := "<init>", desc := "()V" } : Jvm.MethodName)) ∈ lw_all := lw_g (lw_at lw_m8 87 rfl) rfl
theorem q2220 : (Jvm.Cond.methodLink "WaysAtlasLaw" (19 : Nat) ({ cls := "WaysAtlasModel", name := "say", desc := "(JI)I" } : Jvm.MethodName)) ∈ lw_all := lw_g (lw_at lw_m9 163 rfl) rfl
theorem q2227 : (Jvm.Cond.methodLink "WaysAtlasLaw" (24 : Nat) ({ cls := "WaysAtlasModel", name := "compile", desc := "(Z)I" } : Jvm.MethodName)) ∈ lw_all := lw_g (lw_at lw_m9 170 rfl) rfl
theorem q2421 : (Jvm.Cond.methodLink "WaysAtlasLaw" (29 : Nat) ({ cls := "WaysAtlasModel", name := "fault", desc := "()I" } : Jvm.MethodName)) ∈ lw_all := lw_g (lw_at lw_m10 124 rfl) rfl
theorem q2425 : (Jvm.Cond.methodLink "WaysAtlasLaw" (34 : Nat) ({ cls := "WaysAtlasModel", name := "count", desc := "(I)I" } : Jvm.MethodName)) ∈ lw_all := lw_g (lw_at lw_m10 128 rfl) rfl
theorem q2429 : (Jvm.Cond.methodLink "WaysAtlasLaw" (39 : Nat) ({ cls := "WaysAtlasModel", name := "plan", desc := "(IIII)I" } : Jvm.MethodName)) ∈ lw_all := lw_g (lw_at lw_m10 132 rfl) rfl
theorem q2445 : (Jvm.Cond.methodLink "WaysAtlasLaw" (43 : Nat) ({ cls := "WaysAtlasModel", name := "clear", desc := "()I" } : Jvm.MethodName)) ∈ lw_all := lw_g (lw_at lw_m10 148 rfl) rfl
theorem q2449 : (Jvm.Cond.methodLink "WaysAtlasLaw" (78 : Nat) ({ cls := "WaysAtlasModel", name := "handler", desc := "(II)I" } : Jvm.MethodName)) ∈ lw_all := lw_g (lw_at lw_m10 152 rfl) rfl
theorem q2457 : (Jvm.Cond.methodLink "WaysAtlasLaw" (48 : Nat) ({ cls := "WaysAtlasModel", name := "run", desc := "(ZIIII)I" } : Jvm.MethodName)) ∈ lw_all := lw_g (lw_at lw_m10 160 rfl) rfl
theorem q2593 : (Jvm.Cond.methodLink "WaysAtlasLaw" (53 : Nat) ({ cls := "WaysAtlasModel", name := "ran", desc := "(II)I" } : Jvm.MethodName)) ∈ lw_all := lw_g (lw_at lw_m11 56 rfl) rfl
theorem q2601 : (Jvm.Cond.methodLink "WaysAtlasLaw" (57 : Nat) ({ cls := "WaysAtlasModel", name := "mark", desc := "(II)I" } : Jvm.MethodName)) ∈ lw_all := lw_g (lw_at lw_m11 64 rfl) rfl
theorem q2605 : (Jvm.Cond.methodLink "WaysAtlasLaw" (62 : Nat) ({ cls := "WaysAtlasModel", name := "failure", desc := "(III)I" } : Jvm.MethodName)) ∈ lw_all := lw_g (lw_at lw_m11 68 rfl) rfl
theorem q2609 : (Jvm.Cond.methodLink "WaysAtlasLaw" (66 : Nat) ({ cls := "WaysAtlasModel", name := "trace", desc := "(III)I" } : Jvm.MethodName)) ∈ lw_all := lw_g (lw_at lw_m11 72 rfl) rfl
theorem q2613 : (Jvm.Cond.methodLink "WaysAtlasLaw" (70 : Nat) ({ cls := "WaysAtlasModel", name := "closed", desc := "(II)I" } : Jvm.MethodName)) ∈ lw_all := lw_g (lw_at lw_m11 76 rfl) rfl
theorem q2617 : (Jvm.Cond.methodLink "WaysAtlasLaw" (74 : Nat) ({ cls := "WaysAtlasModel", name := "entered", desc := "(II)I" } : Jvm.MethodName)) ∈ lw_all := lw_g (lw_at lw_m11 80 rfl) rfl
theorem q2621 : (Jvm.Cond.methodLink "WaysAtlasLaw" (82 : Nat) ({ cls := "WaysAtlasModel", name := "ways", desc := "(III)I" } : Jvm.MethodName)) ∈ lw_all := lw_g (lw_at lw_m11 84 rfl) rfl
theorem q2629 : (Jvm.Cond.methodLink "WaysAtlasLaw" (86 : Nat) ({ cls := "WaysAtlasModel", name := "same", desc := "(III)I" } : Jvm.MethodName)) ∈ lw_all := lw_g (lw_at lw_m11 92 rfl) rfl
theorem q2633 : (Jvm.Cond.constantLong "WaysAtlasLaw" (13 : Nat) (4294967295 : Int64)) ∈ lw_all := lw_g (lw_at lw_m11 96 rfl) rfl
theorem q1286 : (Jvm.Cond.interfaceMethod "WaysAtlas$Walked" "WaysAtlas$Walked" "tells" "(LWaysAtlas$Lower;)V") ∈ lw_tbl := lw_at lw_m5 189 rfl
theorem q1287 : (Jvm.Cond.declares ({ cls := "WaysAtlas$Walked", name := "tells", desc := "(LWaysAtlas$Lower;)V" } : Jvm.MethodName)) ∈ lw_tbl := lw_at lw_m5 190 rfl
theorem q1599 : (Jvm.Cond.interfaceMethod "WaysAtlas$Walked" "WaysAtlas$Walked" "walk" "(LWaysAtlas$Run;LWaysAtlas$Frame;)I") ∈ lw_tbl := lw_at lw_m7 22 rfl
theorem q1600 : (Jvm.Cond.declares ({ cls := "WaysAtlas$Walked", name := "walk", desc := "(LWaysAtlas$Run;LWaysAtlas$Frame;)I" } : Jvm.MethodName)) ∈ lw_tbl := lw_at lw_m7 23 rfl
theorem q178 : (Jvm.Cond.initialized "java/lang/System") ∈ lw_all := lw_g (lw_at lw_m1 41 rfl) rfl
theorem q1229 : (Jvm.Cond.static ({ cls := "java/lang/System", name := "arraycopy", desc := "(Ljava/lang/Object;ILjava/lang/Object;II)V" } : Jvm.MethodName)) ∈ lw_all := lw_g (lw_at lw_m5 132 rfl) rfl
theorem q1230 : (Jvm.Cond.native ({ cls := "java/lang/System", name := "arraycopy", desc := "(Ljava/lang/Object;ILjava/lang/Object;II)V" } : Jvm.MethodName)) ∈ lw_all := lw_g (lw_at lw_m5 133 rfl) rfl
theorem xh1 : [1].all (xhas 1) = true := by decide +kernel
theorem xh2 : [2].all (xhas 2) = true := by decide +kernel
theorem xh3 : [2].all (xhas 3) = true := by decide +kernel
theorem xh4 : [2].all (xhas 4) = true := by decide +kernel
theorem xh5 : [3].all (xhas 5) = true := by decide +kernel
theorem xh6 : [3].all (xhas 6) = true := by decide +kernel
theorem xh7 : [3].all (xhas 7) = true := by decide +kernel
theorem xh8 : [3].all (xhas 8) = true := by decide +kernel
theorem xh9 : [3].all (xhas 9) = true := by decide +kernel
theorem xh10 : [3].all (xhas 10) = true := by decide +kernel
theorem xh11 : [3].all (xhas 11) = true := by decide +kernel
theorem xh12 : [4].all (xhas 12) = true := by decide +kernel
theorem xh13 : [4].all (xhas 13) = true := by decide +kernel
theorem xh14 : [4].all (xhas 14) = true := by decide +kernel
theorem xh15 : [4].all (xhas 15) = true := by decide +kernel
theorem xh16 : [5].all (xhas 16) = true := by decide +kernel
theorem xh17 : [6].all (xhas 17) = true := by decide +kernel
theorem xh18 : [6].all (xhas 18) = true := by decide +kernel
theorem xh19 : [6].all (xhas 19) = true := by decide +kernel
theorem xh20 : [6].all (xhas 20) = true := by decide +kernel
theorem xh21 : [6].all (xhas 21) = true := by decide +kernel
theorem xh22 : [6].all (xhas 22) = true := by decide +kernel
theorem xh23 : [6].all (xhas 23) = true := by decide +kernel
theorem xh24 : [6].all (xhas 24) = true := by decide +kernel
theorem xh25 : [6].all (xhas 25) = true := by decide +kernel
theorem xh26 : [6].all (xhas 26) = true := by decide +kernel
theorem xh27 : [6].all (xhas 27) = true := by decide +kernel
theorem xh28 : [6].all (xhas 28) = true := by decide +kernel
theorem xh29 : [6].all (xhas 29) = true := by decide +kernel
theorem xh30 : [6].all (xhas 30) = true := by decide +kernel
theorem xh31 : [6].all (xhas 31) = true := by decide +kernel
theorem xh33 : [7].all (xhas 33) = true := by decide +kernel
theorem xh34 : [9].all (xhas 34) = true := by decide +kernel
theorem xh35 : [9].all (xhas 35) = true := by decide +kernel
theorem xh36 : [9].all (xhas 36) = true := by decide +kernel
theorem xh38 : [10].all (xhas 38) = true := by decide +kernel
theorem xh39 : [10].all (xhas 39) = true := by decide +kernel
theorem xh40 : [10].all (xhas 40) = true := by decide +kernel
theorem xh41 : [10].all (xhas 41) = true := by decide +kernel
theorem xh42 : [10].all (xhas 42) = true := by decide +kernel
theorem xh43 : [10].all (xhas 43) = true := by decide +kernel
theorem xh44 : [10].all (xhas 44) = true := by decide +kernel
theorem xh45 : [10].all (xhas 45) = true := by decide +kernel
theorem xh46 : [10].all (xhas 46) = true := by decide +kernel
theorem xh47 : [10].all (xhas 47) = true := by decide +kernel
theorem xh48 : [10].all (xhas 48) = true := by decide +kernel
theorem xh49 : [10].all (xhas 49) = true := by decide +kernel
theorem xh50 : [10].all (xhas 50) = true := by decide +kernel
theorem xh51 : [10].all (xhas 51) = true := by decide +kernel
theorem xh52 : [10].all (xhas 52) = true := by decide +kernel
theorem xh53 : [10].all (xhas 53) = true := by decide +kernel
theorem xh54 : [10].all (xhas 54) = true := by decide +kernel
theorem xh55 : [10].all (xhas 55) = true := by decide +kernel
theorem xh56 : [10].all (xhas 56) = true := by decide +kernel
theorem xh57 : [10].all (xhas 57) = true := by decide +kernel
theorem xh58 : [10].all (xhas 58) = true := by decide +kernel
theorem xh59 : [10].all (xhas 59) = true := by decide +kernel
theorem xh60 : [10].all (xhas 60) = true := by decide +kernel
theorem xh61 : [10].all (xhas 61) = true := by decide +kernel
theorem xh62 : [10].all (xhas 62) = true := by decide +kernel
theorem xh63 : [10].all (xhas 63) = true := by decide +kernel
theorem xh64 : [10].all (xhas 64) = true := by decide +kernel
theorem xh65 : [10].all (xhas 65) = true := by decide +kernel
theorem xh66 : [10].all (xhas 66) = true := by decide +kernel
theorem xh67 : [10].all (xhas 67) = true := by decide +kernel
theorem xh68 : [10].all (xhas 68) = true := by decide +kernel
theorem xh69 : [10].all (xhas 69) = true := by decide +kernel
theorem xh70 : [10].all (xhas 70) = true := by decide +kernel
theorem xh71 : [10].all (xhas 71) = true := by decide +kernel
theorem xh72 : [10].all (xhas 72) = true := by decide +kernel
theorem xh73 : [10].all (xhas 73) = true := by decide +kernel
theorem xh74 : [11].all (xhas 74) = true := by decide +kernel
theorem xh75 : [11].all (xhas 75) = true := by decide +kernel
theorem xh76 : [12].all (xhas 76) = true := by decide +kernel
theorem xh77 : [12].all (xhas 77) = true := by decide +kernel
theorem xh78 : [14].all (xhas 78) = true := by decide +kernel
theorem xh79 : [15].all (xhas 79) = true := by decide +kernel
theorem xh80 : [16].all (xhas 80) = true := by decide +kernel
theorem xh81 : [17].all (xhas 81) = true := by decide +kernel
theorem xh82 : [19, 21, 22, 23, 24, 25, 26, 27, 28, 29, 30, 31, 32].all (xhas 82) = true := by decide +kernel
theorem xh83 : [19].all (xhas 83) = true := by decide +kernel
theorem xh84 : [19].all (xhas 84) = true := by decide +kernel
theorem xh85 : [21].all (xhas 85) = true := by decide +kernel
theorem xh86 : [23].all (xhas 86) = true := by decide +kernel
theorem xh87 : [24].all (xhas 87) = true := by decide +kernel
theorem xh88 : [24].all (xhas 88) = true := by decide +kernel
theorem xh89 : [25].all (xhas 89) = true := by decide +kernel
theorem xh90 : [27].all (xhas 90) = true := by decide +kernel
theorem xh91 : [29].all (xhas 91) = true := by decide +kernel
theorem xh92 : [30].all (xhas 92) = true := by decide +kernel
theorem xh93 : [31].all (xhas 93) = true := by decide +kernel
theorem xh94 : [32].all (xhas 94) = true := by decide +kernel
theorem xh95 : [32].all (xhas 95) = true := by decide +kernel
theorem xh96 : [33].all (xhas 96) = true := by decide +kernel
theorem xh97 : [33].all (xhas 97) = true := by decide +kernel
theorem xh98 : [33].all (xhas 98) = true := by decide +kernel
theorem xh99 : [33].all (xhas 99) = true := by decide +kernel
theorem xh100 : [34].all (xhas 100) = true := by decide +kernel
theorem xh101 : [34].all (xhas 101) = true := by decide +kernel
theorem xh102 : [34].all (xhas 102) = true := by decide +kernel
theorem xh1001 : [1].all (xhas 1001) = true := by decide +kernel
theorem xh1002 : [1].all (xhas 1002) = true := by decide +kernel
theorem xh1003 : [1].all (xhas 1003) = true := by decide +kernel
theorem xh1004 : [1].all (xhas 1004) = true := by decide +kernel
theorem xh1005 : [1].all (xhas 1005) = true := by decide +kernel
theorem xh1006 : [1].all (xhas 1006) = true := by decide +kernel
theorem xh1007 : [1].all (xhas 1007) = true := by decide +kernel
theorem xh1008 : [1].all (xhas 1008) = true := by decide +kernel
theorem xh1009 : [1].all (xhas 1009) = true := by decide +kernel
theorem xh1010 : [2].all (xhas 1010) = true := by decide +kernel
theorem xh1011 : [2].all (xhas 1011) = true := by decide +kernel
theorem xh1012 : [2].all (xhas 1012) = true := by decide +kernel
theorem xh1013 : [2].all (xhas 1013) = true := by decide +kernel
theorem xh1014 : [3].all (xhas 1014) = true := by decide +kernel
theorem xh1015 : [3].all (xhas 1015) = true := by decide +kernel
theorem xh1016 : [3].all (xhas 1016) = true := by decide +kernel
theorem xh1017 : [3].all (xhas 1017) = true := by decide +kernel
theorem xh1018 : [3].all (xhas 1018) = true := by decide +kernel
theorem xh1019 : [3].all (xhas 1019) = true := by decide +kernel
theorem xh1020 : [4].all (xhas 1020) = true := by decide +kernel
theorem xh1021 : [4].all (xhas 1021) = true := by decide +kernel
theorem xh1022 : [4].all (xhas 1022) = true := by decide +kernel
theorem xh1023 : [4].all (xhas 1023) = true := by decide +kernel
theorem xh1024 : [4].all (xhas 1024) = true := by decide +kernel
theorem xh1025 : [4].all (xhas 1025) = true := by decide +kernel
theorem xh1026 : [5].all (xhas 1026) = true := by decide +kernel
theorem xh1027 : [5].all (xhas 1027) = true := by decide +kernel
theorem xh1028 : [5].all (xhas 1028) = true := by decide +kernel
theorem xh1029 : [6].all (xhas 1029) = true := by decide +kernel
theorem xh1030 : [6].all (xhas 1030) = true := by decide +kernel
theorem xh1031 : [6].all (xhas 1031) = true := by decide +kernel
theorem xh1032 : [6].all (xhas 1032) = true := by decide +kernel
theorem xh1033 : [6].all (xhas 1033) = true := by decide +kernel
theorem xh1034 : [6].all (xhas 1034) = true := by decide +kernel
theorem xh1035 : [6].all (xhas 1035) = true := by decide +kernel
theorem xh1036 : [6].all (xhas 1036) = true := by decide +kernel
theorem xh1037 : [6].all (xhas 1037) = true := by decide +kernel
theorem xh1038 : [6].all (xhas 1038) = true := by decide +kernel
theorem xh1039 : [6].all (xhas 1039) = true := by decide +kernel
theorem xh1040 : [6].all (xhas 1040) = true := by decide +kernel
theorem xh1041 : [6].all (xhas 1041) = true := by decide +kernel
theorem xh1042 : [6].all (xhas 1042) = true := by decide +kernel
theorem xh1043 : [6].all (xhas 1043) = true := by decide +kernel
theorem xh1044 : [6].all (xhas 1044) = true := by decide +kernel
theorem xh1045 : [6].all (xhas 1045) = true := by decide +kernel
theorem xh1046 : [6].all (xhas 1046) = true := by decide +kernel
theorem xh1047 : [6].all (xhas 1047) = true := by decide +kernel
theorem xh1048 : [7, 8, 11].all (xhas 1048) = true := by decide +kernel
theorem xh1049 : [7, 8, 11].all (xhas 1049) = true := by decide +kernel
theorem xh1050 : [7, 8, 11].all (xhas 1050) = true := by decide +kernel
theorem xh1051 : [7, 8, 11].all (xhas 1051) = true := by decide +kernel
theorem xh1053 : [9].all (xhas 1053) = true := by decide +kernel
theorem xh1054 : [9].all (xhas 1054) = true := by decide +kernel
theorem xh1055 : [9].all (xhas 1055) = true := by decide +kernel
theorem xh1056 : [9].all (xhas 1056) = true := by decide +kernel
theorem xh1057 : [10].all (xhas 1057) = true := by decide +kernel
theorem xh1058 : [10].all (xhas 1058) = true := by decide +kernel
theorem xh1059 : [10].all (xhas 1059) = true := by decide +kernel
theorem xh1060 : [10].all (xhas 1060) = true := by decide +kernel
theorem xh1061 : [10].all (xhas 1061) = true := by decide +kernel
theorem xh1062 : [10].all (xhas 1062) = true := by decide +kernel
theorem xh1063 : [10].all (xhas 1063) = true := by decide +kernel
theorem xh1064 : [10].all (xhas 1064) = true := by decide +kernel
theorem xh1065 : [10].all (xhas 1065) = true := by decide +kernel
theorem xh1066 : [10].all (xhas 1066) = true := by decide +kernel
theorem xh1067 : [10].all (xhas 1067) = true := by decide +kernel
theorem xh1068 : [10].all (xhas 1068) = true := by decide +kernel
theorem xh1069 : [10].all (xhas 1069) = true := by decide +kernel
theorem xh1070 : [10].all (xhas 1070) = true := by decide +kernel
theorem xh1071 : [10].all (xhas 1071) = true := by decide +kernel
theorem xh1072 : [10].all (xhas 1072) = true := by decide +kernel
theorem xh1073 : [10].all (xhas 1073) = true := by decide +kernel
theorem xh1074 : [10].all (xhas 1074) = true := by decide +kernel
theorem xh1075 : [10].all (xhas 1075) = true := by decide +kernel
theorem xh1076 : [10].all (xhas 1076) = true := by decide +kernel
theorem xh1077 : [10].all (xhas 1077) = true := by decide +kernel
theorem xh1078 : [10].all (xhas 1078) = true := by decide +kernel
theorem xh1079 : [10].all (xhas 1079) = true := by decide +kernel
theorem xh1080 : [10].all (xhas 1080) = true := by decide +kernel
theorem xh1081 : [10].all (xhas 1081) = true := by decide +kernel
theorem xh1082 : [10].all (xhas 1082) = true := by decide +kernel
theorem xh1083 : [10].all (xhas 1083) = true := by decide +kernel
theorem xh1084 : [10].all (xhas 1084) = true := by decide +kernel
theorem xh1085 : [10].all (xhas 1085) = true := by decide +kernel
theorem xh1086 : [10].all (xhas 1086) = true := by decide +kernel
theorem xh1087 : [10].all (xhas 1087) = true := by decide +kernel
theorem xh1088 : [10].all (xhas 1088) = true := by decide +kernel
theorem xh1089 : [10].all (xhas 1089) = true := by decide +kernel
theorem xh1090 : [10].all (xhas 1090) = true := by decide +kernel
theorem xh1091 : [10].all (xhas 1091) = true := by decide +kernel
theorem xh1092 : [10].all (xhas 1092) = true := by decide +kernel
theorem xh1093 : [10].all (xhas 1093) = true := by decide +kernel
theorem xh1094 : [10].all (xhas 1094) = true := by decide +kernel
theorem xh1095 : [10].all (xhas 1095) = true := by decide +kernel
theorem xh1096 : [10].all (xhas 1096) = true := by decide +kernel
theorem xh1097 : [10].all (xhas 1097) = true := by decide +kernel
theorem xh1098 : [10].all (xhas 1098) = true := by decide +kernel
theorem xh1099 : [10].all (xhas 1099) = true := by decide +kernel
theorem xh1100 : [10].all (xhas 1100) = true := by decide +kernel
theorem xh1101 : [10].all (xhas 1101) = true := by decide +kernel
theorem xh1102 : [10].all (xhas 1102) = true := by decide +kernel
theorem xh1103 : [10].all (xhas 1103) = true := by decide +kernel
theorem xh1104 : [10].all (xhas 1104) = true := by decide +kernel
theorem xh1105 : [10].all (xhas 1105) = true := by decide +kernel
theorem xh1106 : [10].all (xhas 1106) = true := by decide +kernel
theorem xh1107 : [10].all (xhas 1107) = true := by decide +kernel
theorem xh1108 : [10].all (xhas 1108) = true := by decide +kernel
theorem xh1109 : [10].all (xhas 1109) = true := by decide +kernel
theorem xh1110 : [10].all (xhas 1110) = true := by decide +kernel
theorem xh1111 : [10].all (xhas 1111) = true := by decide +kernel
theorem xh1112 : [10].all (xhas 1112) = true := by decide +kernel
theorem xh1113 : [10].all (xhas 1113) = true := by decide +kernel
theorem xh1114 : [10].all (xhas 1114) = true := by decide +kernel
theorem xh1115 : [10].all (xhas 1115) = true := by decide +kernel
theorem xh1116 : [10].all (xhas 1116) = true := by decide +kernel
theorem xh1117 : [12].all (xhas 1117) = true := by decide +kernel
theorem xh1118 : [14].all (xhas 1118) = true := by decide +kernel
theorem xh1119 : [14].all (xhas 1119) = true := by decide +kernel
theorem xh1120 : [17].all (xhas 1120) = true := by decide +kernel
theorem xh1121 : [19].all (xhas 1121) = true := by decide +kernel
theorem xh1122 : [19].all (xhas 1122) = true := by decide +kernel
theorem xh1123 : [21].all (xhas 1123) = true := by decide +kernel
theorem xh1124 : [22].all (xhas 1124) = true := by decide +kernel
theorem xh1125 : [22].all (xhas 1125) = true := by decide +kernel
theorem xh1126 : [23].all (xhas 1126) = true := by decide +kernel
theorem xh1127 : [26].all (xhas 1127) = true := by decide +kernel
theorem xh1128 : [27].all (xhas 1128) = true := by decide +kernel
theorem xh1129 : [27].all (xhas 1129) = true := by decide +kernel
theorem xh1130 : [27].all (xhas 1130) = true := by decide +kernel
theorem xh1131 : [27].all (xhas 1131) = true := by decide +kernel
theorem xh1132 : [28].all (xhas 1132) = true := by decide +kernel
theorem xh1133 : [28].all (xhas 1133) = true := by decide +kernel
theorem xh1134 : [31].all (xhas 1134) = true := by decide +kernel
theorem xh1135 : [32].all (xhas 1135) = true := by decide +kernel
theorem xh1136 : [32].all (xhas 1136) = true := by decide +kernel
theorem xh1137 : [32].all (xhas 1137) = true := by decide +kernel
theorem xh1138 : [32].all (xhas 1138) = true := by decide +kernel
theorem xh1139 : [33].all (xhas 1139) = true := by decide +kernel
theorem xh1140 : [33].all (xhas 1140) = true := by decide +kernel
theorem xh1141 : [33].all (xhas 1141) = true := by decide +kernel
theorem xh1142 : [33].all (xhas 1142) = true := by decide +kernel
theorem xh1143 : [34].all (xhas 1143) = true := by decide +kernel
theorem xh1144 : [34].all (xhas 1144) = true := by decide +kernel
theorem xh1145 : [34].all (xhas 1145) = true := by decide +kernel
theorem xfit_4 : ∀ c ∈ [19, 21, 22, 23, 24, 25, 26, 27, 28, 29, 30, 31, 32], xfit "WaysAtlas$Statement" c := by
  intro c hc
  simp only [List.mem_cons, List.not_mem_nil, or_false] at hc
  rcases hc with rfl | rfl | rfl | rfl | rfl | rfl | rfl | rfl | rfl | rfl | rfl | rfl | rfl
  · exact ⟨by decide, by decide, fun r hr => by cases xob_uniq hr (show (18, ((RX18, TX18, 5) : vw_C)) ∈ xclL from List.mem_of_getElem? (i := 16) rfl); exact Or.inr (List.mem_of_getElem? (i := 2) rfl)⟩
  · exact ⟨by decide, by decide, fun r hr => by cases xob_uniq hr (show (20, ((RX20, TX20, 3) : vw_C)) ∈ xclL from List.mem_of_getElem? (i := 17) rfl); exact Or.inr (List.mem_of_getElem? (i := 28) rfl)⟩
  · exact ⟨by decide, by decide, fun r hr => by cases xob_uniq hr (show (21, ((RX21, TX21, 3) : vw_C)) ∈ xclL from List.mem_of_getElem? (i := 18) rfl); exact Or.inr (List.mem_of_getElem? (i := 20) rfl)⟩
  · exact ⟨by decide, by decide, fun r hr => by cases xob_uniq hr (show (22, ((RX22, TX22, 3) : vw_C)) ∈ xclL from List.mem_of_getElem? (i := 19) rfl); exact Or.inr (List.mem_of_getElem? (i := 17) rfl)⟩
  · exact ⟨by decide, by decide, fun r hr => by cases xob_uniq hr (show (23, ((RX23, TX23, 3) : vw_C)) ∈ xclL from List.mem_of_getElem? (i := 20) rfl); exact Or.inr (List.mem_of_getElem? (i := 25) rfl)⟩
  · exact ⟨by decide, by decide, fun r hr => by cases xob_uniq hr (show (24, ((RX24, TX24, 2) : vw_C)) ∈ xclL from List.mem_of_getElem? (i := 21) rfl); exact Or.inr (List.mem_of_getElem? (i := 14) rfl)⟩
  · exact ⟨by decide, by decide, fun r hr => by cases xob_uniq hr (show (25, ((RX25, TX25, 2) : vw_C)) ∈ xclL from List.mem_of_getElem? (i := 22) rfl); exact Or.inr (List.mem_of_getElem? (i := 22) rfl)⟩
  · exact ⟨by decide, by decide, fun r hr => by cases xob_uniq hr (show (26, ((RX26, TX26, 6) : vw_C)) ∈ xclL from List.mem_of_getElem? (i := 23) rfl); exact Or.inr (List.mem_of_getElem? (i := 7) rfl)⟩
  · exact ⟨by decide, by decide, fun r hr => by cases xob_uniq hr (show (27, ((RX27, TX27, 3) : vw_C)) ∈ xclL from List.mem_of_getElem? (i := 24) rfl); exact Or.inr (List.mem_of_getElem? (i := 11) rfl)⟩
  · exact ⟨by decide, by decide, fun r hr => by cases xob_uniq hr (show (28, ((RX28, TX28, 2) : vw_C)) ∈ xclL from List.mem_of_getElem? (i := 25) rfl); exact Or.inr (List.mem_of_getElem? (i := 9) rfl)⟩
  · exact ⟨by decide, by decide, fun r hr => by cases xob_uniq hr (show (29, ((RX29, TX29, 2) : vw_C)) ∈ xclL from List.mem_of_getElem? (i := 26) rfl); exact Or.inr (List.mem_of_getElem? (i := 32) rfl)⟩
  · exact ⟨by decide, by decide, fun r hr => by cases xob_uniq hr (show (30, ((RX30, TX30, 3) : vw_C)) ∈ xclL from List.mem_of_getElem? (i := 27) rfl); exact Or.inr (List.mem_of_getElem? (i := 0) rfl)⟩
  · exact ⟨by decide, by decide, fun r hr => by cases xob_uniq hr (show (31, ((RX31, TX31, 7) : vw_C)) ∈ xclL from List.mem_of_getElem? (i := 28) rfl); exact Or.inr (List.mem_of_getElem? (i := 5) rfl)⟩
theorem xfit_6 : ∀ c ∈ [12], xfit "WaysAtlas$Method" c := by
  intro c hc
  simp only [List.mem_cons, List.not_mem_nil, or_false] at hc
  rcases hc with rfl
  · exact ⟨by decide, by decide, fun r hr => by cases xob_uniq hr (show (11, ((RX11, TX11, 3) : vw_C)) ∈ xclL from List.mem_of_getElem? (i := 11) rfl); exact Or.inl rfl⟩
theorem xfit_7 : ∀ c ∈ [32], xfit "WaysAtlas$Guard" c := by
  intro c hc
  simp only [List.mem_cons, List.not_mem_nil, or_false] at hc
  rcases hc with rfl
  · exact ⟨by decide, by decide, fun r hr => by cases xob_uniq hr (show (31, ((RX31, TX31, 7) : vw_C)) ∈ xclL from List.mem_of_getElem? (i := 28) rfl); exact Or.inl rfl⟩
theorem xfit_8 : ∀ c ∈ [9], xfit "WaysAtlas$Frame" c := by
  intro c hc
  simp only [List.mem_cons, List.not_mem_nil, or_false] at hc
  rcases hc with rfl
  · exact ⟨by decide, by decide, fun r hr => by cases xob_uniq hr (show (8, ((RX8, TX8, 8) : vw_C)) ∈ xclL from List.mem_of_getElem? (i := 8) rfl); exact Or.inl rfl⟩
theorem xfc_Again : ∀ c ∈ [31], xfit "WaysAtlas$Again" c := by
  intro c hc
  simp only [List.mem_cons, List.not_mem_nil, or_false] at hc
  rcases hc with rfl
  · exact ⟨by decide, by decide, fun r hr => by cases xob_uniq hr (show (30, ((RX30, TX30, 3) : vw_C)) ∈ xclL from List.mem_of_getElem? (i := 27) rfl); exact Or.inl rfl⟩
theorem xfc_Call : ∀ c ∈ [19], xfit "WaysAtlas$Call" c := by
  intro c hc
  simp only [List.mem_cons, List.not_mem_nil, or_false] at hc
  rcases hc with rfl
  · exact ⟨by decide, by decide, fun r hr => by cases xob_uniq hr (show (18, ((RX18, TX18, 5) : vw_C)) ∈ xclL from List.mem_of_getElem? (i := 16) rfl); exact Or.inl rfl⟩
theorem xfc_Guard : ∀ c ∈ [32], xfit "WaysAtlas$Guard" c := by
  intro c hc
  simp only [List.mem_cons, List.not_mem_nil, or_false] at hc
  rcases hc with rfl
  · exact ⟨by decide, by decide, fun r hr => by cases xob_uniq hr (show (31, ((RX31, TX31, 7) : vw_C)) ∈ xclL from List.mem_of_getElem? (i := 28) rfl); exact Or.inl rfl⟩
theorem xfc_If : ∀ c ∈ [27], xfit "WaysAtlas$If" c := by
  intro c hc
  simp only [List.mem_cons, List.not_mem_nil, or_false] at hc
  rcases hc with rfl
  · exact ⟨by decide, by decide, fun r hr => by cases xob_uniq hr (show (26, ((RX26, TX26, 6) : vw_C)) ∈ xclL from List.mem_of_getElem? (i := 23) rfl); exact Or.inl rfl⟩
theorem xfc_Loop : ∀ c ∈ [28], xfit "WaysAtlas$Loop" c := by
  intro c hc
  simp only [List.mem_cons, List.not_mem_nil, or_false] at hc
  rcases hc with rfl
  · exact ⟨by decide, by decide, fun r hr => by cases xob_uniq hr (show (27, ((RX27, TX27, 3) : vw_C)) ∈ xclL from List.mem_of_getElem? (i := 24) rfl); exact Or.inl rfl⟩
theorem xfc_Plain : ∀ c ∈ [21, 22, 23, 24, 25, 30], xfit "WaysAtlas$Plain" c := by
  intro c hc
  simp only [List.mem_cons, List.not_mem_nil, or_false] at hc
  rcases hc with rfl | rfl | rfl | rfl | rfl | rfl
  · exact ⟨by decide, by decide, fun r hr => by cases xob_uniq hr (show (20, ((RX20, TX20, 3) : vw_C)) ∈ xclL from List.mem_of_getElem? (i := 17) rfl); exact Or.inr (List.mem_of_getElem? (i := 27) rfl)⟩
  · exact ⟨by decide, by decide, fun r hr => by cases xob_uniq hr (show (21, ((RX21, TX21, 3) : vw_C)) ∈ xclL from List.mem_of_getElem? (i := 18) rfl); exact Or.inr (List.mem_of_getElem? (i := 19) rfl)⟩
  · exact ⟨by decide, by decide, fun r hr => by cases xob_uniq hr (show (22, ((RX22, TX22, 3) : vw_C)) ∈ xclL from List.mem_of_getElem? (i := 19) rfl); exact Or.inr (List.mem_of_getElem? (i := 16) rfl)⟩
  · exact ⟨by decide, by decide, fun r hr => by cases xob_uniq hr (show (23, ((RX23, TX23, 3) : vw_C)) ∈ xclL from List.mem_of_getElem? (i := 20) rfl); exact Or.inr (List.mem_of_getElem? (i := 24) rfl)⟩
  · exact ⟨by decide, by decide, fun r hr => by cases xob_uniq hr (show (24, ((RX24, TX24, 2) : vw_C)) ∈ xclL from List.mem_of_getElem? (i := 21) rfl); exact Or.inr (List.mem_of_getElem? (i := 13) rfl)⟩
  · exact ⟨by decide, by decide, fun r hr => by cases xob_uniq hr (show (29, ((RX29, TX29, 2) : vw_C)) ∈ xclL from List.mem_of_getElem? (i := 26) rfl); exact Or.inr (List.mem_of_getElem? (i := 31) rfl)⟩
theorem xfc_Return : ∀ c ∈ [26], xfit "WaysAtlas$Return" c := by
  intro c hc
  simp only [List.mem_cons, List.not_mem_nil, or_false] at hc
  rcases hc with rfl
  · exact ⟨by decide, by decide, fun r hr => by cases xob_uniq hr (show (25, ((RX25, TX25, 2) : vw_C)) ∈ xclL from List.mem_of_getElem? (i := 22) rfl); exact Or.inl rfl⟩
