set_option maxRecDepth 100000
def bX0_init_0 : List (Nat × XI) := [(0, i_ald 0), (1, i_obj), (4, i_ald 0), (5, i_new 1 7), (8, i_dup), (9, i_cli 30 0), (12, i_pur 1001 [1]), (15, i_ald 0), (16, i_new 2 13), (19, i_dup), (20, i_ald 0), (21, i_ger 1001 [1]), (24, i_cli 39 1), (27, i_pur 1002 [1]), (30, i_ald 0), (31, i_new 3 10), (34, i_dup), (35, i_cli 67 0), (38, i_pur 1003 [1]), (41, i_ald 0), (42, i_new 4 4), (45, i_dup), (46, i_cli 77 0), (49, i_pur 1004 [1]), (52, i_ald 0), (53, i_new 4 4), (56, i_dup), (57, i_cli 77 0), (60, i_pur 1005 [1]), (63, i_ald 0), (64, i_clv 0 [(1, 1)]), (67, i_ret 0)]
def rX0_init : XM := (⟨"WaysAtlas", "<init>", "()V"⟩, prog_1_method_3_code, 1, none, [], [(0, bX0_init_0)], fun _ _ => none)
def bX0_renews_0 : List (Nat × XI) := [(0, i_ald 0), (1, i_ald 0), (2, i_ger 1006 [1]), (5, i_inn 22), (8, i_new 5 34), (11, i_dup), (12, i_ald 0), (13, i_ger 1004 [1]), (16, i_cli 79 1), (19, i_got 26)]
def bX0_renews_22 : List (Nat × XI) := [(22, i_ald 0), (23, i_ger 1006 [1]), (26, i_fal 26)]
def bX0_renews_26 : List (Nat × XI) := [(26, i_pur 1006 [1]), (29, i_ald 0), (30, i_ald 0), (31, i_ger 1007 [1]), (34, i_inn 51), (37, i_new 5 34), (40, i_dup), (41, i_ald 0), (42, i_ger 1004 [1]), (45, i_cli 79 1), (48, i_got 55)]
def bX0_renews_51 : List (Nat × XI) := [(51, i_ald 0), (52, i_ger 1007 [1]), (55, i_fal 55)]
def bX0_renews_55 : List (Nat × XI) := [(55, i_pur 1007 [1]), (58, i_ald 0), (59, i_ald 0), (60, i_ger 1008 [1]), (63, i_inn 80), (66, i_new 5 34), (69, i_dup), (70, i_ald 0), (71, i_ger 1004 [1]), (74, i_cli 79 1), (77, i_got 84)]
def bX0_renews_80 : List (Nat × XI) := [(80, i_ald 0), (81, i_ger 1008 [1]), (84, i_fal 84)]
def bX0_renews_84 : List (Nat × XI) := [(84, i_pur 1008 [1]), (87, i_ald 0), (88, i_ald 0), (89, i_ger 1009 [1]), (92, i_inn 109), (95, i_new 5 34), (98, i_dup), (99, i_ald 0), (100, i_ger 1004 [1]), (103, i_cli 79 1), (106, i_got 113)]
def bX0_renews_109 : List (Nat × XI) := [(109, i_ald 0), (110, i_ger 1009 [1]), (113, i_fal 113)]
def bX0_renews_113 : List (Nat × XI) := [(113, i_pur 1009 [1]), (116, i_ald 0), (117, i_ger 1006 [1]), (120, i_psh (.int (-9))), (122, i_pui 28 [6]), (125, i_ald 0), (126, i_ger 1007 [1]), (129, i_psh (.int (-9))), (131, i_pui 28 [6]), (134, i_ret 0)]
def rX0_renews : XM := (⟨"WaysAtlas", "renews", "()V"⟩, prog_1_method_4_code, 1, none, [], [(0, bX0_renews_0), (22, bX0_renews_22), (26, bX0_renews_26), (51, bX0_renews_51), (55, bX0_renews_55), (80, bX0_renews_80), (84, bX0_renews_84), (109, bX0_renews_109), (113, bX0_renews_113)], fun _ _ => none)
def bX0_say_0 : List (Nat × XI) := [(0, i_ild 3), (1, i_psh (.int 1)), (2, i_psh (.int 8)), (4, i_cls 3 3), (7, i_ifne 12), (10, i_psh (.int (-1))), (11, i_ret 1)]
def bX0_say_12 : List (Nat × XI) := [(12, i_ald 0), (13, i_ger 1001 [1]), (16, i_gei 2 [2]), (19, i_ild 3), (20, i_add), (21, i_psh (.int 1000)), (24, i_icle 30), (27, i_psh (.int (-2))), (29, i_ret 1)]
def bX0_say_30 : List (Nat × XI) := [(30, i_ild 3), (31, i_psh (.int 1)), (32, i_sub), (33, i_ist 4), (35, i_fal 35)]
def bX0_say_35 : List (Nat × XI) := [(35, i_ild 4), (37, i_iflt 83), (40, i_ald 0), (41, i_ger 1001 [1]), (44, i_ger 1010 [2]), (47, i_ald 0), (48, i_ger 1001 [1]), (51, i_gei 2 [2]), (54, i_lld 1), (55, i_psh (.int 8)), (57, i_ild 4), (59, i_mul), (60, i_lshr), (61, i_l2i), (62, i_i2b), (63, i_bas), (64, i_ald 0), (65, i_ger 1001 [1]), (68, i_dup), (69, i_gei 2 [2]), (72, i_psh (.int 1)), (73, i_add), (74, i_pui 2 [2]), (77, i_inc 4 (-1)), (80, i_got 35)]
def bX0_say_83 : List (Nat × XI) := [(83, i_ald 0), (84, i_ger 1001 [1]), (87, i_gei 2 [2]), (90, i_ret 1)]
def rX0_say : XM := (⟨"WaysAtlas", "say", "(JI)I"⟩, prog_1_method_5_code, 5, (some .int), [], [(0, bX0_say_0), (12, bX0_say_12), (30, bX0_say_30), (35, bX0_say_35), (83, bX0_say_83)], fun _ _ => none)
def bX0_isIn_0 : List (Nat × XI) := [(0, i_ild 0), (1, i_ild 1), (2, i_iclt 14), (5, i_ild 0), (6, i_ild 2), (7, i_icgt 14), (10, i_psh (.int 1)), (11, i_got 15)]
def bX0_isIn_14 : List (Nat × XI) := [(14, i_psh (.int 0)), (15, i_fal 15)]
def bX0_isIn_15 : List (Nat × XI) := [(15, i_ret 4)]
def rX0_isIn : XM := (⟨"WaysAtlas", "isIn", "(III)Z"⟩, prog_1_method_1_code, 3, (some .boolean), [], [(0, bX0_isIn_0), (14, bX0_isIn_14), (15, bX0_isIn_15)], fun _ _ => none)
def bX0_compile_0 : List (Nat × XI) := [(0, i_ald 0), (1, i_psh (.int 0)), (2, i_pui 1 [1]), (5, i_ald 0), (6, i_ger 1001 [1]), (9, i_clv 0 [(2, 31)]), (12, i_ald 0), (13, i_ger 1002 [1]), (16, i_clv 0 [(3, 40)]), (19, i_ast 2), (20, i_got 40)]
def bX0_compile_23 : List (Nat × XI) := [(23, i_ast 3), (24, i_ald 0), (25, i_ald 3), (26, i_gei 74 [11]), (29, i_pui 1 [1]), (32, i_psh (.int (-100))), (34, i_ald 3), (35, i_gei 75 [11]), (38, i_sub), (39, i_ret 1)]
def bX0_compile_40 : List (Nat × XI) := [(40, i_ald 2), (41, i_ild 1), (42, i_cls 5 2), (45, i_ast 3), (46, i_ald 3), (47, i_clv 0 [(34, 273)]), (50, i_ifeq 59), (53, i_ald 2), (54, i_psh (.int 1)), (55, i_cls 5 2), (58, i_ast 3), (59, i_fal 59)]
def bX0_compile_59 : List (Nat × XI) := [(59, i_ald 2), (60, i_ald 3), (61, i_pur 1025 [4]), (64, i_ald 0), (65, i_ald 2), (66, i_pur 1003 [1]), (69, i_ald 0), (70, i_ger 1004 [1]), (73, i_psh (.int 0)), (74, i_pui 16 [5]), (77, i_ald 0), (78, i_clv 0 [(1, 1)]), (81, i_ald 2), (82, i_gei 14 [4]), (85, i_ret 1)]
def hX0_compile (pc kd : Nat) : Option Nat := if 12 ≤ pc ∧ pc < 20 then (if kd = 11 then some 23 else none) else none
def rX0_compile : XM := (⟨"WaysAtlas", "compile", "(Z)I"⟩, prog_1_method_7_code, 4, (some .int), [(12, 20, 23, 127)], [(0, bX0_compile_0), (23, bX0_compile_23), (40, bX0_compile_40), (59, bX0_compile_59)], hX0_compile)
def bX0_lowered_0 : List (Nat × XI) := [(0, i_new 33 6), (3, i_dup), (4, i_ild 1), (5, i_cli 272 1), (8, i_ast 2), (9, i_psh (.int 0)), (10, i_ist 3), (11, i_fal 11)]
def bX0_lowered_11 : List (Nat × XI) := [(11, i_ild 3), (12, i_ald 0), (13, i_gei 12 [4]), (16, i_icge 42), (19, i_ald 2), (20, i_clv 0 [(34, 273)]), (23, i_ifne 42), (26, i_ald 2), (27, i_ald 0), (28, i_ger 1020 [4]), (31, i_ild 3), (32, i_lda 6), (33, i_clv 1 [(34, 274)]), (36, i_inc 3 1), (39, i_got 11)]
def bX0_lowered_42 : List (Nat × XI) := [(42, i_ald 2), (43, i_ret 3)]
def rX0_lowered : XM := (⟨"WaysAtlas", "lowered", "(LWaysAtlas$Program;Z)LWaysAtlas$Lower;"⟩, prog_1_method_6_code, 4, (some (.object "WaysAtlas$Lower")), [], [(0, bX0_lowered_0), (11, bX0_lowered_11), (42, bX0_lowered_42)], fun _ _ => none)
def bX0_fault_0 : List (Nat × XI) := [(0, i_ald 0), (1, i_gei 1 [1]), (4, i_ret 1)]
def rX0_fault : XM := (⟨"WaysAtlas", "fault", "()I"⟩, prog_1_method_8_code, 1, (some .int), [], [(0, bX0_fault_0)], fun _ _ => none)
def bX0_count_0 : List (Nat × XI) := [(0, i_ild 1), (1, i_psh (.int 4)), (2, i_iceq 17), (5, i_ald 0), (6, i_ger 1003 [1]), (9, i_gei 12 [4]), (12, i_ifne 17), (15, i_psh (.int (-1))), (16, i_ret 1)]
def bX0_count_17 : List (Nat × XI) := [(17, i_ild 1), (18, i_tsw 0 5 92 [52, 60, 68, 76, 84])]
def bX0_count_52 : List (Nat × XI) := [(52, i_ald 0), (53, i_ger 1003 [1]), (56, i_gei 14 [4]), (59, i_ret 1)]
def bX0_count_60 : List (Nat × XI) := [(60, i_ald 0), (61, i_ger 1003 [1]), (64, i_gei 12 [4]), (67, i_ret 1)]
def bX0_count_68 : List (Nat × XI) := [(68, i_ald 0), (69, i_ger 1003 [1]), (72, i_gei 13 [4]), (75, i_ret 1)]
def bX0_count_76 : List (Nat × XI) := [(76, i_ald 0), (77, i_ger 1003 [1]), (80, i_gei 15 [4]), (83, i_ret 1)]
def bX0_count_84 : List (Nat × XI) := [(84, i_ald 0), (85, i_ger 1004 [1]), (88, i_gei 16 [5]), (91, i_ret 1)]
def bX0_count_92 : List (Nat × XI) := [(92, i_psh (.int (-1))), (93, i_ret 1)]
def rX0_count : XM := (⟨"WaysAtlas", "count", "(I)I"⟩, prog_1_method_9_code, 2, (some .int), [], [(0, bX0_count_0), (17, bX0_count_17), (52, bX0_count_52), (60, bX0_count_60), (68, bX0_count_68), (76, bX0_count_76), (84, bX0_count_84), (92, bX0_count_92)], fun _ _ => none)
def bX0_plan_0 : List (Nat × XI) := [(0, i_ald 0), (1, i_ild 1), (2, i_clv 1 [(1, 9)]), (5, i_ifeq 47), (8, i_ild 2), (9, i_psh (.int 0)), (10, i_psh (.int 6)), (12, i_cls 3 3), (15, i_ifeq 47), (18, i_ild 3), (19, i_psh (.int 1)), (20, i_psh (.int 400)), (23, i_cls 3 3), (26, i_ifeq 47), (29, i_ild 4), (31, i_psh (.int 0)), (32, i_ald 0), (33, i_ger 1003 [1]), (36, i_gei 13 [4]), (39, i_psh (.int 1)), (40, i_sub), (41, i_cls 3 3), (44, i_ifne 49), (47, i_fal 47)]
def bX0_plan_47 : List (Nat × XI) := [(47, i_psh (.int (-1))), (48, i_ret 1)]
def bX0_plan_49 : List (Nat × XI) := [(49, i_ald 0), (50, i_ger 1003 [1]), (53, i_ger 1022 [4]), (56, i_ild 1), (57, i_lda 4), (58, i_ast 5), (60, i_ild 2), (61, i_ifne 75), (64, i_ald 5), (66, i_clv 0 [(19, 214), (21, 214), (22, 214), (23, 214), (24, 214), (25, 233), (26, 214), (27, 214), (28, 214), (29, 214), (30, 214), (31, 214), (32, 214)]), (69, i_ifne 90), (72, i_got 88)]
def bX0_plan_75 : List (Nat × XI) := [(75, i_ild 2), (76, i_psh (.int 1)), (77, i_sub), (78, i_psh (.int 3)), (79, i_rem), (80, i_ald 5), (82, i_clv 0 [(19, 215), (21, 215), (22, 215), (23, 215), (24, 215), (25, 215), (26, 215), (27, 215), (28, 215), (29, 215), (30, 215), (31, 215), (32, 260)]), (85, i_iclt 90), (88, i_fal 88)]
def bX0_plan_88 : List (Nat × XI) := [(88, i_psh (.int (-1))), (89, i_ret 1)]
def bX0_plan_90 : List (Nat × XI) := [(90, i_ald 0), (91, i_ger 1004 [1]), (94, i_gei 16 [5]), (97, i_psh (.int 30)), (99, i_icne 105), (102, i_psh (.int (-2))), (104, i_ret 1)]
def bX0_plan_105 : List (Nat × XI) := [(105, i_ald 0), (106, i_ger 1004 [1]), (109, i_ger 1026 [5]), (112, i_ald 0), (113, i_ger 1004 [1]), (116, i_gei 16 [5]), (119, i_psh (.int 7)), (121, i_ild 1), (122, i_mul), (123, i_ild 2), (124, i_add), (125, i_ias), (126, i_ald 0), (127, i_ger 1004 [1]), (130, i_ger 1027 [5]), (133, i_ald 0), (134, i_ger 1004 [1]), (137, i_gei 16 [5]), (140, i_ild 3), (141, i_ias), (142, i_ald 0), (143, i_ger 1004 [1]), (146, i_ger 1028 [5]), (149, i_ald 0), (150, i_ger 1004 [1]), (153, i_gei 16 [5]), (156, i_ild 4), (158, i_ias), (159, i_ald 0), (160, i_ger 1004 [1]), (163, i_dup), (164, i_gei 16 [5]), (167, i_psh (.int 1)), (168, i_add), (169, i_pui 16 [5]), (172, i_ald 0), (173, i_ger 1004 [1]), (176, i_gei 16 [5]), (179, i_ret 1)]
def rX0_plan : XM := (⟨"WaysAtlas", "plan", "(IIII)I"⟩, prog_1_method_11_code, 6, (some .int), [], [(0, bX0_plan_0), (47, bX0_plan_47), (49, bX0_plan_49), (75, bX0_plan_75), (88, bX0_plan_88), (90, bX0_plan_90), (105, bX0_plan_105)], fun _ _ => none)
def bX0_isStatement_0 : List (Nat × XI) := [(0, i_ild 1), (1, i_psh (.int 0)), (2, i_ald 0), (3, i_ger 1003 [1]), (6, i_gei 14 [4]), (9, i_psh (.int 1)), (10, i_sub), (11, i_cls 3 3), (14, i_ret 4)]
def rX0_isStatement : XM := (⟨"WaysAtlas", "isStatement", "(I)Z"⟩, prog_1_method_10_code, 2, (some .boolean), [], [(0, bX0_isStatement_0)], fun _ _ => none)
def bX0_clear_0 : List (Nat × XI) := [(0, i_ald 0), (1, i_ger 1004 [1]), (4, i_gei 16 [5]), (7, i_ist 1), (8, i_ald 0), (9, i_ger 1004 [1]), (12, i_psh (.int 0)), (13, i_pui 16 [5]), (16, i_ild 1), (17, i_ret 1)]
def rX0_clear : XM := (⟨"WaysAtlas", "clear", "()I"⟩, prog_1_method_12_code, 2, (some .int), [], [(0, bX0_clear_0)], fun _ _ => none)
def bX0_run_0 : List (Nat × XI) := [(0, i_ald 0), (1, i_ild 2), (2, i_clv 1 [(1, 12)]), (5, i_ifeq 20), (8, i_ild 5), (10, i_psh (.int 0)), (11, i_psh (.int 400)), (14, i_cls 3 3), (17, i_ifne 22), (20, i_fal 20)]
def bX0_run_20 : List (Nat × XI) := [(20, i_psh (.int (-1))), (21, i_ret 1)]
def bX0_run_22 : List (Nat × XI) := [(22, i_ild 1), (23, i_ifeq 33), (26, i_ald 0), (27, i_ger 1007 [1]), (30, i_got 37)]
def bX0_run_33 : List (Nat × XI) := [(33, i_ald 0), (34, i_ger 1006 [1]), (37, i_fal 37)]
def bX0_run_37 : List (Nat × XI) := [(37, i_ast 6), (39, i_ald 0), (40, i_ald 6), (42, i_ild 1), (43, i_ald 0), (44, i_ger 1004 [1]), (47, i_ild 2), (48, i_ild 3), (49, i_ild 4), (51, i_ild 5), (53, i_clv 7 [(1, 13)]), (56, i_ald 6), (58, i_gei 28 [6]), (61, i_ret 1)]
def rX0_run : XM := (⟨"WaysAtlas", "run", "(ZIIII)I"⟩, prog_1_method_15_code, 7, (some .int), [], [(0, bX0_run_0), (20, bX0_run_20), (22, bX0_run_22), (33, bX0_run_33), (37, bX0_run_37)], fun _ _ => none)
def bX0_isMethod_0 : List (Nat × XI) := [(0, i_ild 1), (1, i_psh (.int 0)), (2, i_ald 0), (3, i_ger 1003 [1]), (6, i_gei 12 [4]), (9, i_psh (.int 1)), (10, i_sub), (11, i_cls 3 3), (14, i_ret 4)]
def rX0_isMethod : XM := (⟨"WaysAtlas", "isMethod", "(I)Z"⟩, prog_1_method_13_code, 2, (some .boolean), [], [(0, bX0_isMethod_0)], fun _ _ => none)
def bX0_goes_0 : List (Nat × XI) := [(0, i_ald 1), (1, i_ald 0), (2, i_ger 1003 [1]), (5, i_pur 1029 [6]), (8, i_ald 1), (9, i_ald 3), (10, i_pur 1030 [6]), (13, i_ild 2), (14, i_ifeq 36), (17, i_ald 0), (18, i_ger 1003 [1]), (21, i_ald 1), (22, i_ild 4), (24, i_ild 5), (26, i_ild 6), (28, i_ild 7), (30, i_clv 5 [(4, 68)]), (33, i_got 52)]
def bX0_goes_36 : List (Nat × XI) := [(36, i_ald 0), (37, i_ger 1003 [1]), (40, i_ald 1), (41, i_ild 4), (43, i_ild 5), (45, i_ild 6), (47, i_ild 7), (49, i_clv 5 [(4, 71)]), (52, i_fal 52)]
def bX0_goes_52 : List (Nat × XI) := [(52, i_ret 0)]
def rX0_goes : XM := (⟨"WaysAtlas", "goes", "(LWaysAtlas$Run;ZLWaysAtlas$Plan;IIII)V"⟩, prog_1_method_14_code, 8, none, [], [(0, bX0_goes_0), (36, bX0_goes_36), (52, bX0_goes_52)], fun _ _ => none)
def bX0_walks_0 : List (Nat × XI) := [(0, i_psh (.int 0)), (1, i_ist 3), (2, i_psh (.int 0)), (3, i_ist 4), (5, i_fal 5)]
def bX0_walks_5 : List (Nat × XI) := [(5, i_ild 4), (7, i_ald 0), (8, i_len), (9, i_icge 53), (12, i_ild 3), (13, i_ifne 53), (16, i_ald 1), (17, i_clv 0 [(6, 85)]), (20, i_ald 2), (21, i_ald 0), (22, i_ild 4), (24, i_lda 4), (25, i_gei 82 [19, 21, 22, 23, 24, 25, 26, 27, 28, 29, 30, 31, 32]), (28, i_pui 35 [9]), (31, i_ald 0), (32, i_ild 4), (34, i_lda 4), (35, i_ast 5), (37, i_ald 5), (39, i_ald 1), (40, i_ald 2), (41, i_clv 2 [(19, 219), (21, 223), (22, 223), (23, 223), (24, 223), (25, 223), (26, 237), (27, 241), (28, 246), (29, 250), (30, 223), (31, 255), (32, 262)]), (46, i_ist 3), (47, i_inc 4 1), (50, i_got 5)]
def bX0_walks_53 : List (Nat × XI) := [(53, i_ild 3), (54, i_ret 1)]
def rX0_walks : XM := (⟨"WaysAtlas", "walks", "([LWaysAtlas$Statement;LWaysAtlas$Run;LWaysAtlas$Frame;)I"⟩, prog_1_method_2_code, 6, (some .int), [], [(0, bX0_walks_0), (5, bX0_walks_5), (53, bX0_walks_53)], fun _ _ => none)
def bX0_ran_0 : List (Nat × XI) := [(0, i_ald 0), (1, i_ild 1), (2, i_clv 1 [(1, 16)]), (5, i_ast 3), (6, i_ald 3), (7, i_ifn 20), (10, i_ild 2), (11, i_psh (.int 0)), (12, i_psh (.int 9)), (14, i_cls 3 3), (17, i_ifne 24), (20, i_fal 20)]
def bX0_ran_20 : List (Nat × XI) := [(20, i_psh (.int (-1))), (21, i_got 29)]
def bX0_ran_24 : List (Nat × XI) := [(24, i_ald 3), (25, i_ild 2), (26, i_cls 17 2), (29, i_fal 29)]
def bX0_ran_29 : List (Nat × XI) := [(29, i_ret 1)]
def rX0_ran : XM := (⟨"WaysAtlas", "ran", "(II)I"⟩, prog_1_method_17_code, 4, (some .int), [], [(0, bX0_ran_0), (20, bX0_ran_20), (24, bX0_ran_24), (29, bX0_ran_29)], fun _ _ => none)
def bX0_runOf_0 : List (Nat × XI) := [(0, i_ild 1), (1, i_ifne 11), (4, i_ald 0), (5, i_ger 1006 [1]), (8, i_got 24)]
def bX0_runOf_11 : List (Nat × XI) := [(11, i_ild 1), (12, i_psh (.int 1)), (13, i_icne 23), (16, i_ald 0), (17, i_ger 1007 [1]), (20, i_got 24)]
def bX0_runOf_23 : List (Nat × XI) := [(23, i_psh .null), (24, i_fal 24)]
def bX0_runOf_24 : List (Nat × XI) := [(24, i_ast 2), (25, i_ald 2), (26, i_ifn 38), (29, i_ald 2), (30, i_gei 28 [6]), (33, i_psh (.int (-9))), (35, i_icne 42), (38, i_fal 38)]
def bX0_runOf_38 : List (Nat × XI) := [(38, i_psh .null), (39, i_got 43)]
def bX0_runOf_42 : List (Nat × XI) := [(42, i_ald 2), (43, i_fal 43)]
def bX0_runOf_43 : List (Nat × XI) := [(43, i_ret 3)]
def rX0_runOf : XM := (⟨"WaysAtlas", "runOf", "(I)LWaysAtlas$Run;"⟩, prog_1_method_16_code, 3, (some (.object "WaysAtlas$Run")), [], [(0, bX0_runOf_0), (11, bX0_runOf_11), (23, bX0_runOf_23), (24, bX0_runOf_24), (38, bX0_runOf_38), (42, bX0_runOf_42), (43, bX0_runOf_43)], fun _ _ => none)
def bX0_told_0 : List (Nat × XI) := [(0, i_ild 1), (1, i_tsw 0 9 97 [52, 57, 62, 67, 72, 77, 82, 87, 92])]
def bX0_told_52 : List (Nat × XI) := [(52, i_ald 0), (53, i_gei 28 [6]), (56, i_ret 1)]
def bX0_told_57 : List (Nat × XI) := [(57, i_ald 0), (58, i_gei 29 [6]), (61, i_ret 1)]
def bX0_told_62 : List (Nat × XI) := [(62, i_ald 0), (63, i_gei 30 [6]), (66, i_ret 1)]
def bX0_told_67 : List (Nat × XI) := [(67, i_ald 0), (68, i_gei 21 [6]), (71, i_ret 1)]
def bX0_told_72 : List (Nat × XI) := [(72, i_ald 0), (73, i_gei 22 [6]), (76, i_ret 1)]
def bX0_told_77 : List (Nat × XI) := [(77, i_ald 0), (78, i_gei 23 [6]), (81, i_ret 1)]
def bX0_told_82 : List (Nat × XI) := [(82, i_ald 0), (83, i_gei 24 [6]), (86, i_ret 1)]
def bX0_told_87 : List (Nat × XI) := [(87, i_ald 0), (88, i_gei 25 [6]), (91, i_ret 1)]
def bX0_told_92 : List (Nat × XI) := [(92, i_ald 0), (93, i_gei 18 [6]), (96, i_ret 1)]
def bX0_told_97 : List (Nat × XI) := [(97, i_ald 0), (98, i_gei 19 [6]), (101, i_ret 1)]
def rX0_told : XM := (⟨"WaysAtlas", "told", "(LWaysAtlas$Run;I)I"⟩, prog_1_method_18_code, 2, (some .int), [], [(0, bX0_told_0), (52, bX0_told_52), (57, bX0_told_57), (62, bX0_told_62), (67, bX0_told_67), (72, bX0_told_72), (77, bX0_told_77), (82, bX0_told_82), (87, bX0_told_87), (92, bX0_told_92), (97, bX0_told_97)], fun _ _ => none)
def bX0_mark_0 : List (Nat × XI) := [(0, i_ald 0), (1, i_ild 1), (2, i_clv 1 [(1, 16)]), (5, i_ast 3), (6, i_ald 3), (7, i_inn 14), (10, i_psh (.int (-1))), (11, i_got 39)]
def bX0_mark_14 : List (Nat × XI) := [(14, i_ild 2), (15, i_psh (.int 0)), (16, i_ald 3), (17, i_gei 21 [6]), (20, i_psh (.int 1)), (21, i_sub), (22, i_cls 3 3), (25, i_ifeq 37), (28, i_ald 3), (29, i_ger 1032 [6]), (32, i_ild 2), (33, i_lda 0), (34, i_got 39)]
def bX0_mark_37 : List (Nat × XI) := [(37, i_psh (.int (-9))), (39, i_fal 39)]
def bX0_mark_39 : List (Nat × XI) := [(39, i_ret 1)]
def rX0_mark : XM := (⟨"WaysAtlas", "mark", "(II)I"⟩, prog_1_method_19_code, 4, (some .int), [], [(0, bX0_mark_0), (14, bX0_mark_14), (37, bX0_mark_37), (39, bX0_mark_39)], fun _ _ => none)
def bX0_failure_0 : List (Nat × XI) := [(0, i_ald 0), (1, i_ild 1), (2, i_clv 1 [(1, 16)]), (5, i_ast 4), (7, i_ald 4), (9, i_ifn 21), (12, i_ild 3), (13, i_psh (.int 0)), (14, i_psh (.int 5)), (15, i_cls 3 3), (18, i_ifne 23), (21, i_fal 21)]
def bX0_failure_21 : List (Nat × XI) := [(21, i_psh (.int (-1))), (22, i_ret 1)]
def bX0_failure_23 : List (Nat × XI) := [(23, i_ild 2), (24, i_psh (.int 0)), (25, i_ald 4), (27, i_gei 22 [6]), (30, i_psh (.int 1)), (31, i_sub), (32, i_cls 3 3), (35, i_ifeq 48), (38, i_ald 4), (40, i_ild 2), (41, i_ild 3), (42, i_cls 20 3), (45, i_got 50)]
def bX0_failure_48 : List (Nat × XI) := [(48, i_psh (.int (-9))), (50, i_fal 50)]
def bX0_failure_50 : List (Nat × XI) := [(50, i_ret 1)]
def rX0_failure : XM := (⟨"WaysAtlas", "failure", "(III)I"⟩, prog_1_method_20_code, 5, (some .int), [], [(0, bX0_failure_0), (21, bX0_failure_21), (23, bX0_failure_23), (48, bX0_failure_48), (50, bX0_failure_50)], fun _ _ => none)
def bX0_ofFailure_0 : List (Nat × XI) := [(0, i_ild 2), (1, i_ifne 13), (4, i_ald 0), (5, i_ger 1033 [6]), (8, i_ild 1), (9, i_lda 0), (10, i_got 75)]
def bX0_ofFailure_13 : List (Nat × XI) := [(13, i_ild 2), (14, i_psh (.int 1)), (15, i_icne 27), (18, i_ald 0), (19, i_ger 1034 [6]), (22, i_ild 1), (23, i_lda 0), (24, i_got 75)]
def bX0_ofFailure_27 : List (Nat × XI) := [(27, i_ild 2), (28, i_psh (.int 2)), (29, i_icne 41), (32, i_ald 0), (33, i_ger 1035 [6]), (36, i_ild 1), (37, i_lda 0), (38, i_got 75)]
def bX0_ofFailure_41 : List (Nat × XI) := [(41, i_ild 2), (42, i_psh (.int 3)), (43, i_icne 55), (46, i_ald 0), (47, i_ger 1036 [6]), (50, i_ild 1), (51, i_lda 0), (52, i_got 75)]
def bX0_ofFailure_55 : List (Nat × XI) := [(55, i_ild 2), (56, i_psh (.int 4)), (57, i_icne 69), (60, i_ald 0), (61, i_ger 1037 [6]), (64, i_ild 1), (65, i_lda 0), (66, i_got 75)]
def bX0_ofFailure_69 : List (Nat × XI) := [(69, i_ald 0), (70, i_ger 1038 [6]), (73, i_ild 1), (74, i_lda 0), (75, i_fal 75)]
def bX0_ofFailure_75 : List (Nat × XI) := [(75, i_ret 1)]
def rX0_ofFailure : XM := (⟨"WaysAtlas", "ofFailure", "(LWaysAtlas$Run;II)I"⟩, prog_1_method_21_code, 3, (some .int), [], [(0, bX0_ofFailure_0), (13, bX0_ofFailure_13), (27, bX0_ofFailure_27), (41, bX0_ofFailure_41), (55, bX0_ofFailure_55), (69, bX0_ofFailure_69), (75, bX0_ofFailure_75)], fun _ _ => none)
def bX0_trace_0 : List (Nat × XI) := [(0, i_ald 0), (1, i_ild 1), (2, i_clv 1 [(1, 16)]), (5, i_ast 4), (7, i_ald 4), (9, i_inn 14), (12, i_psh (.int (-1))), (13, i_ret 1)]
def bX0_trace_14 : List (Nat × XI) := [(14, i_ild 2), (15, i_psh (.int 0)), (16, i_ald 4), (18, i_gei 22 [6]), (21, i_psh (.int 1)), (22, i_sub), (23, i_cls 3 3), (26, i_ifeq 61), (29, i_ild 3), (30, i_psh (.int 0)), (31, i_ald 4), (33, i_ger 1038 [6]), (36, i_ild 2), (37, i_lda 0), (38, i_psh (.int 1)), (39, i_sub), (40, i_cls 3 3), (43, i_ifeq 61), (46, i_ald 4), (48, i_ger 1039 [6]), (51, i_psh (.int 12)), (53, i_ild 2), (54, i_mul), (55, i_ild 3), (56, i_add), (57, i_lda 0), (58, i_got 63)]
def bX0_trace_61 : List (Nat × XI) := [(61, i_psh (.int (-9))), (63, i_fal 63)]
def bX0_trace_63 : List (Nat × XI) := [(63, i_ret 1)]
def rX0_trace : XM := (⟨"WaysAtlas", "trace", "(III)I"⟩, prog_1_method_22_code, 5, (some .int), [], [(0, bX0_trace_0), (14, bX0_trace_14), (61, bX0_trace_61), (63, bX0_trace_63)], fun _ _ => none)
def bX0_closed_0 : List (Nat × XI) := [(0, i_ald 0), (1, i_ild 1), (2, i_clv 1 [(1, 16)]), (5, i_ast 3), (6, i_ald 3), (7, i_inn 14), (10, i_psh (.int (-1))), (11, i_got 39)]
def bX0_closed_14 : List (Nat × XI) := [(14, i_ild 2), (15, i_psh (.int 0)), (16, i_ald 3), (17, i_gei 24 [6]), (20, i_psh (.int 1)), (21, i_sub), (22, i_cls 3 3), (25, i_ifeq 37), (28, i_ald 3), (29, i_ger 1040 [6]), (32, i_ild 2), (33, i_lda 0), (34, i_got 39)]
def bX0_closed_37 : List (Nat × XI) := [(37, i_psh (.int (-9))), (39, i_fal 39)]
def bX0_closed_39 : List (Nat × XI) := [(39, i_ret 1)]
def rX0_closed : XM := (⟨"WaysAtlas", "closed", "(II)I"⟩, prog_1_method_23_code, 4, (some .int), [], [(0, bX0_closed_0), (14, bX0_closed_14), (37, bX0_closed_37), (39, bX0_closed_39)], fun _ _ => none)
def bX0_entered_0 : List (Nat × XI) := [(0, i_ald 0), (1, i_ild 1), (2, i_clv 1 [(1, 16)]), (5, i_ast 3), (6, i_ald 3), (7, i_ifn 33), (10, i_ald 0), (11, i_ild 2), (12, i_clv 1 [(1, 9)]), (15, i_ifeq 33), (18, i_ald 0), (19, i_ger 1003 [1]), (22, i_ger 1022 [4]), (25, i_ild 2), (26, i_lda 4), (27, i_clv 0 [(19, 216), (21, 216), (22, 216), (23, 216), (24, 216), (25, 216), (26, 216), (27, 216), (28, 216), (29, 216), (30, 216), (31, 216), (32, 266)]), (30, i_ifne 35), (33, i_fal 33)]
def bX0_entered_33 : List (Nat × XI) := [(33, i_psh (.int (-1))), (34, i_ret 1)]
def bX0_entered_35 : List (Nat × XI) := [(35, i_ald 3), (36, i_ger 1041 [6]), (39, i_ild 2), (40, i_lda 0), (41, i_ret 1)]
def rX0_entered : XM := (⟨"WaysAtlas", "entered", "(II)I"⟩, prog_1_method_24_code, 4, (some .int), [], [(0, bX0_entered_0), (33, bX0_entered_33), (35, bX0_entered_35)], fun _ _ => none)
def bX0_handler_0 : List (Nat × XI) := [(0, i_ild 1), (1, i_psh (.int 0)), (2, i_ald 0), (3, i_ger 1003 [1]), (6, i_gei 15 [4]), (9, i_psh (.int 1)), (10, i_sub), (11, i_cls 3 3), (14, i_ifeq 26), (17, i_ild 2), (18, i_psh (.int 0)), (19, i_psh (.int 2)), (20, i_cls 3 3), (23, i_ifne 28), (26, i_fal 26)]
def bX0_handler_26 : List (Nat × XI) := [(26, i_psh (.int (-1))), (27, i_ret 1)]
def bX0_handler_28 : List (Nat × XI) := [(28, i_ald 0), (29, i_ger 1003 [1]), (32, i_ger 1023 [4]), (35, i_ild 1), (36, i_lda 7), (37, i_ast 3), (38, i_ald 0), (39, i_ger 1003 [1]), (42, i_ger 1024 [4]), (45, i_ild 1), (46, i_lda 0), (47, i_ist 4), (49, i_ild 2), (50, i_psh (.int 2)), (51, i_icge 73), (54, i_ild 2), (55, i_ifne 65), (58, i_ald 3), (59, i_gei 82 [19, 21, 22, 23, 24, 25, 26, 27, 28, 29, 30, 31, 32]), (62, i_got 72)]
def bX0_handler_65 : List (Nat × XI) := [(65, i_ald 3), (66, i_ger 1136 [32]), (69, i_ild 4), (71, i_lda 0), (72, i_fal 72)]
def bX0_handler_72 : List (Nat × XI) := [(72, i_ret 1)]
def bX0_handler_73 : List (Nat × XI) := [(73, i_psh (.int 0)), (74, i_ist 5), (76, i_psh (.int 0)), (77, i_ist 6), (79, i_fal 79)]
def bX0_handler_79 : List (Nat × XI) := [(79, i_ild 6), (81, i_ild 4), (83, i_icge 118), (86, i_ild 5), (88, i_ald 0), (89, i_ger 1003 [1]), (92, i_ald 3), (93, i_ger 1136 [32]), (96, i_ild 4), (98, i_lda 0), (99, i_ald 3), (100, i_ger 1136 [32]), (103, i_ild 6), (105, i_lda 0), (106, i_clv 2 [(4, 70)]), (109, i_or), (110, i_ist 5), (112, i_inc 6 1), (115, i_got 79)]
def bX0_handler_118 : List (Nat × XI) := [(118, i_ild 5), (120, i_ifeq 127), (123, i_psh (.int 1)), (124, i_got 128)]
def bX0_handler_127 : List (Nat × XI) := [(127, i_psh (.int 0)), (128, i_fal 128)]
def bX0_handler_128 : List (Nat × XI) := [(128, i_ret 1)]
def rX0_handler : XM := (⟨"WaysAtlas", "handler", "(II)I"⟩, prog_1_method_25_code, 7, (some .int), [], [(0, bX0_handler_0), (26, bX0_handler_26), (28, bX0_handler_28), (65, bX0_handler_65), (72, bX0_handler_72), (73, bX0_handler_73), (79, bX0_handler_79), (118, bX0_handler_118), (127, bX0_handler_127), (128, bX0_handler_128)], fun _ _ => none)
def bX0_ways_0 : List (Nat × XI) := [(0, i_ald 0), (1, i_ild 1), (2, i_clv 1 [(1, 12)]), (5, i_ifne 10), (8, i_psh (.int (-1))), (9, i_ret 1)]
def bX0_ways_10 : List (Nat × XI) := [(10, i_psh (.int 244)), (13, i_nwa 0), (15, i_ast 4), (17, i_new 4 4), (20, i_dup), (21, i_cli 77 0), (24, i_ast 5), (26, i_ald 0), (27, i_ald 0), (28, i_ger 1008 [1]), (31, i_psh (.int 0)), (32, i_ald 0), (33, i_ger 1005 [1]), (36, i_ild 1), (37, i_ild 2), (38, i_ild 3), (39, i_psh (.int 400)), (42, i_clv 7 [(1, 13)]), (45, i_ald 4), (47, i_psh (.int 0)), (48, i_ald 0), (49, i_ger 1008 [1]), (52, i_cls 26 3), (55, i_ist 6), (57, i_ald 5), (59, i_psh (.int 1)), (60, i_pui 16 [5]), (63, i_psh (.int 0)), (64, i_ist 7), (66, i_fal 66)]
def bX0_ways_66 : List (Nat × XI) := [(66, i_ild 7), (68, i_ald 0), (69, i_ger 1008 [1]), (72, i_gei 26 [6]), (75, i_icge 166), (78, i_ald 5), (80, i_ger 1026 [5]), (83, i_psh (.int 0)), (84, i_ald 0), (85, i_ger 1008 [1]), (88, i_ger 1043 [6]), (91, i_psh (.int 2)), (92, i_ild 7), (94, i_mul), (95, i_lda 0), (96, i_ias), (97, i_ald 5), (99, i_ger 1027 [5]), (102, i_psh (.int 0)), (103, i_ald 0), (104, i_ger 1008 [1]), (107, i_ger 1043 [6]), (110, i_psh (.int 2)), (111, i_ild 7), (113, i_mul), (114, i_psh (.int 1)), (115, i_add), (116, i_lda 0), (117, i_ias), (118, i_ald 0), (119, i_ald 0), (120, i_ger 1009 [1]), (123, i_ild 7), (125, i_psh (.int 2)), (126, i_rem), (127, i_psh (.int 1)), (128, i_icne 135), (131, i_psh (.int 1)), (132, i_got 136)]
def bX0_ways_135 : List (Nat × XI) := [(135, i_psh (.int 0)), (136, i_fal 136)]
def bX0_ways_136 : List (Nat × XI) := [(136, i_ald 5), (138, i_ild 1), (139, i_ild 2), (140, i_ild 3), (141, i_psh (.int 400)), (144, i_clv 7 [(1, 13)]), (147, i_ald 4), (149, i_ild 6), (151, i_ald 0), (152, i_ger 1009 [1]), (155, i_cls 26 3), (158, i_ist 6), (160, i_inc 7 1), (163, i_got 66)]
def bX0_ways_166 : List (Nat × XI) := [(166, i_ild 6), (168, i_ret 1)]
def rX0_ways : XM := (⟨"WaysAtlas", "ways", "(III)I"⟩, prog_1_method_29_code, 8, (some .int), [], [(0, bX0_ways_0), (10, bX0_ways_10), (66, bX0_ways_66), (135, bX0_ways_135), (136, bX0_ways_136), (166, bX0_ways_166)], fun _ _ => none)
def bX0_adds_0 : List (Nat × XI) := [(0, i_ald 0), (1, i_ild 1), (2, i_ald 2), (3, i_cls 27 3), (6, i_ifeq 11), (9, i_ild 1), (10, i_ret 1)]
def bX0_adds_11 : List (Nat × XI) := [(11, i_ald 0), (12, i_psh (.int 4)), (13, i_ild 1), (14, i_mul), (15, i_ald 2), (16, i_gei 28 [6]), (19, i_ias), (20, i_ald 0), (21, i_psh (.int 4)), (22, i_ild 1), (23, i_mul), (24, i_psh (.int 1)), (25, i_add), (26, i_ald 2), (27, i_gei 29 [6]), (30, i_ias), (31, i_ald 0), (32, i_psh (.int 4)), (33, i_ild 1), (34, i_mul), (35, i_psh (.int 2)), (36, i_add), (37, i_ald 2), (38, i_cls 28 1), (41, i_ias), (42, i_ald 0), (43, i_psh (.int 4)), (44, i_ild 1), (45, i_mul), (46, i_psh (.int 3)), (47, i_add), (48, i_ald 2), (49, i_clv 0 [(6, 91)]), (52, i_ias), (53, i_ild 1), (54, i_psh (.int 1)), (55, i_add), (56, i_ret 1)]
def rX0_adds : XM := (⟨"WaysAtlas", "adds", "([IILWaysAtlas$Run;)I"⟩, prog_1_method_28_code, 3, (some .int), [], [(0, bX0_adds_0), (11, bX0_adds_11)], fun _ _ => none)
def bX0_isThere_0 : List (Nat × XI) := [(0, i_psh (.int 0)), (1, i_ist 3), (2, i_fal 2)]
def bX0_isThere_2 : List (Nat × XI) := [(2, i_ild 3), (3, i_psh (.int 4)), (4, i_ild 1), (5, i_mul), (6, i_icge 63), (9, i_ald 0), (10, i_ild 3), (11, i_lda 0), (12, i_ald 2), (13, i_gei 28 [6]), (16, i_icne 57), (19, i_ald 0), (20, i_ild 3), (21, i_psh (.int 1)), (22, i_add), (23, i_lda 0), (24, i_ald 2), (25, i_gei 29 [6]), (28, i_icne 57), (31, i_ald 0), (32, i_ild 3), (33, i_psh (.int 2)), (34, i_add), (35, i_lda 0), (36, i_ald 2), (37, i_cls 28 1), (40, i_icne 57), (43, i_ald 0), (44, i_ild 3), (45, i_psh (.int 3)), (46, i_add), (47, i_lda 0), (48, i_ald 2), (49, i_clv 0 [(6, 91)]), (52, i_icne 57), (55, i_psh (.int 1)), (56, i_ret 4)]
def bX0_isThere_57 : List (Nat × XI) := [(57, i_inc 3 4), (60, i_got 2)]
def bX0_isThere_63 : List (Nat × XI) := [(63, i_psh (.int 0)), (64, i_ret 4)]
def rX0_isThere : XM := (⟨"WaysAtlas", "isThere", "([IILWaysAtlas$Run;)Z"⟩, prog_1_method_26_code, 4, (some .boolean), [], [(0, bX0_isThere_0), (2, bX0_isThere_2), (57, bX0_isThere_57), (63, bX0_isThere_63)], fun _ _ => none)
def bX0_kindOf_0 : List (Nat × XI) := [(0, i_ald 0), (1, i_gei 28 [6]), (4, i_psh (.int 1)), (5, i_icne 20), (8, i_ald 0), (9, i_ger 1033 [6]), (12, i_ald 0), (13, i_gei 30 [6]), (16, i_lda 0), (17, i_got 22)]
def bX0_kindOf_20 : List (Nat × XI) := [(20, i_psh (.int (-9))), (22, i_fal 22)]
def bX0_kindOf_22 : List (Nat × XI) := [(22, i_ret 1)]
def rX0_kindOf : XM := (⟨"WaysAtlas", "kindOf", "(LWaysAtlas$Run;)I"⟩, prog_1_method_27_code, 1, (some .int), [], [(0, bX0_kindOf_0), (20, bX0_kindOf_20), (22, bX0_kindOf_22)], fun _ _ => none)
def bX0_same_0 : List (Nat × XI) := [(0, i_ald 0), (1, i_ild 1), (2, i_clv 1 [(1, 12)]), (5, i_ifne 10), (8, i_psh (.int (-1))), (9, i_ret 1)]
def bX0_same_10 : List (Nat × XI) := [(10, i_ald 0), (11, i_ald 0), (12, i_ger 1008 [1]), (15, i_psh (.int 0)), (16, i_ald 0), (17, i_ger 1004 [1]), (20, i_ild 1), (21, i_ild 2), (22, i_ild 3), (23, i_psh (.int 400)), (26, i_clv 7 [(1, 13)]), (29, i_ald 0), (30, i_ald 0), (31, i_ger 1009 [1]), (34, i_psh (.int 1)), (35, i_ald 0), (36, i_ger 1004 [1]), (39, i_ild 1), (40, i_ild 2), (41, i_ild 3), (42, i_psh (.int 400)), (45, i_clv 7 [(1, 13)]), (48, i_psh (.int 1)), (49, i_ist 4), (51, i_psh (.int 0)), (52, i_ist 5), (54, i_fal 54)]
def bX0_same_54 : List (Nat × XI) := [(54, i_ild 5), (56, i_psh (.int 10)), (58, i_icge 98), (61, i_ild 4), (63, i_ald 0), (64, i_ger 1008 [1]), (67, i_ild 5), (69, i_cls 17 2), (72, i_ald 0), (73, i_ger 1009 [1]), (76, i_ild 5), (78, i_cls 17 2), (81, i_icne 88), (84, i_psh (.int 1)), (85, i_got 89)]
def bX0_same_88 : List (Nat × XI) := [(88, i_psh (.int 0)), (89, i_fal 89)]
def bX0_same_89 : List (Nat × XI) := [(89, i_and), (90, i_ist 4), (92, i_inc 5 1), (95, i_got 54)]
def bX0_same_98 : List (Nat × XI) := [(98, i_psh (.int 0)), (99, i_ist 5), (101, i_fal 101)]
def bX0_same_101 : List (Nat × XI) := [(101, i_ild 5), (103, i_ald 0), (104, i_ger 1008 [1]), (107, i_gei 21 [6]), (110, i_icge 154), (113, i_ild 4), (115, i_ifeq 154), (118, i_ald 0), (119, i_ger 1008 [1]), (122, i_ger 1032 [6]), (125, i_ild 5), (127, i_lda 0), (128, i_ald 0), (129, i_ger 1009 [1]), (132, i_ger 1032 [6]), (135, i_ild 5), (137, i_lda 0), (138, i_icne 145), (141, i_psh (.int 1)), (142, i_got 146)]
def bX0_same_145 : List (Nat × XI) := [(145, i_psh (.int 0)), (146, i_fal 146)]
def bX0_same_146 : List (Nat × XI) := [(146, i_ist 4), (148, i_inc 5 1), (151, i_got 101)]
def bX0_same_154 : List (Nat × XI) := [(154, i_psh (.int 0)), (155, i_ist 5), (157, i_fal 157)]
def bX0_same_157 : List (Nat × XI) := [(157, i_ild 5), (159, i_ald 0), (160, i_ger 1008 [1]), (163, i_gei 24 [6]), (166, i_icge 210), (169, i_ild 4), (171, i_ifeq 210), (174, i_ald 0), (175, i_ger 1008 [1]), (178, i_ger 1040 [6]), (181, i_ild 5), (183, i_lda 0), (184, i_ald 0), (185, i_ger 1009 [1]), (188, i_ger 1040 [6]), (191, i_ild 5), (193, i_lda 0), (194, i_icne 201), (197, i_psh (.int 1)), (198, i_got 202)]
def bX0_same_201 : List (Nat × XI) := [(201, i_psh (.int 0)), (202, i_fal 202)]
def bX0_same_202 : List (Nat × XI) := [(202, i_ist 4), (204, i_inc 5 1), (207, i_got 157)]
def bX0_same_210 : List (Nat × XI) := [(210, i_psh (.int 0)), (211, i_ist 5), (213, i_fal 213)]
def bX0_same_213 : List (Nat × XI) := [(213, i_ild 5), (215, i_ald 0), (216, i_ger 1008 [1]), (219, i_gei 22 [6]), (222, i_icge 287), (225, i_ild 4), (227, i_ifeq 287), (230, i_psh (.int 0)), (231, i_ist 6), (233, i_fal 233)]
def bX0_same_233 : List (Nat × XI) := [(233, i_ild 6), (235, i_psh (.int 6)), (237, i_icge 281), (240, i_ild 4), (242, i_ald 0), (243, i_ger 1008 [1]), (246, i_ild 5), (248, i_ild 6), (250, i_cls 20 3), (253, i_ald 0), (254, i_ger 1009 [1]), (257, i_ild 5), (259, i_ild 6), (261, i_cls 20 3), (264, i_icne 271), (267, i_psh (.int 1)), (268, i_got 272)]
def bX0_same_271 : List (Nat × XI) := [(271, i_psh (.int 0)), (272, i_fal 272)]
def bX0_same_272 : List (Nat × XI) := [(272, i_and), (273, i_ist 4), (275, i_inc 6 1), (278, i_got 233)]
def bX0_same_281 : List (Nat × XI) := [(281, i_inc 5 1), (284, i_got 213)]
def bX0_same_287 : List (Nat × XI) := [(287, i_psh (.int 0)), (288, i_ist 5), (290, i_fal 290)]
def bX0_same_290 : List (Nat × XI) := [(290, i_ild 5), (292, i_psh (.int 80)), (294, i_icge 338), (297, i_ild 4), (299, i_ifeq 338), (302, i_ald 0), (303, i_ger 1008 [1]), (306, i_ger 1041 [6]), (309, i_ild 5), (311, i_lda 0), (312, i_ald 0), (313, i_ger 1009 [1]), (316, i_ger 1041 [6]), (319, i_ild 5), (321, i_lda 0), (322, i_icne 329), (325, i_psh (.int 1)), (326, i_got 330)]
def bX0_same_329 : List (Nat × XI) := [(329, i_psh (.int 0)), (330, i_fal 330)]
def bX0_same_330 : List (Nat × XI) := [(330, i_ist 4), (332, i_inc 5 1), (335, i_got 290)]
def bX0_same_338 : List (Nat × XI) := [(338, i_ild 4), (340, i_ifeq 347), (343, i_psh (.int 1)), (344, i_got 348)]
def bX0_same_347 : List (Nat × XI) := [(347, i_psh (.int 0)), (348, i_fal 348)]
def bX0_same_348 : List (Nat × XI) := [(348, i_ret 1)]
def rX0_same : XM := (⟨"WaysAtlas", "same", "(III)I"⟩, prog_1_method_30_code, 7, (some .int), [], [(0, bX0_same_0), (10, bX0_same_10), (54, bX0_same_54), (88, bX0_same_88), (89, bX0_same_89), (98, bX0_same_98), (101, bX0_same_101), (145, bX0_same_145), (146, bX0_same_146), (154, bX0_same_154), (157, bX0_same_157), (201, bX0_same_201), (202, bX0_same_202), (210, bX0_same_210), (213, bX0_same_213), (233, bX0_same_233), (271, bX0_same_271), (272, bX0_same_272), (281, bX0_same_281), (287, bX0_same_287), (290, bX0_same_290), (329, bX0_same_329), (330, bX0_same_330), (338, bX0_same_338), (347, bX0_same_347), (348, bX0_same_348)], fun _ _ => none)
def bX1_init_0 : List (Nat × XI) := [(0, i_ald 0), (1, i_obj), (4, i_ald 0), (5, i_psh (.int 1000)), (8, i_nwa 1), (10, i_pur 1010 [2]), (13, i_ald 0), (14, i_psh (.int 1001)), (17, i_nwa 0), (19, i_pur 1011 [2]), (22, i_ald 0), (23, i_psh (.int 1001)), (26, i_nwa 0), (28, i_pur 1012 [2]), (31, i_ald 0), (32, i_psh (.int 1001)), (35, i_nwa 0), (37, i_pur 1013 [2]), (40, i_ret 0)]
def rX1_init : XM := (⟨"WaysAtlas$Scanner", "<init>", "()V"⟩, prog_25_method_1_code, 1, none, [], [(0, bX1_init_0)], fun _ _ => none)
def bX1_cut_0 : List (Nat × XI) := [(0, i_ald 0), (1, i_psh (.int 0)), (2, i_pui 3 [2]), (5, i_ald 0), (6, i_psh (.int 0)), (7, i_pui 4 [2]), (10, i_psh (.int 0)), (11, i_ist 1), (12, i_fal 12)]
def bX1_cut_12 : List (Nat × XI) := [(12, i_ild 1), (13, i_ifne 309), (16, i_fal 16)]
def bX1_cut_16 : List (Nat × XI) := [(16, i_ald 0), (17, i_gei 4 [2]), (20, i_ald 0), (21, i_gei 2 [2]), (24, i_icge 68), (27, i_ald 0), (28, i_ger 1010 [2]), (31, i_ald 0), (32, i_gei 4 [2]), (35, i_lda 1), (36, i_psh (.int 32)), (38, i_iceq 55), (41, i_ald 0), (42, i_ger 1010 [2]), (45, i_ald 0), (46, i_gei 4 [2]), (49, i_lda 1), (50, i_psh (.int 10)), (52, i_icne 68), (55, i_fal 55)]
def bX1_cut_55 : List (Nat × XI) := [(55, i_ald 0), (56, i_dup), (57, i_gei 4 [2]), (60, i_psh (.int 1)), (61, i_add), (62, i_pui 4 [2]), (65, i_got 16)]
def bX1_cut_68 : List (Nat × XI) := [(68, i_ald 0), (69, i_ald 0), (70, i_gei 4 [2]), (73, i_clv 1 [(2, 32)]), (76, i_ist 2), (77, i_ald 0), (78, i_gei 4 [2]), (81, i_ald 0), (82, i_gei 2 [2]), (85, i_icne 101), (88, i_ald 0), (89, i_psh (.int 0)), (90, i_ald 0), (91, i_gei 4 [2]), (94, i_psh (.int 0)), (95, i_clv 3 [(2, 33)]), (98, i_got 285)]
def bX1_cut_101 : List (Nat × XI) := [(101, i_ild 2), (102, i_cls 34 1), (105, i_ifeq 115), (108, i_ald 0), (109, i_clv 0 [(2, 35)]), (112, i_got 285)]
def bX1_cut_115 : List (Nat × XI) := [(115, i_ild 2), (116, i_cls 36 1), (119, i_ifeq 155), (122, i_ald 0), (123, i_gei 4 [2]), (126, i_ist 3), (127, i_ald 0), (128, i_psh (.int 4)), (129, i_clv 1 [(2, 37)]), (132, i_ist 4), (134, i_ald 0), (135, i_ild 4), (137, i_ifge 144), (140, i_psh (.int 1)), (141, i_got 146)]
def bX1_cut_144 : List (Nat × XI) := [(144, i_psh (.int 7)), (146, i_fal 146)]
def bX1_cut_146 : List (Nat × XI) := [(146, i_ild 3), (147, i_ild 4), (149, i_clv 3 [(2, 33)]), (152, i_got 285)]
def bX1_cut_155 : List (Nat × XI) := [(155, i_ild 2), (156, i_psh (.int 43)), (158, i_iceq 251), (161, i_ild 2), (162, i_psh (.int 45)), (164, i_iceq 251), (167, i_ild 2), (168, i_psh (.int 42)), (170, i_iceq 251), (173, i_ild 2), (174, i_psh (.int 47)), (176, i_iceq 251), (179, i_ild 2), (180, i_psh (.int 37)), (182, i_iceq 251), (185, i_ild 2), (186, i_psh (.int 40)), (188, i_iceq 251), (191, i_ild 2), (192, i_psh (.int 41)), (194, i_iceq 251), (197, i_ild 2), (198, i_psh (.int 91)), (200, i_iceq 251), (203, i_ild 2), (204, i_psh (.int 93)), (206, i_iceq 251), (209, i_ild 2), (210, i_psh (.int 123)), (212, i_iceq 251), (215, i_ild 2), (216, i_psh (.int 125)), (218, i_iceq 251), (221, i_ild 2), (222, i_psh (.int 61)), (224, i_iceq 251), (227, i_ild 2), (228, i_psh (.int 60)), (230, i_iceq 251), (233, i_ild 2), (234, i_psh (.int 62)), (236, i_iceq 251), (239, i_ild 2), (240, i_psh (.int 44)), (242, i_iceq 251), (245, i_ild 2), (246, i_psh (.int 59)), (248, i_icne 255), (251, i_fal 251)]
def bX1_cut_251 : List (Nat × XI) := [(251, i_psh (.int 1)), (252, i_got 256)]
def bX1_cut_255 : List (Nat × XI) := [(255, i_psh (.int 0)), (256, i_fal 256)]
def bX1_cut_256 : List (Nat × XI) := [(256, i_ist 3), (257, i_ald 0), (258, i_ild 3), (259, i_ifeq 266), (262, i_ild 2), (263, i_got 267)]
def bX1_cut_266 : List (Nat × XI) := [(266, i_psh (.int 1)), (267, i_fal 267)]
def bX1_cut_267 : List (Nat × XI) := [(267, i_ald 0), (268, i_gei 4 [2]), (271, i_psh (.int 0)), (272, i_clv 3 [(2, 33)]), (275, i_ald 0), (276, i_dup), (277, i_gei 4 [2]), (280, i_psh (.int 1)), (281, i_add), (282, i_pui 4 [2]), (285, i_fal 285)]
def bX1_cut_285 : List (Nat × XI) := [(285, i_ald 0), (286, i_ger 1011 [2]), (289, i_ald 0), (290, i_gei 3 [2]), (293, i_psh (.int 1)), (294, i_sub), (295, i_lda 0), (296, i_psh (.int 1)), (297, i_icgt 304), (300, i_psh (.int 1)), (301, i_got 305)]
def bX1_cut_304 : List (Nat × XI) := [(304, i_psh (.int 0)), (305, i_fal 305)]
def bX1_cut_305 : List (Nat × XI) := [(305, i_ist 1), (306, i_got 12)]
def bX1_cut_309 : List (Nat × XI) := [(309, i_ald 0), (310, i_psh (.int 0)), (311, i_pui 2 [2]), (314, i_ret 0)]
def rX1_cut : XM := (⟨"WaysAtlas$Scanner", "cut", "()V"⟩, prog_25_method_6_code, 5, none, [], [(0, bX1_cut_0), (12, bX1_cut_12), (16, bX1_cut_16), (55, bX1_cut_55), (68, bX1_cut_68), (101, bX1_cut_101), (115, bX1_cut_115), (144, bX1_cut_144), (146, bX1_cut_146), (155, bX1_cut_155), (251, bX1_cut_251), (255, bX1_cut_255), (256, bX1_cut_256), (266, bX1_cut_266), (267, bX1_cut_267), (285, bX1_cut_285), (304, bX1_cut_304), (305, bX1_cut_305), (309, bX1_cut_309)], fun _ _ => none)
def bX1_byteAt_0 : List (Nat × XI) := [(0, i_ild 1), (1, i_ald 0), (2, i_gei 2 [2]), (5, i_icge 21), (8, i_ald 0), (9, i_ger 1010 [2]), (12, i_ild 1), (13, i_lda 1), (14, i_psh (.int 255)), (17, i_and), (18, i_got 22)]
def bX1_byteAt_21 : List (Nat × XI) := [(21, i_psh (.int 0)), (22, i_fal 22)]
def bX1_byteAt_22 : List (Nat × XI) := [(22, i_ret 1)]
def rX1_byteAt : XM := (⟨"WaysAtlas$Scanner", "byteAt", "(I)I"⟩, prog_25_method_2_code, 2, (some .int), [], [(0, bX1_byteAt_0), (21, bX1_byteAt_21), (22, bX1_byteAt_22)], fun _ _ => none)
def bX1_add_0 : List (Nat × XI) := [(0, i_ald 0), (1, i_ger 1011 [2]), (4, i_ald 0), (5, i_gei 3 [2]), (8, i_ild 1), (9, i_ias), (10, i_ald 0), (11, i_ger 1012 [2]), (14, i_ald 0), (15, i_gei 3 [2]), (18, i_ild 2), (19, i_ias), (20, i_ald 0), (21, i_ger 1013 [2]), (24, i_ald 0), (25, i_gei 3 [2]), (28, i_ild 3), (29, i_ias), (30, i_ald 0), (31, i_dup), (32, i_gei 3 [2]), (35, i_psh (.int 1)), (36, i_add), (37, i_pui 3 [2]), (40, i_ret 0)]
def rX1_add : XM := (⟨"WaysAtlas$Scanner", "add", "(III)V"⟩, prog_25_method_5_code, 4, none, [], [(0, bX1_add_0)], fun _ _ => none)
def bX1_isLetter_0 : List (Nat × XI) := [(0, i_ild 0), (1, i_psh (.int 97)), (3, i_iclt 16), (6, i_ild 0), (7, i_psh (.int 122)), (9, i_icgt 16), (12, i_psh (.int 1)), (13, i_got 17)]
def bX1_isLetter_16 : List (Nat × XI) := [(16, i_psh (.int 0)), (17, i_fal 17)]
def bX1_isLetter_17 : List (Nat × XI) := [(17, i_ret 4)]
def rX1_isLetter : XM := (⟨"WaysAtlas$Scanner", "isLetter", "(I)Z"⟩, prog_25_method_3_code, 1, (some .boolean), [], [(0, bX1_isLetter_0), (16, bX1_isLetter_16), (17, bX1_isLetter_17)], fun _ _ => none)
def bX1_word_0 : List (Nat × XI) := [(0, i_ald 0), (1, i_gei 4 [2]), (4, i_ist 1), (5, i_fal 5)]
def bX1_word_5 : List (Nat × XI) := [(5, i_ald 0), (6, i_ald 0), (7, i_gei 4 [2]), (10, i_clv 1 [(2, 32)]), (13, i_cls 34 1), (16, i_ifeq 32), (19, i_ald 0), (20, i_dup), (21, i_gei 4 [2]), (24, i_psh (.int 1)), (25, i_add), (26, i_pui 4 [2]), (29, i_got 5)]
def bX1_word_32 : List (Nat × XI) := [(32, i_ald 0), (33, i_ald 0), (34, i_gei 4 [2]), (37, i_clv 1 [(2, 32)]), (40, i_cls 36 1), (43, i_ifeq 134), (46, i_ald 0), (47, i_ild 1), (48, i_clv 1 [(2, 32)]), (51, i_ist 2), (52, i_ald 0), (53, i_gei 4 [2]), (56, i_ild 1), (57, i_sub), (58, i_psh (.int 1)), (59, i_icle 66), (62, i_psh (.int 1)), (63, i_got 108)]
def bX1_word_66 : List (Nat × XI) := [(66, i_ild 2), (67, i_psh (.int 107)), (69, i_icne 76), (72, i_psh (.int 3)), (73, i_got 108)]
def bX1_word_76 : List (Nat × XI) := [(76, i_ild 2), (77, i_psh (.int 109)), (79, i_icne 86), (82, i_psh (.int 4)), (83, i_got 108)]
def bX1_word_86 : List (Nat × XI) := [(86, i_ild 2), (87, i_psh (.int 118)), (89, i_icne 96), (92, i_psh (.int 5)), (93, i_got 108)]
def bX1_word_96 : List (Nat × XI) := [(96, i_ild 2), (97, i_psh (.int 114)), (99, i_icne 107), (102, i_psh (.int 6)), (104, i_got 108)]
def bX1_word_107 : List (Nat × XI) := [(107, i_psh (.int 1)), (108, i_fal 108)]
def bX1_word_108 : List (Nat × XI) := [(108, i_ist 3), (109, i_ald 0), (110, i_psh (.int 2)), (111, i_clv 1 [(2, 37)]), (114, i_ist 4), (116, i_ald 0), (117, i_ild 4), (119, i_ifge 126), (122, i_psh (.int 1)), (123, i_got 127)]
def bX1_word_126 : List (Nat × XI) := [(126, i_ild 3), (127, i_fal 127)]
def bX1_word_127 : List (Nat × XI) := [(127, i_ild 1), (128, i_ild 4), (130, i_clv 3 [(2, 33)]), (133, i_ret 0)]
def bX1_word_134 : List (Nat × XI) := [(134, i_psh (.int 0)), (135, i_ist 2), (136, i_fal 136)]
def bX1_word_136 : List (Nat × XI) := [(136, i_ild 2), (137, i_sv 0), (140, i_len), (141, i_icge 171), (144, i_ald 0), (145, i_sv 0), (148, i_ild 2), (149, i_lda 9), (150, i_ild 1), (151, i_clv 2 [(2, 38)]), (154, i_ifeq 165), (157, i_ald 0), (158, i_psh (.int 2)), (159, i_ild 1), (160, i_ild 2), (161, i_clv 3 [(2, 33)]), (164, i_ret 0)]
def bX1_word_165 : List (Nat × XI) := [(165, i_inc 2 1), (168, i_got 136)]
def bX1_word_171 : List (Nat × XI) := [(171, i_ald 0), (172, i_psh (.int 1)), (173, i_ild 1), (174, i_psh (.int 0)), (175, i_clv 3 [(2, 33)]), (178, i_ret 0)]
def rX1_word : XM := (⟨"WaysAtlas$Scanner", "word", "()V"⟩, prog_25_method_8_code, 5, none, [], [(0, bX1_word_0), (5, bX1_word_5), (32, bX1_word_32), (66, bX1_word_66), (76, bX1_word_76), (86, bX1_word_86), (96, bX1_word_96), (107, bX1_word_107), (108, bX1_word_108), (126, bX1_word_126), (127, bX1_word_127), (134, bX1_word_134), (136, bX1_word_136), (165, bX1_word_165), (171, bX1_word_171)], fun _ _ => none)
def bX1_isDigit_0 : List (Nat × XI) := [(0, i_ild 0), (1, i_psh (.int 48)), (3, i_iclt 16), (6, i_ild 0), (7, i_psh (.int 57)), (9, i_icgt 16), (12, i_psh (.int 1)), (13, i_got 17)]
def bX1_isDigit_16 : List (Nat × XI) := [(16, i_psh (.int 0)), (17, i_fal 17)]
def bX1_isDigit_17 : List (Nat × XI) := [(17, i_ret 4)]
def rX1_isDigit : XM := (⟨"WaysAtlas$Scanner", "isDigit", "(I)Z"⟩, prog_25_method_4_code, 1, (some .boolean), [], [(0, bX1_isDigit_0), (16, bX1_isDigit_16), (17, bX1_isDigit_17)], fun _ _ => none)
def bX1_digits_0 : List (Nat × XI) := [(0, i_ald 0), (1, i_gei 4 [2]), (4, i_ist 2), (5, i_psh (.int 0)), (6, i_ist 3), (7, i_fal 7)]
def bX1_digits_7 : List (Nat × XI) := [(7, i_ald 0), (8, i_ald 0), (9, i_gei 4 [2]), (12, i_clv 1 [(2, 32)]), (15, i_cls 36 1), (18, i_ifeq 65), (21, i_ald 0), (22, i_gei 4 [2]), (25, i_ild 2), (26, i_sub), (27, i_ild 1), (28, i_icge 50), (31, i_psh (.int 10)), (33, i_ild 3), (34, i_mul), (35, i_ald 0), (36, i_ald 0), (37, i_gei 4 [2]), (40, i_clv 1 [(2, 32)]), (43, i_add), (44, i_psh (.int 48)), (46, i_sub), (47, i_got 51)]
def bX1_digits_50 : List (Nat × XI) := [(50, i_ild 3), (51, i_fal 51)]
def bX1_digits_51 : List (Nat × XI) := [(51, i_ist 3), (52, i_ald 0), (53, i_dup), (54, i_gei 4 [2]), (57, i_psh (.int 1)), (58, i_add), (59, i_pui 4 [2]), (62, i_got 7)]
def bX1_digits_65 : List (Nat × XI) := [(65, i_ald 0), (66, i_gei 4 [2]), (69, i_ild 2), (70, i_sub), (71, i_ild 1), (72, i_icle 79), (75, i_psh (.int (-1))), (76, i_got 80)]
def bX1_digits_79 : List (Nat × XI) := [(79, i_ild 3), (80, i_fal 80)]
def bX1_digits_80 : List (Nat × XI) := [(80, i_ret 1)]
def rX1_digits : XM := (⟨"WaysAtlas$Scanner", "digits", "(I)I"⟩, prog_25_method_7_code, 4, (some .int), [], [(0, bX1_digits_0), (7, bX1_digits_7), (50, bX1_digits_50), (51, bX1_digits_51), (65, bX1_digits_65), (79, bX1_digits_79), (80, bX1_digits_80)], fun _ _ => none)
def bX1_is_0 : List (Nat × XI) := [(0, i_ald 1), (1, i_sln), (4, i_ald 0), (5, i_gei 4 [2]), (8, i_ild 2), (9, i_sub), (10, i_icne 17), (13, i_psh (.int 1)), (14, i_got 18)]
def bX1_is_17 : List (Nat × XI) := [(17, i_psh (.int 0)), (18, i_fal 18)]
def bX1_is_18 : List (Nat × XI) := [(18, i_ist 3), (19, i_psh (.int 0)), (20, i_ist 4), (22, i_fal 22)]
def bX1_is_22 : List (Nat × XI) := [(22, i_ild 4), (24, i_ald 0), (25, i_gei 4 [2]), (28, i_ild 2), (29, i_sub), (30, i_icge 67), (33, i_ild 3), (34, i_ifeq 67), (37, i_ald 1), (38, i_ild 4), (40, i_sch), (43, i_ald 0), (44, i_ger 1010 [2]), (47, i_ild 2), (48, i_ild 4), (50, i_add), (51, i_lda 1), (52, i_icne 59), (55, i_psh (.int 1)), (56, i_got 60)]
def bX1_is_59 : List (Nat × XI) := [(59, i_psh (.int 0)), (60, i_fal 60)]
def bX1_is_60 : List (Nat × XI) := [(60, i_ist 3), (61, i_inc 4 1), (64, i_got 22)]
def bX1_is_67 : List (Nat × XI) := [(67, i_ild 3), (68, i_ret 4)]
def rX1_is : XM := (⟨"WaysAtlas$Scanner", "is", "(Ljava/lang/String;I)Z"⟩, prog_25_method_9_code, 5, (some .boolean), [], [(0, bX1_is_0), (17, bX1_is_17), (18, bX1_is_18), (22, bX1_is_22), (59, bX1_is_59), (60, bX1_is_60), (67, bX1_is_67)], fun _ _ => none)
def bX2_init_0 : List (Nat × XI) := [(0, i_ald 0), (1, i_obj), (4, i_ald 0), (5, i_psh (.int 80)), (7, i_nwa 4), (10, i_pur 1017 [3]), (13, i_ald 0), (14, i_psh (.int 80)), (16, i_nwa 0), (18, i_pur 1018 [3]), (21, i_ald 0), (22, i_psh (.int 80)), (24, i_nwa 0), (26, i_pur 1019 [3]), (29, i_ald 0), (30, i_ald 1), (31, i_pur 1014 [3]), (34, i_ret 0)]
def rX2_init : XM := (⟨"WaysAtlas$Reader", "<init>", "(LWaysAtlas$Scanner;)V"⟩, prog_21_method_1_code, 2, none, [], [(0, bX2_init_0)], fun _ _ => none)
def bX2_read_0 : List (Nat × XI) := [(0, i_ald 0), (1, i_new 3 10), (4, i_dup), (5, i_cli 67 0), (8, i_pur 1015 [3]), (11, i_ald 0), (12, i_psh (.int 0)), (13, i_pui 5 [3]), (16, i_ald 0), (17, i_psh (.int 0)), (18, i_pui 6 [3]), (21, i_ald 0), (22, i_psh (.int 0)), (23, i_pui 7 [3]), (26, i_ald 0), (27, i_psh (.int 0)), (28, i_pui 8 [3]), (31, i_ald 0), (32, i_psh .null), (33, i_pur 1016 [3]), (36, i_ald 0), (37, i_psh (.int (-9))), (39, i_pui 9 [3]), (42, i_ald 0), (43, i_psh (.int 0)), (44, i_pui 10 [3]), (47, i_ald 0), (48, i_psh (.int 0)), (49, i_pui 11 [3]), (52, i_fal 52)]
def bX2_read_52 : List (Nat × XI) := [(52, i_ald 0), (53, i_psh (.int 0)), (54, i_clv 1 [(3, 41)]), (57, i_ifeq 152), (60, i_ald 0), (61, i_ald 0), (62, i_ger 1015 [3]), (65, i_gei 13 [4]), (68, i_psh (.int 16)), (70, i_icge 77), (73, i_psh (.int 1)), (74, i_got 78)]
def bX2_read_77 : List (Nat × XI) := [(77, i_psh (.int 0)), (78, i_fal 78)]
def bX2_read_78 : List (Nat × XI) := [(78, i_clv 1 [(3, 43)]), (81, i_ald 0), (82, i_dup), (83, i_gei 5 [3]), (86, i_psh (.int 1)), (87, i_add), (88, i_pui 5 [3]), (91, i_ald 0), (92, i_psh (.int 1)), (93, i_clv 1 [(3, 45)]), (96, i_ald 0), (97, i_clv 0 [(3, 47)]), (100, i_ist 1), (101, i_ald 0), (102, i_psh (.int 59)), (104, i_clv 1 [(3, 48)]), (107, i_pop), (108, i_ald 0), (109, i_ger 1015 [3]), (112, i_ger 1021 [4]), (115, i_ald 0), (116, i_ger 1015 [3]), (119, i_gei 13 [4]), (122, i_ild 1), (123, i_ald 0), (124, i_ger 1015 [3]), (127, i_gei 13 [4]), (130, i_psh (.int 1)), (131, i_sub), (132, i_cls 293 2), (135, i_ias), (136, i_ald 0), (137, i_ger 1015 [3]), (140, i_dup), (141, i_gei 13 [4]), (144, i_psh (.int 1)), (145, i_add), (146, i_pui 13 [4]), (149, i_got 52)]
def bX2_read_152 : List (Nat × XI) := [(152, i_ald 0), (153, i_clv 0 [(3, 50)]), (156, i_fal 156)]
def bX2_read_156 : List (Nat × XI) := [(156, i_ald 0), (157, i_psh (.int 2)), (158, i_clv 1 [(3, 41)]), (161, i_ifeq 171), (164, i_ald 0), (165, i_clv 0 [(3, 50)]), (168, i_got 156)]
def bX2_read_171 : List (Nat × XI) := [(171, i_ald 0), (172, i_ald 0), (173, i_clv 0 [(3, 42)]), (176, i_ifne 183), (179, i_psh (.int 1)), (180, i_got 184)]
def bX2_read_183 : List (Nat × XI) := [(183, i_psh (.int 0)), (184, i_fal 184)]
def bX2_read_184 : List (Nat × XI) := [(184, i_clv 1 [(3, 46)]), (187, i_psh (.int 0)), (188, i_ist 1), (189, i_fal 189)]
def bX2_read_189 : List (Nat × XI) := [(189, i_ild 1), (190, i_ald 0), (191, i_gei 11 [3]), (194, i_icge 258), (197, i_ald 0), (198, i_ald 0), (199, i_ger 1018 [3]), (202, i_ild 1), (203, i_lda 0), (204, i_ald 0), (205, i_ger 1015 [3]), (208, i_gei 12 [4]), (211, i_iclt 245), (214, i_ald 0), (215, i_gei 9 [3]), (218, i_psh (.int (-9))), (220, i_iceq 236), (223, i_ald 0), (224, i_ger 1019 [3]), (227, i_ild 1), (228, i_lda 0), (229, i_ald 0), (230, i_gei 9 [3]), (233, i_icge 245), (236, i_fal 236)]
def bX2_read_236 : List (Nat × XI) := [(236, i_ald 0), (237, i_ger 1019 [3]), (240, i_ild 1), (241, i_lda 0), (242, i_got 249)]
def bX2_read_245 : List (Nat × XI) := [(245, i_ald 0), (246, i_gei 9 [3]), (249, i_fal 249)]
def bX2_read_249 : List (Nat × XI) := [(249, i_pui 9 [3]), (252, i_inc 1 1), (255, i_got 189)]
def bX2_read_258 : List (Nat × XI) := [(258, i_ald 0), (259, i_gei 9 [3]), (262, i_psh (.int (-9))), (264, i_iceq 280), (267, i_new 10 8), (270, i_dup), (271, i_psh (.int 3)), (272, i_ald 0), (273, i_gei 9 [3]), (276, i_cli 201 2), (279, i_thr)]
def bX2_read_280 : List (Nat × XI) := [(280, i_ald 0), (281, i_ger 1015 [3]), (284, i_ret 3)]
def rX2_read : XM := (⟨"WaysAtlas$Reader", "read", "()LWaysAtlas$Program;"⟩, prog_21_method_13_code, 2, (some (.object "WaysAtlas$Program")), [], [(0, bX2_read_0), (52, bX2_read_52), (77, bX2_read_77), (78, bX2_read_78), (152, bX2_read_152), (156, bX2_read_156), (171, bX2_read_171), (183, bX2_read_183), (184, bX2_read_184), (189, bX2_read_189), (236, bX2_read_236), (245, bX2_read_245), (249, bX2_read_249), (258, bX2_read_258), (280, bX2_read_280)], fun _ _ => none)
def bX2_isWord_0 : List (Nat × XI) := [(0, i_ald 0), (1, i_clv 0 [(3, 42)]), (4, i_psh (.int 2)), (5, i_icne 28), (8, i_ald 0), (9, i_ger 1014 [3]), (12, i_ger 1013 [2]), (15, i_ald 0), (16, i_gei 5 [3]), (19, i_lda 0), (20, i_ild 1), (21, i_icne 28), (24, i_psh (.int 1)), (25, i_got 29)]
def bX2_isWord_28 : List (Nat × XI) := [(28, i_psh (.int 0)), (29, i_fal 29)]
def bX2_isWord_29 : List (Nat × XI) := [(29, i_ret 4)]
def rX2_isWord : XM := (⟨"WaysAtlas$Reader", "isWord", "(I)Z"⟩, prog_21_method_4_code, 2, (some .boolean), [], [(0, bX2_isWord_0), (28, bX2_isWord_28), (29, bX2_isWord_29)], fun _ _ => none)
def bX2_kind_0 : List (Nat × XI) := [(0, i_ald 0), (1, i_ger 1014 [3]), (4, i_ger 1011 [2]), (7, i_ald 0), (8, i_gei 5 [3]), (11, i_lda 0), (12, i_ret 1)]
def rX2_kind : XM := (⟨"WaysAtlas$Reader", "kind", "()I"⟩, prog_21_method_2_code, 1, (some .int), [], [(0, bX2_kind_0)], fun _ _ => none)
def bX2_room_0 : List (Nat × XI) := [(0, i_ild 1), (1, i_ifne 17), (4, i_new 10 8), (7, i_dup), (8, i_psh (.int 2)), (9, i_ald 0), (10, i_clv 0 [(3, 44)]), (13, i_cli 201 2), (16, i_thr)]
def bX2_room_17 : List (Nat × XI) := [(17, i_ret 0)]
def rX2_room : XM := (⟨"WaysAtlas$Reader", "room", "(Z)V"⟩, prog_21_method_6_code, 2, none, [], [(0, bX2_room_0), (17, bX2_room_17)], fun _ _ => none)
def bX2_place_0 : List (Nat × XI) := [(0, i_ald 0), (1, i_ger 1014 [3]), (4, i_ger 1012 [2]), (7, i_ald 0), (8, i_gei 5 [3]), (11, i_lda 0), (12, i_ret 1)]
def rX2_place : XM := (⟨"WaysAtlas$Reader", "place", "()I"⟩, prog_21_method_3_code, 1, (some .int), [], [(0, bX2_place_0)], fun _ _ => none)
def bX2_word_0 : List (Nat × XI) := [(0, i_ald 0), (1, i_ald 0), (2, i_ild 1), (3, i_clv 1 [(3, 41)]), (6, i_clv 1 [(3, 46)]), (9, i_ald 0), (10, i_dup), (11, i_gei 5 [3]), (14, i_psh (.int 1)), (15, i_add), (16, i_pui 5 [3]), (19, i_ret 0)]
def rX2_word : XM := (⟨"WaysAtlas$Reader", "word", "(I)V"⟩, prog_21_method_8_code, 2, none, [], [(0, bX2_word_0)], fun _ _ => none)
def bX2_need_0 : List (Nat × XI) := [(0, i_ild 1), (1, i_ifne 17), (4, i_new 10 8), (7, i_dup), (8, i_psh (.int 1)), (9, i_ald 0), (10, i_clv 0 [(3, 44)]), (13, i_cli 201 2), (16, i_thr)]
def bX2_need_17 : List (Nat × XI) := [(17, i_ret 0)]
def rX2_need : XM := (⟨"WaysAtlas$Reader", "need", "(Z)V"⟩, prog_21_method_5_code, 2, none, [], [(0, bX2_need_0), (17, bX2_need_17)], fun _ _ => none)
def bX2_kindName_0 : List (Nat × XI) := [(0, i_ald 0), (1, i_clv 0 [(3, 44)]), (4, i_ist 1), (5, i_ald 0), (6, i_psh (.int 3)), (7, i_clv 1 [(3, 48)]), (10, i_ist 2), (11, i_ald 0), (12, i_ild 2), (13, i_ald 0), (14, i_ger 1015 [3]), (17, i_gei 13 [4]), (20, i_iclt 27), (23, i_psh (.int 1)), (24, i_got 28)]
def bX2_kindName_27 : List (Nat × XI) := [(27, i_psh (.int 0)), (28, i_fal 28)]
def bX2_kindName_28 : List (Nat × XI) := [(28, i_ild 1), (29, i_clv 2 [(3, 49)]), (32, i_ild 2), (33, i_ret 1)]
def rX2_kindName : XM := (⟨"WaysAtlas$Reader", "kindName", "()I"⟩, prog_21_method_12_code, 3, (some .int), [], [(0, bX2_kindName_0), (27, bX2_kindName_27), (28, bX2_kindName_28)], fun _ _ => none)
def bX2_take_0 : List (Nat × XI) := [(0, i_ald 0), (1, i_ald 0), (2, i_clv 0 [(3, 42)]), (5, i_ild 1), (6, i_icne 13), (9, i_psh (.int 1)), (10, i_got 14)]
def bX2_take_13 : List (Nat × XI) := [(13, i_psh (.int 0)), (14, i_fal 14)]
def bX2_take_14 : List (Nat × XI) := [(14, i_clv 1 [(3, 46)]), (17, i_ald 0), (18, i_dup), (19, i_gei 5 [3]), (22, i_psh (.int 1)), (23, i_add), (24, i_pui 5 [3]), (27, i_ald 0), (28, i_ger 1014 [3]), (31, i_ger 1013 [2]), (34, i_ald 0), (35, i_gei 5 [3]), (38, i_psh (.int 1)), (39, i_sub), (40, i_lda 0), (41, i_ret 1)]
def rX2_take : XM := (⟨"WaysAtlas$Reader", "take", "(I)I"⟩, prog_21_method_10_code, 2, (some .int), [], [(0, bX2_take_0), (13, bX2_take_13), (14, bX2_take_14)], fun _ _ => none)
def bX2_lacks_0 : List (Nat × XI) := [(0, i_ald 0), (1, i_ild 1), (2, i_ifeq 18), (5, i_ald 0), (6, i_gei 9 [3]), (9, i_psh (.int (-9))), (11, i_icne 18), (14, i_ild 2), (15, i_got 22)]
def bX2_lacks_18 : List (Nat × XI) := [(18, i_ald 0), (19, i_gei 9 [3]), (22, i_fal 22)]
def bX2_lacks_22 : List (Nat × XI) := [(22, i_pui 9 [3]), (25, i_ret 0)]
def rX2_lacks : XM := (⟨"WaysAtlas$Reader", "lacks", "(ZI)V"⟩, prog_21_method_7_code, 3, none, [], [(0, bX2_lacks_0), (18, bX2_lacks_18), (22, bX2_lacks_22)], fun _ _ => none)
def bX2_method_0 : List (Nat × XI) := [(0, i_ald 0), (1, i_ald 0), (2, i_psh (.int 2)), (3, i_clv 1 [(3, 41)]), (6, i_clv 1 [(3, 46)]), (9, i_ald 0), (10, i_ald 0), (11, i_ger 1015 [3]), (14, i_gei 12 [4]), (17, i_psh (.int 8)), (19, i_icge 26), (22, i_psh (.int 1)), (23, i_got 27)]
def bX2_method_26 : List (Nat × XI) := [(26, i_psh (.int 0)), (27, i_fal 27)]
def bX2_method_27 : List (Nat × XI) := [(27, i_clv 1 [(3, 43)]), (30, i_ald 0), (31, i_dup), (32, i_gei 5 [3]), (35, i_psh (.int 1)), (36, i_add), (37, i_pui 5 [3]), (40, i_new 11 3), (43, i_dup), (44, i_ald 0), (45, i_ger 1015 [3]), (48, i_gei 12 [4]), (51, i_cli 202 1), (54, i_ast 1), (55, i_ald 0), (56, i_ger 1015 [3]), (59, i_ger 1020 [4]), (62, i_ald 0), (63, i_ger 1015 [3]), (66, i_gei 12 [4]), (69, i_ald 1), (70, i_aas 6 [12]), (71, i_ald 0), (72, i_ger 1015 [3]), (75, i_dup), (76, i_gei 12 [4]), (79, i_psh (.int 1)), (80, i_add), (81, i_pui 12 [4]), (84, i_ald 0), (85, i_psh (.int 123)), (87, i_clv 1 [(3, 48)]), (90, i_pop), (91, i_ald 1), (92, i_ald 0), (93, i_clv 0 [(3, 51)]), (96, i_pur 1117 [12]), (99, i_ald 0), (100, i_psh (.int 125)), (102, i_clv 1 [(3, 48)]), (105, i_pop), (106, i_ret 0)]
def rX2_method : XM := (⟨"WaysAtlas$Reader", "method", "()V"⟩, prog_21_method_14_code, 2, none, [], [(0, bX2_method_0), (26, bX2_method_26), (27, bX2_method_27)], fun _ _ => none)
def bX2_statements_0 : List (Nat × XI) := [(0, i_ald 0), (1, i_gei 10 [3]), (4, i_ist 1), (5, i_fal 5)]
def bX2_statements_5 : List (Nat × XI) := [(5, i_ald 0), (6, i_clv 0 [(3, 52)]), (9, i_ifeq 38), (12, i_ald 0), (13, i_ger 1017 [3]), (16, i_ald 0), (17, i_gei 10 [3]), (20, i_ald 0), (21, i_clv 0 [(3, 53)]), (24, i_aas 4 [19, 21, 22, 23, 24, 25, 26, 27, 28, 29, 30, 31, 32]), (25, i_ald 0), (26, i_dup), (27, i_gei 10 [3]), (30, i_psh (.int 1)), (31, i_add), (32, i_pui 10 [3]), (35, i_got 5)]
def bX2_statements_38 : List (Nat × XI) := [(38, i_ald 0), (39, i_gei 10 [3]), (42, i_ild 1), (43, i_sub), (44, i_nwa 4), (47, i_ast 2), (48, i_ald 0), (49, i_ger 1017 [3]), (52, i_ild 1), (53, i_ald 2), (54, i_psh (.int 0)), (55, i_ald 2), (56, i_len), (57, i_cpq 4 [19, 21, 22, 23, 24, 25, 26, 27, 28, 29, 30, 31, 32]), (60, i_ald 0), (61, i_ild 1), (62, i_pui 10 [3]), (65, i_ald 2), (66, i_ret 3)]
def rX2_statements : XM := (⟨"WaysAtlas$Reader", "statements", "()[LWaysAtlas$Statement;"⟩, prog_21_method_15_code, 3, (some (.array (.object "WaysAtlas$Statement"))), [], [(0, bX2_statements_0), (5, bX2_statements_5), (38, bX2_statements_38)], fun _ _ => none)
def bX2_begins_0 : List (Nat × XI) := [(0, i_ald 0), (1, i_ger 1014 [3]), (4, i_ger 1013 [2]), (7, i_ald 0), (8, i_gei 5 [3]), (11, i_lda 0), (12, i_ist 1), (13, i_ald 0), (14, i_clv 0 [(3, 42)]), (17, i_psh (.int 5)), (18, i_iceq 71), (21, i_ald 0), (22, i_clv 0 [(3, 42)]), (25, i_psh (.int 6)), (27, i_iceq 71), (30, i_ald 0), (31, i_clv 0 [(3, 42)]), (34, i_psh (.int 2)), (35, i_icne 75), (38, i_ild 1), (39, i_psh (.int 3)), (40, i_iceq 71), (43, i_ild 1), (44, i_psh (.int 4)), (45, i_iceq 71), (48, i_ild 1), (49, i_psh (.int 7)), (51, i_iceq 71), (54, i_ild 1), (55, i_psh (.int 8)), (57, i_iceq 71), (60, i_ild 1), (61, i_psh (.int 10)), (63, i_psh (.int 17)), (65, i_cls 3 3), (68, i_ifeq 75), (71, i_fal 71)]
def bX2_begins_71 : List (Nat × XI) := [(71, i_psh (.int 1)), (72, i_got 76)]
def bX2_begins_75 : List (Nat × XI) := [(75, i_psh (.int 0)), (76, i_fal 76)]
def bX2_begins_76 : List (Nat × XI) := [(76, i_ret 4)]
def rX2_begins : XM := (⟨"WaysAtlas$Reader", "begins", "()Z"⟩, prog_21_method_16_code, 2, (some .boolean), [], [(0, bX2_begins_0), (71, bX2_begins_71), (75, bX2_begins_75), (76, bX2_begins_76)], fun _ _ => none)
def bX2_statement_0 : List (Nat × XI) := [(0, i_ald 0), (1, i_ald 0), (2, i_ger 1015 [3]), (5, i_gei 14 [4]), (8, i_psh (.int 80)), (10, i_icge 17), (13, i_psh (.int 1)), (14, i_got 18)]
def bX2_statement_17 : List (Nat × XI) := [(17, i_psh (.int 0)), (18, i_fal 18)]
def bX2_statement_18 : List (Nat × XI) := [(18, i_clv 1 [(3, 43)]), (21, i_ald 0), (22, i_ger 1015 [3]), (25, i_gei 14 [4]), (28, i_ist 1), (29, i_ald 0), (30, i_ger 1015 [3]), (33, i_dup), (34, i_gei 14 [4]), (37, i_psh (.int 1)), (38, i_add), (39, i_pui 14 [4]), (42, i_ald 0), (43, i_clv 0 [(3, 42)]), (46, i_psh (.int 5)), (47, i_icne 58), (50, i_ald 0), (51, i_ild 1), (52, i_clv 1 [(3, 54)]), (55, i_got 80)]
def bX2_statement_58 : List (Nat × XI) := [(58, i_ald 0), (59, i_clv 0 [(3, 42)]), (62, i_psh (.int 6)), (64, i_icne 75), (67, i_ald 0), (68, i_ild 1), (69, i_clv 1 [(3, 61)]), (72, i_got 80)]
def bX2_statement_75 : List (Nat × XI) := [(75, i_ald 0), (76, i_ild 1), (77, i_clv 1 [(3, 63)]), (80, i_fal 80)]
def bX2_statement_80 : List (Nat × XI) := [(80, i_ast 2), (81, i_ald 0), (82, i_ger 1015 [3]), (85, i_ger 1022 [4]), (88, i_ild 1), (89, i_ald 2), (90, i_aas 4 [19, 21, 22, 23, 24, 25, 26, 27, 28, 29, 30, 31, 32]), (91, i_ald 2), (92, i_ret 3)]
def rX2_statement : XM := (⟨"WaysAtlas$Reader", "statement", "()LWaysAtlas$Statement;"⟩, prog_21_method_18_code, 3, (some (.object "WaysAtlas$Statement")), [], [(0, bX2_statement_0), (17, bX2_statement_17), (18, bX2_statement_18), (58, bX2_statement_58), (75, bX2_statement_75), (80, bX2_statement_80)], fun _ _ => none)
def bX2_ofVar_0 : List (Nat × XI) := [(0, i_ald 0), (1, i_psh (.int 5)), (2, i_psh (.int 6)), (4, i_clv 2 [(3, 55)]), (7, i_ist 2), (8, i_ald 0), (9, i_psh (.int 61)), (11, i_clv 1 [(3, 48)]), (14, i_pop), (15, i_ald 0), (16, i_psh (.int 4)), (17, i_clv 1 [(3, 41)]), (20, i_ifeq 30), (23, i_ald 0), (24, i_ild 1), (25, i_ild 2), (26, i_clv 2 [(3, 56)]), (29, i_ret 3)]
def bX2_ofVar_30 : List (Nat × XI) := [(30, i_ald 0), (31, i_clv 0 [(3, 57)]), (34, i_ast 3), (35, i_ald 0), (36, i_psh (.int 59)), (38, i_clv 1 [(3, 48)]), (41, i_pop), (42, i_new 20 3), (45, i_dup), (46, i_ild 1), (47, i_ild 2), (48, i_ald 3), (49, i_cli 224 3), (52, i_ret 3)]
def rX2_ofVar : XM := (⟨"WaysAtlas$Reader", "ofVar", "(I)LWaysAtlas$Statement;"⟩, prog_21_method_19_code, 4, (some (.object "WaysAtlas$Statement")), [], [(0, bX2_ofVar_0), (30, bX2_ofVar_30)], fun _ _ => none)
def bX2_name_0 : List (Nat × XI) := [(0, i_ald 0), (1, i_ald 0), (2, i_clv 0 [(3, 42)]), (5, i_ild 1), (6, i_icne 13), (9, i_psh (.int 1)), (10, i_got 14)]
def bX2_name_13 : List (Nat × XI) := [(13, i_psh (.int 0)), (14, i_fal 14)]
def bX2_name_14 : List (Nat × XI) := [(14, i_clv 1 [(3, 46)]), (17, i_ald 0), (18, i_ald 0), (19, i_ger 1014 [3]), (22, i_ger 1013 [2]), (25, i_ald 0), (26, i_gei 5 [3]), (29, i_lda 0), (30, i_ild 2), (31, i_icge 38), (34, i_psh (.int 1)), (35, i_got 39)]
def bX2_name_38 : List (Nat × XI) := [(38, i_psh (.int 0)), (39, i_fal 39)]
def bX2_name_39 : List (Nat × XI) := [(39, i_clv 1 [(3, 43)]), (42, i_ald 0), (43, i_ild 1), (44, i_clv 1 [(3, 48)]), (47, i_ret 1)]
def rX2_name : XM := (⟨"WaysAtlas$Reader", "name", "(II)I"⟩, prog_21_method_11_code, 3, (some .int), [], [(0, bX2_name_0), (13, bX2_name_13), (14, bX2_name_14), (38, bX2_name_38), (39, bX2_name_39)], fun _ _ => none)
def bX2_call_0 : List (Nat × XI) := [(0, i_ald 0), (1, i_dup), (2, i_gei 5 [3]), (5, i_psh (.int 1)), (6, i_add), (7, i_pui 5 [3]), (10, i_ald 0), (11, i_ger 1019 [3]), (14, i_ald 0), (15, i_gei 11 [3]), (18, i_ald 0), (19, i_clv 0 [(3, 44)]), (22, i_ias), (23, i_ald 0), (24, i_ger 1018 [3]), (27, i_ald 0), (28, i_gei 11 [3]), (31, i_ald 0), (32, i_psh (.int 4)), (33, i_clv 1 [(3, 48)]), (36, i_ias), (37, i_ald 0), (38, i_ger 1018 [3]), (41, i_ald 0), (42, i_gei 11 [3]), (45, i_lda 0), (46, i_ist 3), (47, i_ald 0), (48, i_dup), (49, i_gei 11 [3]), (52, i_psh (.int 1)), (53, i_add), (54, i_pui 11 [3]), (57, i_ald 0), (58, i_psh (.int 40)), (60, i_clv 1 [(3, 48)]), (63, i_pop), (64, i_ald 0), (65, i_clv 0 [(3, 57)]), (68, i_ast 4), (70, i_ald 0), (71, i_psh (.int 44)), (73, i_clv 1 [(3, 48)]), (76, i_pop), (77, i_ald 0), (78, i_clv 0 [(3, 57)]), (81, i_ast 5), (83, i_ald 0), (84, i_psh (.int 41)), (86, i_clv 1 [(3, 48)]), (89, i_pop), (90, i_ald 0), (91, i_psh (.int 59)), (93, i_clv 1 [(3, 48)]), (96, i_pop), (97, i_new 18 5), (100, i_dup), (101, i_ild 1), (102, i_ild 2), (103, i_ild 3), (104, i_ald 4), (106, i_ald 5), (108, i_cli 217 5), (111, i_ret 3)]
def rX2_call : XM := (⟨"WaysAtlas$Reader", "call", "(II)LWaysAtlas$Statement;"⟩, prog_21_method_21_code, 6, (some (.object "WaysAtlas$Statement")), [], [(0, bX2_call_0)], fun _ _ => none)
def bX2_sum_0 : List (Nat × XI) := [(0, i_ald 0), (1, i_clv 0 [(3, 58)]), (4, i_ast 1), (5, i_fal 5)]
def bX2_sum_5 : List (Nat × XI) := [(5, i_ald 0), (6, i_clv 0 [(3, 42)]), (9, i_psh (.int 43)), (11, i_iceq 23), (14, i_ald 0), (15, i_clv 0 [(3, 42)]), (18, i_psh (.int 45)), (20, i_icne 55), (23, i_fal 23)]
def bX2_sum_23 : List (Nat × XI) := [(23, i_ald 0), (24, i_clv 0 [(3, 42)]), (27, i_ist 2), (28, i_ald 0), (29, i_dup), (30, i_gei 5 [3]), (33, i_psh (.int 1)), (34, i_add), (35, i_pui 5 [3]), (38, i_new 13 3), (41, i_dup), (42, i_ild 2), (43, i_ald 1), (44, i_ald 0), (45, i_clv 0 [(3, 58)]), (48, i_cli 204 3), (51, i_ast 1), (52, i_got 5)]
def bX2_sum_55 : List (Nat × XI) := [(55, i_ald 1), (56, i_ret 3)]
def rX2_sum : XM := (⟨"WaysAtlas$Reader", "sum", "()LWaysAtlas$Node;"⟩, prog_21_method_25_code, 3, (some (.object "WaysAtlas$Node")), [], [(0, bX2_sum_0), (5, bX2_sum_5), (23, bX2_sum_23), (55, bX2_sum_55)], fun _ _ => none)
def bX2_term_0 : List (Nat × XI) := [(0, i_ald 0), (1, i_clv 0 [(3, 59)]), (4, i_ast 1), (5, i_fal 5)]
def bX2_term_5 : List (Nat × XI) := [(5, i_ald 0), (6, i_clv 0 [(3, 42)]), (9, i_psh (.int 42)), (11, i_iceq 32), (14, i_ald 0), (15, i_clv 0 [(3, 42)]), (18, i_psh (.int 47)), (20, i_iceq 32), (23, i_ald 0), (24, i_clv 0 [(3, 42)]), (27, i_psh (.int 37)), (29, i_icne 64), (32, i_fal 32)]
def bX2_term_32 : List (Nat × XI) := [(32, i_ald 0), (33, i_clv 0 [(3, 42)]), (36, i_ist 2), (37, i_ald 0), (38, i_dup), (39, i_gei 5 [3]), (42, i_psh (.int 1)), (43, i_add), (44, i_pui 5 [3]), (47, i_new 13 3), (50, i_dup), (51, i_ild 2), (52, i_ald 1), (53, i_ald 0), (54, i_clv 0 [(3, 59)]), (57, i_cli 204 3), (60, i_ast 1), (61, i_got 5)]
def bX2_term_64 : List (Nat × XI) := [(64, i_ald 1), (65, i_ret 3)]
def rX2_term : XM := (⟨"WaysAtlas$Reader", "term", "()LWaysAtlas$Node;"⟩, prog_21_method_26_code, 3, (some (.object "WaysAtlas$Node")), [], [(0, bX2_term_0), (5, bX2_term_5), (32, bX2_term_32), (64, bX2_term_64)], fun _ _ => none)
def bX2_factor_0 : List (Nat × XI) := [(0, i_ald 0), (1, i_clv 0 [(3, 42)]), (4, i_lsw 206 [(5, 129), (6, 144), (7, 115), (40, 87), (45, 56)])]
def bX2_factor_56 : List (Nat × XI) := [(56, i_ald 0), (57, i_clv 0 [(3, 60)]), (60, i_new 13 3), (63, i_dup), (64, i_psh (.int 45)), (66, i_psh .null), (67, i_ald 0), (68, i_clv 0 [(3, 59)]), (71, i_cli 204 3), (74, i_ast 1), (75, i_ald 0), (76, i_dup), (77, i_gei 7 [3]), (80, i_psh (.int 1)), (81, i_sub), (82, i_pui 7 [3]), (85, i_ald 1), (86, i_ret 3)]
def bX2_factor_87 : List (Nat × XI) := [(87, i_ald 0), (88, i_clv 0 [(3, 60)]), (91, i_ald 0), (92, i_clv 0 [(3, 57)]), (95, i_ast 1), (96, i_ald 0), (97, i_psh (.int 41)), (99, i_clv 1 [(3, 48)]), (102, i_pop), (103, i_ald 0), (104, i_dup), (105, i_gei 7 [3]), (108, i_psh (.int 1)), (109, i_sub), (110, i_pui 7 [3]), (113, i_ald 1), (114, i_ret 3)]
def bX2_factor_115 : List (Nat × XI) := [(115, i_new 14 1), (118, i_dup), (119, i_ald 0), (120, i_psh (.int 7)), (122, i_clv 1 [(3, 48)]), (125, i_cli 206 1), (128, i_ret 3)]
def bX2_factor_129 : List (Nat × XI) := [(129, i_new 15 1), (132, i_dup), (133, i_ald 0), (134, i_psh (.int 5)), (135, i_psh (.int 6)), (137, i_clv 2 [(3, 55)]), (140, i_cli 208 1), (143, i_ret 3)]
def bX2_factor_144 : List (Nat × XI) := [(144, i_ald 0), (145, i_psh (.int 6)), (147, i_psh (.int 3)), (148, i_clv 2 [(3, 55)]), (151, i_ist 1), (152, i_ald 0), (153, i_ald 0), (154, i_clv 0 [(3, 42)]), (157, i_psh (.int 91)), (159, i_icne 166), (162, i_psh (.int 1)), (163, i_got 167)]
def bX2_factor_166 : List (Nat × XI) := [(166, i_psh (.int 0)), (167, i_fal 167)]
def bX2_factor_167 : List (Nat × XI) := [(167, i_clv 1 [(3, 46)]), (170, i_ald 0), (171, i_clv 0 [(3, 60)]), (174, i_ald 0), (175, i_clv 0 [(3, 57)]), (178, i_ast 2), (179, i_ald 0), (180, i_psh (.int 93)), (182, i_clv 1 [(3, 48)]), (185, i_pop), (186, i_ald 0), (187, i_dup), (188, i_gei 7 [3]), (191, i_psh (.int 1)), (192, i_sub), (193, i_pui 7 [3]), (196, i_new 16 2), (199, i_dup), (200, i_ild 1), (201, i_ald 2), (202, i_cli 210 2), (205, i_ret 3)]
def bX2_factor_206 : List (Nat × XI) := [(206, i_ald 0), (207, i_ald 0), (208, i_psh (.int 20)), (210, i_clv 1 [(3, 41)]), (213, i_clv 1 [(3, 46)]), (216, i_ald 0), (217, i_clv 0 [(3, 60)]), (220, i_ald 0), (221, i_psh (.int 6)), (223, i_psh (.int 3)), (224, i_clv 2 [(3, 55)]), (227, i_ist 1), (228, i_ald 0), (229, i_dup), (230, i_gei 7 [3]), (233, i_psh (.int 1)), (234, i_sub), (235, i_pui 7 [3]), (238, i_new 16 2), (241, i_dup), (242, i_ild 1), (243, i_psh .null), (244, i_cli 210 2), (247, i_ret 3)]
def rX2_factor : XM := (⟨"WaysAtlas$Reader", "factor", "()LWaysAtlas$Node;"⟩, prog_21_method_28_code, 3, (some (.object "WaysAtlas$Node")), [], [(0, bX2_factor_0), (56, bX2_factor_56), (87, bX2_factor_87), (115, bX2_factor_115), (129, bX2_factor_129), (144, bX2_factor_144), (166, bX2_factor_166), (167, bX2_factor_167), (206, bX2_factor_206)], fun _ _ => none)
def bX2_enter_0 : List (Nat × XI) := [(0, i_ald 0), (1, i_ald 0), (2, i_gei 7 [3]), (5, i_psh (.int 8)), (7, i_icge 14), (10, i_psh (.int 1)), (11, i_got 15)]
def bX2_enter_14 : List (Nat × XI) := [(14, i_psh (.int 0)), (15, i_fal 15)]
def bX2_enter_15 : List (Nat × XI) := [(15, i_clv 1 [(3, 43)]), (18, i_ald 0), (19, i_dup), (20, i_gei 7 [3]), (23, i_psh (.int 1)), (24, i_add), (25, i_pui 7 [3]), (28, i_ald 0), (29, i_dup), (30, i_gei 5 [3]), (33, i_psh (.int 1)), (34, i_add), (35, i_pui 5 [3]), (38, i_ret 0)]
def rX2_enter : XM := (⟨"WaysAtlas$Reader", "enter", "()V"⟩, prog_21_method_27_code, 1, none, [], [(0, bX2_enter_0), (14, bX2_enter_14), (15, bX2_enter_15)], fun _ _ => none)
def bX2_ofRow_0 : List (Nat × XI) := [(0, i_ald 0), (1, i_psh (.int 6)), (3, i_psh (.int 3)), (4, i_clv 2 [(3, 55)]), (7, i_ist 2), (8, i_ald 0), (9, i_clv 0 [(3, 42)]), (12, i_psh (.int 91)), (14, i_icne 79), (17, i_ald 0), (18, i_dup), (19, i_gei 5 [3]), (22, i_psh (.int 1)), (23, i_add), (24, i_pui 5 [3]), (27, i_ald 0), (28, i_clv 0 [(3, 57)]), (31, i_ast 3), (32, i_ald 0), (33, i_psh (.int 93)), (35, i_clv 1 [(3, 48)]), (38, i_pop), (39, i_ald 0), (40, i_psh (.int 61)), (42, i_clv 1 [(3, 48)]), (45, i_pop), (46, i_ald 0), (47, i_clv 0 [(3, 57)]), (50, i_ast 4), (52, i_ald 0), (53, i_psh (.int 59)), (55, i_clv 1 [(3, 48)]), (58, i_pop), (59, i_new 21 3), (62, i_dup), (63, i_ild 1), (64, i_new 16 2), (67, i_dup), (68, i_ild 2), (69, i_ald 3), (70, i_cli 210 2), (73, i_ald 4), (75, i_cli 226 3), (78, i_ret 3)]
def bX2_ofRow_79 : List (Nat × XI) := [(79, i_ald 0), (80, i_psh (.int 61)), (82, i_clv 1 [(3, 48)]), (85, i_pop), (86, i_ald 0), (87, i_psh (.int 5)), (88, i_clv 1 [(3, 62)]), (91, i_ifeq 117), (94, i_ald 0), (95, i_clv 0 [(3, 57)]), (98, i_ast 3), (99, i_ald 0), (100, i_psh (.int 59)), (102, i_clv 1 [(3, 48)]), (105, i_pop), (106, i_new 22 3), (109, i_dup), (110, i_ild 1), (111, i_ild 2), (112, i_ald 3), (113, i_cli 228 3), (116, i_ret 3)]
def bX2_ofRow_117 : List (Nat × XI) := [(117, i_ald 0), (118, i_psh (.int 6)), (120, i_clv 1 [(3, 62)]), (123, i_ifeq 131), (126, i_psh (.int (-9))), (128, i_got 138)]
def bX2_ofRow_131 : List (Nat × XI) := [(131, i_ald 0), (132, i_psh (.int 6)), (134, i_psh (.int 3)), (135, i_clv 2 [(3, 55)]), (138, i_fal 138)]
def bX2_ofRow_138 : List (Nat × XI) := [(138, i_ist 3), (139, i_ald 0), (140, i_psh (.int 59)), (142, i_clv 1 [(3, 48)]), (145, i_pop), (146, i_new 23 3), (149, i_dup), (150, i_ild 1), (151, i_ild 2), (152, i_ild 3), (153, i_cli 230 3), (156, i_ret 3)]
def rX2_ofRow : XM := (⟨"WaysAtlas$Reader", "ofRow", "(I)LWaysAtlas$Statement;"⟩, prog_21_method_20_code, 5, (some (.object "WaysAtlas$Statement")), [], [(0, bX2_ofRow_0), (79, bX2_ofRow_79), (117, bX2_ofRow_117), (131, bX2_ofRow_131), (138, bX2_ofRow_138)], fun _ _ => none)
def bX2_has_0 : List (Nat × XI) := [(0, i_ald 0), (1, i_ild 1), (2, i_clv 1 [(3, 41)]), (5, i_ist 2), (6, i_ald 0), (7, i_dup), (8, i_gei 5 [3]), (11, i_ild 2), (12, i_ifeq 19), (15, i_psh (.int 1)), (16, i_got 20)]
def bX2_has_19 : List (Nat × XI) := [(19, i_psh (.int 0)), (20, i_fal 20)]
def bX2_has_20 : List (Nat × XI) := [(20, i_add), (21, i_pui 5 [3]), (24, i_ild 2), (25, i_ret 4)]
def rX2_has : XM := (⟨"WaysAtlas$Reader", "has", "(I)Z"⟩, prog_21_method_9_code, 3, (some .boolean), [], [(0, bX2_has_0), (19, bX2_has_19), (20, bX2_has_20)], fun _ _ => none)
def bX2_ofWord_0 : List (Nat × XI) := [(0, i_ald 0), (1, i_clv 0 [(3, 44)]), (4, i_ist 2), (5, i_ald 0), (6, i_ger 1014 [3]), (9, i_ger 1013 [2]), (12, i_ald 0), (13, i_gei 5 [3]), (16, i_lda 0), (17, i_ist 3), (18, i_ild 3), (19, i_psh (.int 4)), (20, i_icne 31), (23, i_ald 0), (24, i_ild 1), (25, i_psh (.int (-9))), (27, i_clv 2 [(3, 56)]), (30, i_ret 3)]
def bX2_ofWord_31 : List (Nat × XI) := [(31, i_ald 0), (32, i_dup), (33, i_gei 5 [3]), (36, i_psh (.int 1)), (37, i_add), (38, i_pui 5 [3]), (41, i_ild 3), (42, i_tsw 3 14 406 [112, 406, 406, 406, 138, 162, 406, 168, 214, 214, 291, 315, 360, 399])]
def bX2_ofWord_112 : List (Nat × XI) := [(112, i_ald 0), (113, i_psh (.int 7)), (115, i_clv 1 [(3, 48)]), (118, i_ist 4), (120, i_ald 0), (121, i_psh (.int 59)), (123, i_clv 1 [(3, 48)]), (126, i_pop), (127, i_new 24 2), (130, i_dup), (131, i_ild 1), (132, i_ild 4), (134, i_cli 232 2), (137, i_ret 3)]
def bX2_ofWord_138 : List (Nat × XI) := [(138, i_ald 0), (139, i_clv 0 [(3, 57)]), (142, i_ast 4), (144, i_ald 0), (145, i_psh (.int 59)), (147, i_clv 1 [(3, 48)]), (150, i_pop), (151, i_new 25 2), (154, i_dup), (155, i_ild 1), (156, i_ald 4), (158, i_cli 235 2), (161, i_ret 3)]
def bX2_ofWord_162 : List (Nat × XI) := [(162, i_ald 0), (163, i_ild 1), (164, i_clv 1 [(3, 64)]), (167, i_ret 3)]
def bX2_ofWord_168 : List (Nat × XI) := [(168, i_new 27 3), (171, i_dup), (172, i_ild 1), (173, i_ald 0), (174, i_clv 0 [(3, 57)]), (177, i_cli 243 2), (180, i_ast 4), (182, i_ald 0), (183, i_dup), (184, i_gei 8 [3]), (187, i_psh (.int 1)), (188, i_add), (189, i_pui 8 [3]), (192, i_ald 4), (194, i_ald 0), (195, i_clv 0 [(3, 65)]), (198, i_pur 1133 [28]), (201, i_ald 0), (202, i_dup), (203, i_gei 8 [3]), (206, i_psh (.int 1)), (207, i_sub), (208, i_pui 8 [3]), (211, i_ald 4), (213, i_ret 3)]
def bX2_ofWord_214 : List (Nat × XI) := [(214, i_ald 0), (215, i_clv 0 [(3, 44)]), (218, i_ist 4), (220, i_ald 0), (221, i_psh (.int 7)), (223, i_clv 1 [(3, 48)]), (226, i_ist 5), (228, i_ald 0), (229, i_ild 5), (231, i_ifeq 243), (234, i_ild 5), (236, i_ald 0), (237, i_gei 8 [3]), (240, i_icle 247), (243, i_fal 243)]
def bX2_ofWord_243 : List (Nat × XI) := [(243, i_psh (.int 1)), (244, i_got 248)]
def bX2_ofWord_247 : List (Nat × XI) := [(247, i_psh (.int 0)), (248, i_fal 248)]
def bX2_ofWord_248 : List (Nat × XI) := [(248, i_ild 4), (250, i_clv 2 [(3, 49)]), (253, i_ald 0), (254, i_psh (.int 59)), (256, i_clv 1 [(3, 48)]), (259, i_pop), (260, i_new 28 2), (263, i_dup), (264, i_ild 1), (265, i_ild 3), (266, i_psh (.int 11)), (268, i_icne 276), (271, i_psh (.int 100)), (273, i_got 279)]
def bX2_ofWord_276 : List (Nat × XI) := [(276, i_psh (.int 200)), (279, i_fal 279)]
def bX2_ofWord_279 : List (Nat × XI) := [(279, i_ild 5), (281, i_psh (.int 80)), (283, i_cls 293 2), (286, i_add), (287, i_cli 248 2), (290, i_ret 3)]
def bX2_ofWord_291 : List (Nat × XI) := [(291, i_ald 0), (292, i_clv 0 [(3, 47)]), (295, i_ist 4), (297, i_ald 0), (298, i_psh (.int 59)), (300, i_clv 1 [(3, 48)]), (303, i_pop), (304, i_new 29 2), (307, i_dup), (308, i_ild 1), (309, i_ild 4), (311, i_cli 251 2), (314, i_ret 3)]
def bX2_ofWord_315 : List (Nat × XI) := [(315, i_ald 0), (316, i_ald 0), (317, i_ger 1016 [3]), (320, i_inn 327), (323, i_psh (.int 1)), (324, i_got 328)]
def bX2_ofWord_327 : List (Nat × XI) := [(327, i_psh (.int 0)), (328, i_fal 328)]
def bX2_ofWord_328 : List (Nat × XI) := [(328, i_ild 2), (329, i_clv 2 [(3, 49)]), (332, i_ald 0), (333, i_clv 0 [(3, 47)]), (336, i_ist 4), (338, i_ald 0), (339, i_psh (.int 59)), (341, i_clv 1 [(3, 48)]), (344, i_pop), (345, i_new 30 3), (348, i_dup), (349, i_ild 1), (350, i_ild 4), (352, i_ald 0), (353, i_ger 1016 [3]), (356, i_cli 253 3), (359, i_ret 3)]
def bX2_ofWord_360 : List (Nat × XI) := [(360, i_ald 0), (361, i_ald 0), (362, i_ger 1016 [3]), (365, i_inn 372), (368, i_psh (.int 1)), (369, i_got 373)]
def bX2_ofWord_372 : List (Nat × XI) := [(372, i_psh (.int 0)), (373, i_fal 373)]
def bX2_ofWord_373 : List (Nat × XI) := [(373, i_ild 2), (374, i_clv 2 [(3, 49)]), (377, i_ald 0), (378, i_psh (.int 59)), (380, i_clv 1 [(3, 48)]), (383, i_pop), (384, i_new 30 3), (387, i_dup), (388, i_ild 1), (389, i_psh (.int (-9))), (391, i_ald 0), (392, i_ger 1016 [3]), (395, i_cli 253 3), (398, i_ret 3)]
def bX2_ofWord_399 : List (Nat × XI) := [(399, i_ald 0), (400, i_ild 1), (401, i_psh (.int 0)), (402, i_clv 2 [(3, 66)]), (405, i_ret 3)]
def bX2_ofWord_406 : List (Nat × XI) := [(406, i_ald 0), (407, i_ald 0), (408, i_clv 0 [(3, 42)]), (411, i_psh (.int 7)), (413, i_icne 420), (416, i_psh (.int 1)), (417, i_got 421)]
def bX2_ofWord_420 : List (Nat × XI) := [(420, i_psh (.int 0)), (421, i_fal 421)]
def bX2_ofWord_421 : List (Nat × XI) := [(421, i_clv 1 [(3, 46)]), (424, i_ald 0), (425, i_ald 0), (426, i_ger 1014 [3]), (429, i_ger 1013 [2]), (432, i_ald 0), (433, i_gei 5 [3]), (436, i_lda 0), (437, i_psh (.int 1)), (438, i_psh (.int 3)), (439, i_cls 3 3), (442, i_clv 1 [(3, 43)]), (445, i_ald 0), (446, i_ild 1), (447, i_ald 0), (448, i_psh (.int 7)), (450, i_clv 1 [(3, 48)]), (453, i_clv 2 [(3, 66)]), (456, i_ret 3)]
def rX2_ofWord : XM := (⟨"WaysAtlas$Reader", "ofWord", "(I)LWaysAtlas$Statement;"⟩, prog_21_method_22_code, 6, (some (.object "WaysAtlas$Statement")), [], [(0, bX2_ofWord_0), (31, bX2_ofWord_31), (112, bX2_ofWord_112), (138, bX2_ofWord_138), (162, bX2_ofWord_162), (168, bX2_ofWord_168), (214, bX2_ofWord_214), (243, bX2_ofWord_243), (247, bX2_ofWord_247), (248, bX2_ofWord_248), (276, bX2_ofWord_276), (279, bX2_ofWord_279), (291, bX2_ofWord_291), (315, bX2_ofWord_315), (327, bX2_ofWord_327), (328, bX2_ofWord_328), (360, bX2_ofWord_360), (372, bX2_ofWord_372), (373, bX2_ofWord_373), (399, bX2_ofWord_399), (406, bX2_ofWord_406), (420, bX2_ofWord_420), (421, bX2_ofWord_421)], fun _ _ => none)
def bX2_branch_0 : List (Nat × XI) := [(0, i_ald 0), (1, i_clv 0 [(3, 57)]), (4, i_ast 2), (5, i_ald 0), (6, i_clv 0 [(3, 42)]), (9, i_ist 3), (10, i_ald 0), (11, i_ild 3), (12, i_psh (.int 61)), (14, i_iceq 29), (17, i_ild 3), (18, i_psh (.int 60)), (20, i_iceq 29), (23, i_ild 3), (24, i_psh (.int 62)), (26, i_icne 33), (29, i_fal 29)]
def bX2_branch_29 : List (Nat × XI) := [(29, i_psh (.int 1)), (30, i_got 34)]
def bX2_branch_33 : List (Nat × XI) := [(33, i_psh (.int 0)), (34, i_fal 34)]
def bX2_branch_34 : List (Nat × XI) := [(34, i_clv 1 [(3, 46)]), (37, i_ald 0), (38, i_dup), (39, i_gei 5 [3]), (42, i_psh (.int 1)), (43, i_add), (44, i_pui 5 [3]), (47, i_new 26 6), (50, i_dup), (51, i_ild 1), (52, i_ald 2), (53, i_ild 3), (54, i_ald 0), (55, i_clv 0 [(3, 57)]), (58, i_cli 239 4), (61, i_ast 4), (63, i_ald 4), (65, i_ald 0), (66, i_clv 0 [(3, 65)]), (69, i_pur 1130 [27]), (72, i_ald 4), (74, i_ald 0), (75, i_psh (.int 9)), (77, i_clv 1 [(3, 62)]), (80, i_ifeq 90), (83, i_ald 0), (84, i_clv 0 [(3, 65)]), (87, i_got 94)]
def bX2_branch_90 : List (Nat × XI) := [(90, i_psh (.int 0)), (91, i_nwa 4), (94, i_fal 94)]
def bX2_branch_94 : List (Nat × XI) := [(94, i_pur 1131 [27]), (97, i_ald 4), (99, i_ret 3)]
def rX2_branch : XM := (⟨"WaysAtlas$Reader", "branch", "(I)LWaysAtlas$Statement;"⟩, prog_21_method_23_code, 5, (some (.object "WaysAtlas$Statement")), [], [(0, bX2_branch_0), (29, bX2_branch_29), (33, bX2_branch_33), (34, bX2_branch_34), (90, bX2_branch_90), (94, bX2_branch_94)], fun _ _ => none)
def bX2_block_0 : List (Nat × XI) := [(0, i_ald 0), (1, i_ald 0), (2, i_clv 0 [(3, 42)]), (5, i_psh (.int 123)), (7, i_icne 14), (10, i_psh (.int 1)), (11, i_got 15)]
def bX2_block_14 : List (Nat × XI) := [(14, i_psh (.int 0)), (15, i_fal 15)]
def bX2_block_15 : List (Nat × XI) := [(15, i_clv 1 [(3, 46)]), (18, i_ald 0), (19, i_ald 0), (20, i_gei 6 [3]), (23, i_psh (.int 6)), (25, i_icge 32), (28, i_psh (.int 1)), (29, i_got 33)]
def bX2_block_32 : List (Nat × XI) := [(32, i_psh (.int 0)), (33, i_fal 33)]
def bX2_block_33 : List (Nat × XI) := [(33, i_clv 1 [(3, 43)]), (36, i_ald 0), (37, i_dup), (38, i_gei 5 [3]), (41, i_psh (.int 1)), (42, i_add), (43, i_pui 5 [3]), (46, i_ald 0), (47, i_dup), (48, i_gei 6 [3]), (51, i_psh (.int 1)), (52, i_add), (53, i_pui 6 [3]), (56, i_ald 0), (57, i_clv 0 [(3, 51)]), (60, i_ast 1), (61, i_ald 0), (62, i_psh (.int 125)), (64, i_clv 1 [(3, 48)]), (67, i_pop), (68, i_ald 0), (69, i_dup), (70, i_gei 6 [3]), (73, i_psh (.int 1)), (74, i_sub), (75, i_pui 6 [3]), (78, i_ald 1), (79, i_ret 3)]
def rX2_block : XM := (⟨"WaysAtlas$Reader", "block", "()[LWaysAtlas$Statement;"⟩, prog_21_method_17_code, 2, (some (.array (.object "WaysAtlas$Statement"))), [], [(0, bX2_block_0), (14, bX2_block_14), (15, bX2_block_15), (32, bX2_block_32), (33, bX2_block_33)], fun _ _ => none)
def bX2_guard_0 : List (Nat × XI) := [(0, i_new 31 7), (3, i_dup), (4, i_ild 1), (5, i_ild 2), (6, i_cli 257 2), (9, i_ast 3), (10, i_ald 3), (11, i_ald 0), (12, i_clv 0 [(3, 65)]), (15, i_pur 1135 [32]), (18, i_ald 0), (19, i_ild 2), (20, i_ifgt 41), (23, i_ald 0), (24, i_psh (.int 18)), (26, i_clv 1 [(3, 41)]), (29, i_ifne 41), (32, i_ald 0), (33, i_psh (.int 19)), (35, i_clv 1 [(3, 41)]), (38, i_ifeq 45), (41, i_fal 41)]
def bX2_guard_41 : List (Nat × XI) := [(41, i_psh (.int 1)), (42, i_got 46)]
def bX2_guard_45 : List (Nat × XI) := [(45, i_psh (.int 0)), (46, i_fal 46)]
def bX2_guard_46 : List (Nat × XI) := [(46, i_clv 1 [(3, 46)]), (49, i_fal 49)]
def bX2_guard_49 : List (Nat × XI) := [(49, i_ald 0), (50, i_psh (.int 18)), (52, i_clv 1 [(3, 62)]), (55, i_ifeq 156), (58, i_ald 0), (59, i_clv 0 [(3, 47)]), (62, i_ist 4), (64, i_ald 0), (65, i_ger 1015 [3]), (68, i_ger 1023 [4]), (71, i_ald 0), (72, i_ger 1015 [3]), (75, i_gei 15 [4]), (78, i_ald 3), (79, i_aas 7 [32]), (80, i_ald 0), (81, i_ger 1015 [3]), (84, i_ger 1024 [4]), (87, i_ald 0), (88, i_ger 1015 [3]), (91, i_gei 15 [4]), (94, i_ald 3), (95, i_gei 95 [32]), (98, i_ias), (99, i_ald 0), (100, i_ger 1015 [3]), (103, i_dup), (104, i_gei 15 [4]), (107, i_psh (.int 1)), (108, i_add), (109, i_pui 15 [4]), (112, i_ald 0), (113, i_ger 1016 [3]), (116, i_ast 5), (118, i_ald 0), (119, i_ald 3), (120, i_pur 1016 [3]), (123, i_ald 3), (124, i_gei 95 [32]), (127, i_ist 6), (129, i_ald 3), (130, i_ild 4), (132, i_psh .null), (133, i_clv 2 [(32, 258)]), (136, i_ald 3), (137, i_ger 1137 [32]), (140, i_ild 6), (142, i_ald 0), (143, i_clv 0 [(3, 65)]), (146, i_aaA), (147, i_ald 0), (148, i_ald 5), (150, i_pur 1016 [3]), (153, i_got 49)]
def bX2_guard_156 : List (Nat × XI) := [(156, i_ald 0), (157, i_psh (.int 19)), (159, i_clv 1 [(3, 62)]), (162, i_ifeq 173), (165, i_ald 3), (166, i_ald 0), (167, i_clv 0 [(3, 65)]), (170, i_pur 1138 [32]), (173, i_fal 173)]
def bX2_guard_173 : List (Nat × XI) := [(173, i_ald 3), (174, i_ret 3)]
def rX2_guard : XM := (⟨"WaysAtlas$Reader", "guard", "(II)LWaysAtlas$Statement;"⟩, prog_21_method_24_code, 7, (some (.object "WaysAtlas$Statement")), [], [(0, bX2_guard_0), (41, bX2_guard_41), (45, bX2_guard_45), (46, bX2_guard_46), (49, bX2_guard_49), (156, bX2_guard_156), (173, bX2_guard_173)], fun _ _ => none)
def bX3_init_0 : List (Nat × XI) := [(0, i_ald 0), (1, i_obj), (4, i_ald 0), (5, i_psh (.int 8)), (7, i_nwa 6), (10, i_pur 1020 [4]), (13, i_ald 0), (14, i_psh (.int 16)), (16, i_nwa 0), (18, i_pur 1021 [4]), (21, i_ald 0), (22, i_psh (.int 7)), (24, i_pui 13 [4]), (27, i_ald 0), (28, i_psh (.int 80)), (30, i_nwa 4), (33, i_pur 1022 [4]), (36, i_ald 0), (37, i_psh (.int 160)), (40, i_nwa 7), (43, i_pur 1023 [4]), (46, i_ald 0), (47, i_psh (.int 160)), (50, i_nwa 0), (52, i_pur 1024 [4]), (55, i_ald 0), (56, i_ger 1021 [4]), (59, i_psh (.int 0)), (60, i_psh (.int (-9))), (62, i_ias), (63, i_ald 0), (64, i_ger 1021 [4]), (67, i_psh (.int 1)), (68, i_psh (.int 0)), (69, i_ias), (70, i_psh (.int 2)), (71, i_ist 1), (72, i_fal 72)]
def bX3_init_72 : List (Nat × XI) := [(72, i_ild 1), (73, i_psh (.int 6)), (75, i_icgt 91), (78, i_ald 0), (79, i_ger 1021 [4]), (82, i_ild 1), (83, i_psh (.int 1)), (84, i_ias), (85, i_inc 1 1), (88, i_got 72)]
def bX3_init_91 : List (Nat × XI) := [(91, i_ret 0)]
def rX3_init : XM := (⟨"WaysAtlas$Program", "<init>", "()V"⟩, prog_19_method_1_code, 2, none, [], [(0, bX3_init_0), (72, bX3_init_72), (91, bX3_init_91)], fun _ _ => none)
def bX3_walk_0 : List (Nat × XI) := [(0, i_ald 1), (1, i_ild 5), (3, i_clv 1 [(6, 80)]), (6, i_ald 1), (7, i_ald 0), (8, i_ald 1), (9, i_ald 1), (10, i_ald 0), (11, i_ger 1020 [4]), (14, i_ild 2), (15, i_lda 6), (16, i_ild 3), (17, i_ild 4), (19, i_clv 3 [(6, 81)]), (22, i_clv 2 [(4, 69)]), (25, i_pui 29 [6]), (28, i_ald 1), (29, i_psh (.int 0)), (30, i_pui 28 [6]), (33, i_got 62)]
def bX3_walk_36 : List (Nat × XI) := [(36, i_ast 6), (38, i_ald 1), (39, i_psh (.int 1)), (40, i_pui 28 [6]), (43, i_ald 1), (44, i_ald 6), (46, i_gei 33 [7]), (49, i_pui 30 [6]), (52, i_got 62)]
def bX3_walk_55 : List (Nat × XI) := [(55, i_ast 6), (57, i_ald 1), (58, i_psh (.int 2)), (59, i_pui 28 [6]), (62, i_fal 62)]
def bX3_walk_62 : List (Nat × XI) := [(62, i_ret 0)]
def hX3_walk (pc kd : Nat) : Option Nat := if 6 ≤ pc ∧ pc < 33 then (if kd = 7 then some 36 else if 6 ≤ pc ∧ pc < 33 then (if kd = 8 then some 55 else none) else none) else if 6 ≤ pc ∧ pc < 33 then (if kd = 8 then some 55 else none) else none
def rX3_walk : XM := (⟨"WaysAtlas$Program", "walk", "(LWaysAtlas$Run;IIII)V"⟩, prog_19_method_4_code, 7, none, [(6, 33, 36, 78), (6, 33, 55, 84)], [(0, bX3_walk_0), (36, bX3_walk_36), (55, bX3_walk_55), (62, bX3_walk_62)], hX3_walk)
def bX3_walks_0 : List (Nat × XI) := [(0, i_ald 2), (1, i_ger 1056 [9]), (4, i_ger 1117 [12]), (7, i_ald 1), (8, i_ald 2), (9, i_cls 14 3), (12, i_ist 3), (13, i_ild 3), (14, i_psh (.int 1)), (15, i_icne 25), (18, i_ald 2), (19, i_gei 34 [9]), (22, i_got 26)]
def bX3_walks_25 : List (Nat × XI) := [(25, i_psh (.int 0)), (26, i_fal 26)]
def bX3_walks_26 : List (Nat × XI) := [(26, i_ist 4), (28, i_ald 1), (29, i_dup), (30, i_gei 17 [6]), (33, i_psh (.int 1)), (34, i_sub), (35, i_pui 17 [6]), (38, i_ild 4), (40, i_ret 1)]
def bX3_walks_41 : List (Nat × XI) := [(41, i_ast 5), (43, i_ald 1), (44, i_dup), (45, i_gei 17 [6]), (48, i_psh (.int 1)), (49, i_sub), (50, i_pui 17 [6]), (53, i_ald 5), (55, i_thr)]
def hX3_walks (pc kd : Nat) : Option Nat := if 0 ≤ pc ∧ pc < 28 then (some 41) else if 41 ≤ pc ∧ pc < 43 then (some 41) else none
def rX3_walks : XM := (⟨"WaysAtlas$Program", "walks", "(LWaysAtlas$Run;LWaysAtlas$Frame;)I"⟩, prog_19_method_3_code, 6, (some .int), [(0, 28, 41, 0), (41, 43, 41, 0)], [(0, bX3_walks_0), (25, bX3_walks_25), (26, bX3_walks_26), (41, bX3_walks_41)], hX3_walks)
def bX3_isUnder_0 : List (Nat × XI) := [(0, i_ild 1), (1, i_ist 3), (2, i_fal 2)]
def bX3_isUnder_2 : List (Nat × XI) := [(2, i_ild 3), (3, i_psh (.int (-9))), (5, i_iceq 23), (8, i_ild 3), (9, i_ild 2), (10, i_iceq 23), (13, i_ald 0), (14, i_ger 1021 [4]), (17, i_ild 3), (18, i_lda 0), (19, i_ist 3), (20, i_got 2)]
def bX3_isUnder_23 : List (Nat × XI) := [(23, i_ild 3), (24, i_ild 2), (25, i_icne 32), (28, i_psh (.int 1)), (29, i_got 33)]
def bX3_isUnder_32 : List (Nat × XI) := [(32, i_psh (.int 0)), (33, i_fal 33)]
def bX3_isUnder_33 : List (Nat × XI) := [(33, i_ret 4)]
def rX3_isUnder : XM := (⟨"WaysAtlas$Program", "isUnder", "(II)Z"⟩, prog_19_method_2_code, 4, (some .boolean), [], [(0, bX3_isUnder_0), (2, bX3_isUnder_2), (23, bX3_isUnder_23), (32, bX3_isUnder_32), (33, bX3_isUnder_33)], fun _ _ => none)
def bX3_run_0 : List (Nat × XI) := [(0, i_ald 1), (1, i_ild 5), (3, i_clv 1 [(6, 80)]), (6, i_ald 1), (7, i_psh (.int (-9))), (9, i_pui 28 [6]), (12, i_ald 1), (13, i_ald 0), (14, i_ger 1020 [4]), (17, i_ild 2), (18, i_lda 6), (19, i_ild 3), (20, i_ild 4), (22, i_clv 3 [(6, 81)]), (25, i_ast 6), (27, i_fal 27)]
def bX3_run_27 : List (Nat × XI) := [(27, i_ald 1), (28, i_gei 28 [6]), (31, i_psh (.int (-9))), (33, i_icne 48), (36, i_ald 0), (37, i_ald 1), (38, i_ald 1), (39, i_clv 0 [(6, 84)]), (42, i_clv 2 [(4, 72)]), (45, i_got 27)]
def bX3_run_48 : List (Nat × XI) := [(48, i_got 77)]
def bX3_run_51 : List (Nat × XI) := [(51, i_ast 6), (53, i_ald 1), (54, i_psh (.int 1)), (55, i_pui 28 [6]), (58, i_ald 1), (59, i_ald 6), (61, i_gei 33 [7]), (64, i_pui 30 [6]), (67, i_got 77)]
def bX3_run_70 : List (Nat × XI) := [(70, i_ast 6), (72, i_ald 1), (73, i_psh (.int 2)), (74, i_pui 28 [6]), (77, i_fal 77)]
def bX3_run_77 : List (Nat × XI) := [(77, i_ret 0)]
def hX3_run (pc kd : Nat) : Option Nat := if 12 ≤ pc ∧ pc < 48 then (if kd = 7 then some 51 else if 12 ≤ pc ∧ pc < 48 then (if kd = 8 then some 70 else none) else none) else if 12 ≤ pc ∧ pc < 48 then (if kd = 8 then some 70 else none) else none
def rX3_run : XM := (⟨"WaysAtlas$Program", "run", "(LWaysAtlas$Run;IIII)V"⟩, prog_19_method_5_code, 7, none, [(12, 48, 51, 78), (12, 48, 70, 84)], [(0, bX3_run_0), (27, bX3_run_27), (48, bX3_run_48), (51, bX3_run_51), (70, bX3_run_70), (77, bX3_run_77)], hX3_run)
def bX3_goes_0 : List (Nat × XI) := [(0, i_psh (.int 3)), (1, i_ald 2), (2, i_gei 36 [9]), (5, i_mul), (6, i_ist 3), (7, i_ald 2), (8, i_dup), (9, i_gei 36 [9]), (12, i_psh (.int 1)), (13, i_add), (14, i_pui 36 [9]), (17, i_ald 0), (18, i_ald 1), (19, i_ald 2), (20, i_ald 0), (21, i_ger 1025 [4]), (24, i_ger 1143 [34]), (27, i_ild 3), (28, i_lda 0), (29, i_ald 0), (30, i_ger 1025 [4]), (33, i_ger 1143 [34]), (36, i_ild 3), (37, i_psh (.int 1)), (38, i_add), (39, i_lda 0), (40, i_ald 0), (41, i_ger 1025 [4]), (44, i_ger 1143 [34]), (47, i_ild 3), (48, i_psh (.int 2)), (49, i_add), (50, i_lda 0), (51, i_clv 5 [(4, 73)]), (54, i_got 66)]
def bX3_goes_57 : List (Nat × XI) := [(57, i_ast 4), (59, i_ald 0), (60, i_ald 1), (61, i_ald 4), (63, i_clv 2 [(4, 76)]), (66, i_fal 66)]
def bX3_goes_66 : List (Nat × XI) := [(66, i_ret 0)]
def hX3_goes (pc kd : Nat) : Option Nat := if 17 ≤ pc ∧ pc < 54 then (if kd = 7 then some 57 else none) else none
def rX3_goes : XM := (⟨"WaysAtlas$Program", "goes", "(LWaysAtlas$Run;LWaysAtlas$Frame;)V"⟩, prog_19_method_6_code, 5, none, [(17, 54, 57, 78)], [(0, bX3_goes_0), (57, bX3_goes_57), (66, bX3_goes_66)], hX3_goes)
def bX3_does_0 : List (Nat × XI) := [(0, i_ild 3), (1, i_tsw 0 23 333 [108, 121, 139, 159, 177, 211, 220, 245, 298, 333, 333, 333, 333, 333, 333, 333, 333, 333, 333, 333, 333, 325, 316])]
def bX3_does_108 : List (Nat × XI) := [(108, i_ald 1), (109, i_clv 0 [(6, 85)]), (112, i_ald 2), (113, i_ild 4), (115, i_pui 35 [9]), (118, i_got 344)]
def bX3_does_121 : List (Nat × XI) := [(121, i_ald 0), (122, i_ger 1022 [4]), (125, i_ild 4), (127, i_lda 4), (128, i_cst [21, 22, 23, 24, 25, 30]), (131, i_ald 1), (132, i_ald 2), (133, i_clv 2 [(21, 225), (22, 227), (23, 229), (24, 231), (25, 234), (30, 252)]), (136, i_got 344)]
def bX3_does_139 : List (Nat × XI) := [(139, i_ald 0), (140, i_ger 1022 [4]), (143, i_ild 4), (145, i_lda 4), (146, i_cst [19]), (149, i_ald 1), (150, i_ald 2), (151, i_clv 2 [(19, 220)]), (154, i_ast 6), (156, i_got 344)]
def bX3_does_159 : List (Nat × XI) := [(159, i_ald 0), (160, i_ger 1022 [4]), (163, i_ild 4), (165, i_lda 4), (166, i_cst [26]), (169, i_ald 1), (170, i_ald 2), (171, i_clv 2 [(26, 238)]), (174, i_got 344)]
def bX3_does_177 : List (Nat × XI) := [(177, i_ald 2), (178, i_ald 0), (179, i_ger 1022 [4]), (182, i_ild 4), (184, i_lda 4), (185, i_cst [27]), (188, i_ald 1), (189, i_ald 2), (190, i_clv 2 [(27, 242)]), (193, i_ifeq 203), (196, i_ald 2), (197, i_gei 36 [9]), (200, i_got 205)]
def bX3_does_203 : List (Nat × XI) := [(203, i_ild 5), (205, i_fal 205)]
def bX3_does_205 : List (Nat × XI) := [(205, i_pui 36 [9]), (208, i_got 344)]
def bX3_does_211 : List (Nat × XI) := [(211, i_ald 2), (212, i_ild 5), (214, i_pui 36 [9]), (217, i_got 344)]
def bX3_does_220 : List (Nat × XI) := [(220, i_ald 2), (221, i_ger 1055 [9]), (224, i_ild 5), (226, i_ald 0), (227, i_ger 1022 [4]), (230, i_ild 4), (232, i_lda 4), (233, i_cst [28]), (236, i_ald 1), (237, i_ald 2), (238, i_clv 2 [(28, 247)]), (241, i_ias), (242, i_got 344)]
def bX3_does_245 : List (Nat × XI) := [(245, i_ald 0), (246, i_ger 1022 [4]), (249, i_ild 4), (251, i_lda 4), (252, i_cst [28]), (255, i_clv 0 [(28, 245)]), (258, i_ist 6), (260, i_ald 2), (261, i_ger 1055 [9]), (264, i_ild 6), (266, i_lda 0), (267, i_psh (.int 1)), (268, i_icge 280), (271, i_ald 2), (272, i_ild 5), (274, i_pui 36 [9]), (277, i_got 344)]
def bX3_does_280 : List (Nat × XI) := [(280, i_ald 1), (281, i_clv 0 [(6, 85)]), (284, i_ald 2), (285, i_ger 1055 [9]), (288, i_ild 6), (290, i_du2), (291, i_lda 0), (292, i_psh (.int 1)), (293, i_sub), (294, i_ias), (295, i_got 344)]
def bX3_does_298 : List (Nat × XI) := [(298, i_ald 0), (299, i_ger 1022 [4]), (302, i_ild 4), (304, i_lda 4), (305, i_cst [31]), (308, i_ald 1), (309, i_ald 2), (310, i_clv 2 [(31, 256)]), (313, i_got 344)]
def bX3_does_316 : List (Nat × XI) := [(316, i_ald 0), (317, i_ald 1), (318, i_ald 2), (319, i_clv 2 [(4, 74)]), (322, i_got 344)]
def bX3_does_325 : List (Nat × XI) := [(325, i_ald 2), (326, i_psh (.int 0)), (327, i_pui 34 [9]), (330, i_got 344)]
def bX3_does_333 : List (Nat × XI) := [(333, i_ald 0), (334, i_ald 1), (335, i_ald 2), (336, i_ild 3), (337, i_ild 4), (339, i_ild 5), (341, i_clv 5 [(4, 75)]), (344, i_fal 344)]
def bX3_does_344 : List (Nat × XI) := [(344, i_ret 0)]
def rX3_does : XM := (⟨"WaysAtlas$Program", "does", "(LWaysAtlas$Run;LWaysAtlas$Frame;III)V"⟩, prog_19_method_9_code, 7, none, [], [(0, bX3_does_0), (108, bX3_does_108), (121, bX3_does_121), (139, bX3_does_139), (159, bX3_does_159), (177, bX3_does_177), (203, bX3_does_203), (205, bX3_does_205), (211, bX3_does_211), (220, bX3_does_220), (245, bX3_does_245), (280, bX3_does_280), (298, bX3_does_298), (316, bX3_does_316), (325, bX3_does_325), (333, bX3_does_333), (344, bX3_does_344)], fun _ _ => none)
def bX3_gives_0 : List (Nat × XI) := [(0, i_ald 2), (1, i_gei 34 [9]), (4, i_ist 3), (5, i_ald 1), (6, i_dup), (7, i_gei 17 [6]), (10, i_psh (.int 1)), (11, i_sub), (12, i_pui 17 [6]), (15, i_ald 1), (16, i_gei 17 [6]), (19, i_ifne 33), (22, i_ald 1), (23, i_psh (.int 0)), (24, i_pui 28 [6]), (27, i_ald 1), (28, i_ild 3), (29, i_pui 29 [6]), (32, i_ret 0)]
def bX3_gives_33 : List (Nat × XI) := [(33, i_ald 1), (34, i_clv 0 [(6, 84)]), (37, i_ast 4), (39, i_ald 0), (40, i_ger 1022 [4]), (43, i_ald 0), (44, i_ger 1025 [4]), (47, i_ger 1143 [34]), (50, i_psh (.int 3)), (51, i_ald 4), (53, i_gei 36 [9]), (56, i_psh (.int 1)), (57, i_sub), (58, i_mul), (59, i_psh (.int 1)), (60, i_add), (61, i_lda 0), (62, i_lda 4), (63, i_cst [19]), (66, i_ast 5), (68, i_ald 5), (70, i_gei 83 [19]), (73, i_psh (.int (-9))), (75, i_iceq 90), (78, i_ald 4), (80, i_ger 1053 [9]), (83, i_ald 5), (85, i_gei 83 [19]), (88, i_ild 3), (89, i_ias), (90, i_fal 90)]
def bX3_gives_90 : List (Nat × XI) := [(90, i_ret 0)]
def rX3_gives : XM := (⟨"WaysAtlas$Program", "gives", "(LWaysAtlas$Run;LWaysAtlas$Frame;)V"⟩, prog_19_method_8_code, 6, none, [], [(0, bX3_gives_0), (33, bX3_gives_33), (90, bX3_gives_90)], fun _ _ => none)
def bX3_ways_0 : List (Nat × XI) := [(0, i_ild 3), (1, i_psh (.int 11)), (3, i_icgt 19), (6, i_ald 0), (7, i_ger 1022 [4]), (10, i_ild 4), (12, i_lda 4), (13, i_cst [32]), (16, i_got 20)]
def bX3_ways_19 : List (Nat × XI) := [(19, i_psh .null), (20, i_fal 20)]
def bX3_ways_20 : List (Nat × XI) := [(20, i_ast 6), (22, i_ald 6), (24, i_inn 31), (27, i_psh (.int 0)), (28, i_got 37)]
def bX3_ways_31 : List (Nat × XI) := [(31, i_ald 6), (33, i_psh (.int 4)), (34, i_clv 1 [(32, 261)]), (37, i_fal 37)]
def bX3_ways_37 : List (Nat × XI) := [(37, i_ist 7), (39, i_ild 3), (40, i_tsw 9 11 337 [100, 154, 154, 214, 228, 242, 256, 271, 284, 313, 325])]
def bX3_ways_100 : List (Nat × XI) := [(100, i_ald 1), (101, i_ild 4), (103, i_ald 6), (105, i_gei 94 [32]), (108, i_ald 2), (109, i_ger 1055 [9]), (112, i_ild 7), (114, i_clv 4 [(6, 86)]), (117, i_ist 8), (119, i_ald 1), (120, i_gei 31 [6]), (123, i_psh (.int (-9))), (125, i_iceq 348), (128, i_ald 1), (129, i_ger 1046 [6]), (132, i_ald 1), (133, i_ild 4), (135, i_ild 8), (137, i_ald 2), (138, i_ger 1055 [9]), (141, i_ild 7), (143, i_ald 1), (144, i_gei 31 [6]), (147, i_clv 5 [(6, 88)]), (150, i_clv 1 [(7, 93)]), (153, i_thr)]
def bX3_ways_154 : List (Nat × XI) := [(154, i_ald 2), (155, i_ild 4), (157, i_pui 35 [9]), (160, i_ald 1), (161, i_ild 4), (163, i_ald 6), (165, i_gei 94 [32]), (168, i_ald 2), (169, i_ger 1055 [9]), (172, i_ild 7), (174, i_ild 3), (175, i_psh (.int 10)), (177, i_icne 185), (180, i_psh (.int (-9))), (182, i_got 192)]
def bX3_ways_185 : List (Nat × XI) := [(185, i_ald 2), (186, i_ger 1055 [9]), (189, i_ild 5), (191, i_lda 0), (192, i_fal 192)]
def bX3_ways_192 : List (Nat × XI) := [(192, i_clv 5 [(6, 88)]), (195, i_ist 8), (197, i_ild 8), (199, i_psh (.int (-9))), (201, i_iceq 348), (204, i_ald 1), (205, i_ger 1046 [6]), (208, i_ild 8), (210, i_clv 1 [(7, 93)]), (213, i_thr)]
def bX3_ways_214 : List (Nat × XI) := [(214, i_ald 1), (215, i_ger 1041 [6]), (218, i_ild 4), (220, i_du2), (221, i_lda 0), (222, i_psh (.int 1)), (223, i_add), (224, i_ias), (225, i_got 348)]
def bX3_ways_228 : List (Nat × XI) := [(228, i_ald 2), (229, i_ger 1055 [9]), (232, i_ild 5), (234, i_ald 2), (235, i_gei 34 [9]), (238, i_ias), (239, i_got 348)]
def bX3_ways_242 : List (Nat × XI) := [(242, i_ald 2), (243, i_ald 2), (244, i_ger 1055 [9]), (247, i_ild 5), (249, i_lda 0), (250, i_pui 34 [9]), (253, i_got 348)]
def bX3_ways_256 : List (Nat × XI) := [(256, i_ald 1), (257, i_ger 1046 [6]), (260, i_ald 2), (261, i_ger 1055 [9]), (264, i_ild 5), (266, i_lda 0), (267, i_clv 1 [(7, 93)]), (270, i_thr)]
def bX3_ways_271 : List (Nat × XI) := [(271, i_ald 1), (272, i_dup), (273, i_gei 25 [6]), (276, i_psh (.int 1)), (277, i_add), (278, i_pui 25 [6]), (281, i_got 348)]
def bX3_ways_284 : List (Nat × XI) := [(284, i_ald 1), (285, i_dup), (286, i_gei 25 [6]), (289, i_ald 2), (290, i_ger 1055 [9]), (293, i_ild 5), (295, i_lda 0), (296, i_psh (.int (-9))), (298, i_icne 305), (301, i_psh (.int 0)), (302, i_got 306)]
def bX3_ways_305 : List (Nat × XI) := [(305, i_psh (.int 1)), (306, i_fal 306)]
def bX3_ways_306 : List (Nat × XI) := [(306, i_add), (307, i_pui 25 [6]), (310, i_got 348)]
def bX3_ways_313 : List (Nat × XI) := [(313, i_ald 2), (314, i_ger 1055 [9]), (317, i_ild 5), (319, i_psh (.int (-9))), (321, i_ias), (322, i_got 348)]
def bX3_ways_325 : List (Nat × XI) := [(325, i_ald 2), (326, i_ger 1055 [9]), (329, i_ild 4), (331, i_ild 5), (333, i_ias), (334, i_got 348)]
def bX3_ways_337 : List (Nat × XI) := [(337, i_ald 2), (338, i_ald 2), (339, i_ger 1055 [9]), (342, i_ild 5), (344, i_lda 0), (345, i_pui 36 [9]), (348, i_fal 348)]
def bX3_ways_348 : List (Nat × XI) := [(348, i_ret 0)]
def rX3_ways : XM := (⟨"WaysAtlas$Program", "ways", "(LWaysAtlas$Run;LWaysAtlas$Frame;III)V"⟩, prog_19_method_10_code, 9, none, [], [(0, bX3_ways_0), (19, bX3_ways_19), (20, bX3_ways_20), (31, bX3_ways_31), (37, bX3_ways_37), (100, bX3_ways_100), (154, bX3_ways_154), (185, bX3_ways_185), (192, bX3_ways_192), (214, bX3_ways_214), (228, bX3_ways_228), (242, bX3_ways_242), (256, bX3_ways_256), (271, bX3_ways_271), (284, bX3_ways_284), (305, bX3_ways_305), (306, bX3_ways_306), (313, bX3_ways_313), (325, bX3_ways_325), (337, bX3_ways_337), (348, bX3_ways_348)], fun _ _ => none)
def bX3_unwinds_0 : List (Nat × XI) := [(0, i_ald 1), (1, i_ger 1033 [6]), (4, i_ald 2), (5, i_gei 33 [7]), (8, i_lda 0), (9, i_ist 3), (10, i_fal 10)]
def bX3_unwinds_10 : List (Nat × XI) := [(10, i_ald 1), (11, i_gei 17 [6]), (14, i_ifle 189), (17, i_ald 1), (18, i_clv 0 [(6, 84)]), (21, i_ast 4), (23, i_ald 4), (25, i_gei 36 [9]), (28, i_psh (.int 1)), (29, i_sub), (30, i_ist 5), (32, i_psh (.int 0)), (33, i_ist 6), (35, i_fal 35)]
def bX3_unwinds_35 : List (Nat × XI) := [(35, i_ild 6), (37, i_psh (.int 5)), (38, i_ald 0), (39, i_ger 1025 [4]), (42, i_gei 101 [34]), (45, i_mul), (46, i_icge 176), (49, i_ild 5), (51, i_ald 0), (52, i_ger 1025 [4]), (55, i_ger 1144 [34]), (58, i_ild 6), (60, i_lda 0), (61, i_iclt 85), (64, i_ild 5), (66, i_ald 0), (67, i_ger 1025 [4]), (70, i_ger 1144 [34]), (73, i_ild 6), (75, i_psh (.int 1)), (76, i_add), (77, i_lda 0), (78, i_icge 85), (81, i_psh (.int 1)), (82, i_got 86)]
def bX3_unwinds_85 : List (Nat × XI) := [(85, i_psh (.int 0)), (86, i_fal 86)]
def bX3_unwinds_86 : List (Nat × XI) := [(86, i_ist 7), (88, i_ild 7), (90, i_ifeq 170), (93, i_ald 0), (94, i_ger 1025 [4]), (97, i_ger 1144 [34]), (100, i_ild 6), (102, i_psh (.int 3)), (103, i_add), (104, i_lda 0), (105, i_psh (.int (-9))), (107, i_iceq 130), (110, i_ald 0), (111, i_ild 3), (112, i_ald 0), (113, i_ger 1025 [4]), (116, i_ger 1144 [34]), (119, i_ild 6), (121, i_psh (.int 3)), (122, i_add), (123, i_lda 0), (124, i_clv 2 [(4, 70)]), (127, i_ifeq 170), (130, i_fal 130)]
def bX3_unwinds_130 : List (Nat × XI) := [(130, i_ald 4), (132, i_ger 1055 [9]), (135, i_ald 0), (136, i_ger 1025 [4]), (139, i_ger 1144 [34]), (142, i_ild 6), (144, i_psh (.int 4)), (145, i_add), (146, i_lda 0), (147, i_ald 2), (148, i_gei 33 [7]), (151, i_ias), (152, i_ald 4), (154, i_ald 0), (155, i_ger 1025 [4]), (158, i_ger 1144 [34]), (161, i_ild 6), (163, i_psh (.int 2)), (164, i_add), (165, i_lda 0), (166, i_pui 36 [9]), (169, i_ret 0)]
def bX3_unwinds_170 : List (Nat × XI) := [(170, i_inc 6 5), (173, i_got 35)]
def bX3_unwinds_176 : List (Nat × XI) := [(176, i_ald 1), (177, i_dup), (178, i_gei 17 [6]), (181, i_psh (.int 1)), (182, i_sub), (183, i_pui 17 [6]), (186, i_got 10)]
def bX3_unwinds_189 : List (Nat × XI) := [(189, i_ald 2), (190, i_thr)]
def rX3_unwinds : XM := (⟨"WaysAtlas$Program", "unwinds", "(LWaysAtlas$Run;LWaysAtlas$Thrown;)V"⟩, prog_19_method_7_code, 8, none, [], [(0, bX3_unwinds_0), (10, bX3_unwinds_10), (35, bX3_unwinds_35), (85, bX3_unwinds_85), (86, bX3_unwinds_86), (130, bX3_unwinds_130), (170, bX3_unwinds_170), (176, bX3_unwinds_176), (189, bX3_unwinds_189)], fun _ _ => none)
def bX4_init_0 : List (Nat × XI) := [(0, i_ald 0), (1, i_obj), (4, i_ald 0), (5, i_psh (.int 30)), (7, i_nwa 0), (9, i_pur 1026 [5]), (12, i_ald 0), (13, i_psh (.int 30)), (15, i_nwa 0), (17, i_pur 1027 [5]), (20, i_ald 0), (21, i_psh (.int 30)), (23, i_nwa 0), (25, i_pur 1028 [5]), (28, i_ret 0)]
def rX4_init : XM := (⟨"WaysAtlas$Plan", "<init>", "()V"⟩, prog_18_method_1_code, 1, none, [], [(0, bX4_init_0)], fun _ _ => none)
def bX4_kindAt_0 : List (Nat × XI) := [(0, i_psh (.int 0)), (1, i_ist 3), (2, i_fal 2)]
def bX4_kindAt_2 : List (Nat × XI) := [(2, i_ild 3), (3, i_ald 0), (4, i_gei 16 [5]), (7, i_icge 43), (10, i_ald 0), (11, i_ger 1026 [5]), (14, i_ild 3), (15, i_lda 0), (16, i_ild 1), (17, i_icne 37), (20, i_ald 0), (21, i_ger 1027 [5]), (24, i_ild 3), (25, i_lda 0), (26, i_ild 2), (27, i_icne 37), (30, i_ald 0), (31, i_ger 1028 [5]), (34, i_ild 3), (35, i_lda 0), (36, i_ret 1)]
def bX4_kindAt_37 : List (Nat × XI) := [(37, i_inc 3 1), (40, i_got 2)]
def bX4_kindAt_43 : List (Nat × XI) := [(43, i_psh (.int (-9))), (45, i_ret 1)]
def rX4_kindAt : XM := (⟨"WaysAtlas$Plan", "kindAt", "(II)I"⟩, prog_18_method_2_code, 4, (some .int), [], [(0, bX4_kindAt_0), (2, bX4_kindAt_2), (37, bX4_kindAt_37), (43, bX4_kindAt_43)], fun _ _ => none)
def bX5_init_0 : List (Nat × XI) := [(0, i_ald 0), (1, i_obj), (4, i_ald 0), (5, i_psh (.int 12)), (7, i_nwa 8), (10, i_pur 1031 [6]), (13, i_ald 0), (14, i_psh (.int 400)), (17, i_nwa 0), (19, i_pur 1032 [6]), (22, i_ald 0), (23, i_psh (.int 401)), (26, i_nwa 0), (28, i_pur 1033 [6]), (31, i_ald 0), (32, i_psh (.int 401)), (35, i_nwa 0), (37, i_pur 1034 [6]), (40, i_ald 0), (41, i_psh (.int 401)), (44, i_nwa 0), (46, i_pur 1035 [6]), (49, i_ald 0), (50, i_psh (.int 401)), (53, i_nwa 0), (55, i_pur 1036 [6]), (58, i_ald 0), (59, i_psh (.int 401)), (62, i_nwa 0), (64, i_pur 1037 [6]), (67, i_ald 0), (68, i_psh (.int 401)), (71, i_nwa 0), (73, i_pur 1038 [6]), (76, i_ald 0), (77, i_psh (.int 4812)), (80, i_nwa 0), (82, i_pur 1039 [6]), (85, i_ald 0), (86, i_psh (.int 400)), (89, i_nwa 0), (91, i_pur 1040 [6]), (94, i_ald 0), (95, i_psh (.int 80)), (97, i_nwa 0), (99, i_pur 1041 [6]), (102, i_ald 0), (103, i_psh (.int 560)), (106, i_nwa 0), (108, i_pur 1042 [6]), (111, i_ald 0), (112, i_psh (.int 120)), (114, i_nwa 0), (116, i_pur 1043 [6]), (119, i_ald 0), (120, i_psh (.int 401)), (123, i_nwa 0), (125, i_pur 1044 [6]), (128, i_ald 0), (129, i_psh (.int 3208)), (132, i_nwa 0), (134, i_pur 1045 [6]), (137, i_ald 0), (138, i_psh (.int (-9))), (140, i_pui 28 [6]), (143, i_ald 0), (144, i_new 6 7), (147, i_dup), (148, i_cli 92 0), (151, i_pur 1046 [6]), (154, i_ald 0), (155, i_new 7 6), (158, i_dup), (159, i_cli 94 0), (162, i_pur 1047 [6]), (165, i_ald 0), (166, i_ald 1), (167, i_pur 1030 [6]), (170, i_psh (.int 0)), (171, i_ist 2), (172, i_fal 172)]
def bX5_init_172 : List (Nat × XI) := [(172, i_ild 2), (173, i_psh (.int 12)), (175, i_icge 197), (178, i_ald 0), (179, i_ger 1031 [6]), (182, i_ild 2), (183, i_new 8 8), (186, i_dup), (187, i_cli 95 0), (190, i_aas 8 [9]), (191, i_inc 2 1), (194, i_got 172)]
def bX5_init_197 : List (Nat × XI) := [(197, i_ret 0)]
def rX5_init : XM := (⟨"WaysAtlas$Run", "<init>", "(LWaysAtlas$Plan;)V"⟩, prog_23_method_1_code, 3, none, [], [(0, bX5_init_0), (172, bX5_init_172), (197, bX5_init_197)], fun _ _ => none)
def bX5_begin_0 : List (Nat × XI) := [(0, i_ald 0), (1, i_ild 1), (2, i_pui 20 [6]), (5, i_ald 0), (6, i_psh (.int 0)), (7, i_pui 17 [6]), (10, i_ald 0), (11, i_psh (.int 0)), (12, i_pui 18 [6]), (15, i_ald 0), (16, i_psh (.int 0)), (17, i_pui 19 [6]), (20, i_ald 0), (21, i_psh (.int 0)), (22, i_pui 21 [6]), (25, i_ald 0), (26, i_psh (.int 0)), (27, i_pui 22 [6]), (30, i_ald 0), (31, i_psh (.int 0)), (32, i_pui 23 [6]), (35, i_ald 0), (36, i_psh (.int 0)), (37, i_pui 24 [6]), (40, i_ald 0), (41, i_psh (.int 0)), (42, i_pui 25 [6]), (45, i_ald 0), (46, i_psh (.int 0)), (47, i_pui 27 [6]), (50, i_ald 0), (51, i_psh (.int 0)), (52, i_pui 26 [6]), (55, i_ald 0), (56, i_psh (.int 0)), (57, i_pui 29 [6]), (60, i_ald 0), (61, i_psh (.int (-9))), (63, i_pui 30 [6]), (66, i_psh (.int 0)), (67, i_ist 2), (68, i_fal 68)]
def bX5_begin_68 : List (Nat × XI) := [(68, i_ild 2), (69, i_psh (.int 80)), (71, i_icge 87), (74, i_ald 0), (75, i_ger 1041 [6]), (78, i_ild 2), (79, i_psh (.int 0)), (80, i_ias), (81, i_inc 2 1), (84, i_got 68)]
def bX5_begin_87 : List (Nat × XI) := [(87, i_psh (.int 0)), (88, i_ist 2), (89, i_fal 89)]
def bX5_begin_89 : List (Nat × XI) := [(89, i_ild 2), (90, i_psh (.int 560)), (93, i_icge 109), (96, i_ald 0), (97, i_ger 1042 [6]), (100, i_ild 2), (101, i_psh (.int 0)), (102, i_ias), (103, i_inc 2 1), (106, i_got 89)]
def bX5_begin_109 : List (Nat × XI) := [(109, i_ret 0)]
def rX5_begin : XM := (⟨"WaysAtlas$Run", "begin", "(I)V"⟩, prog_23_method_2_code, 3, none, [], [(0, bX5_begin_0), (68, bX5_begin_68), (87, bX5_begin_87), (89, bX5_begin_89), (109, bX5_begin_109)], fun _ _ => none)
def bX5_enters_0 : List (Nat × XI) := [(0, i_ald 0), (1, i_gei 17 [6]), (4, i_psh (.int 12)), (6, i_icne 16), (9, i_ald 0), (10, i_psh (.int 6)), (12, i_clv 1 [(6, 82)]), (15, i_thr)]
def bX5_enters_16 : List (Nat × XI) := [(16, i_ald 0), (17, i_ger 1031 [6]), (20, i_ald 0), (21, i_gei 17 [6]), (24, i_lda 8), (25, i_ast 4), (27, i_ald 0), (28, i_dup), (29, i_gei 17 [6]), (32, i_psh (.int 1)), (33, i_add), (34, i_pui 17 [6]), (37, i_ald 0), (38, i_ald 0), (39, i_gei 18 [6]), (42, i_ald 0), (43, i_gei 17 [6]), (46, i_cls 294 2), (49, i_pui 18 [6]), (52, i_ald 4), (54, i_ald 1), (55, i_ild 2), (56, i_ild 3), (57, i_clv 3 [(9, 96)]), (60, i_ald 4), (62, i_ret 3)]
def rX5_enters : XM := (⟨"WaysAtlas$Run", "enters", "(LWaysAtlas$Method;II)LWaysAtlas$Frame;"⟩, prog_23_method_12_code, 5, (some (.object "WaysAtlas$Frame")), [], [(0, bX5_enters_0), (16, bX5_enters_16)], fun _ _ => none)
def bX5_fails_0 : List (Nat × XI) := [(0, i_ald 0), (1, i_ger 1046 [6]), (4, i_ald 0), (5, i_ild 1), (6, i_psh (.int (-9))), (8, i_clv 2 [(6, 83)]), (11, i_clv 1 [(7, 93)]), (14, i_ret 3)]
def rX5_fails : XM := (⟨"WaysAtlas$Run", "fails", "(I)LWaysAtlas$Thrown;"⟩, prog_23_method_6_code, 2, (some (.object "WaysAtlas$Thrown")), [], [(0, bX5_fails_0)], fun _ _ => none)
def bX5_makes_0 : List (Nat × XI) := [(0, i_ald 0), (1, i_gei 22 [6]), (4, i_ist 3), (5, i_ald 0), (6, i_dup), (7, i_gei 22 [6]), (10, i_psh (.int 1)), (11, i_add), (12, i_pui 22 [6]), (15, i_ald 0), (16, i_ger 1033 [6]), (19, i_ild 3), (20, i_ild 1), (21, i_ias), (22, i_ald 0), (23, i_ger 1034 [6]), (26, i_ild 3), (27, i_ild 2), (28, i_ias), (29, i_ald 0), (30, i_ger 1035 [6]), (33, i_ild 3), (34, i_psh (.int (-9))), (36, i_ias), (37, i_ald 0), (38, i_ger 1036 [6]), (41, i_ild 3), (42, i_psh (.int (-9))), (44, i_ias), (45, i_ald 0), (46, i_ger 1037 [6]), (49, i_ild 3), (50, i_ald 0), (51, i_clv 0 [(6, 84)]), (54, i_gei 35 [9]), (57, i_ias), (58, i_ald 0), (59, i_ger 1038 [6]), (62, i_ild 3), (63, i_ald 0), (64, i_gei 17 [6]), (67, i_ias), (68, i_psh (.int 0)), (69, i_ist 4), (71, i_fal 71)]
def bX5_makes_71 : List (Nat × XI) := [(71, i_ild 4), (73, i_ald 0), (74, i_gei 17 [6]), (77, i_icge 132), (80, i_ald 0), (81, i_ger 1031 [6]), (84, i_ald 0), (85, i_gei 17 [6]), (88, i_psh (.int 1)), (89, i_sub), (90, i_ild 4), (92, i_sub), (93, i_lda 8), (94, i_ast 5), (96, i_ald 0), (97, i_ger 1039 [6]), (100, i_ild 3), (101, i_psh (.int 12)), (103, i_mul), (104, i_ild 4), (106, i_add), (107, i_psh (.int 1000)), (110, i_ald 5), (112, i_ger 1056 [9]), (115, i_gei 76 [12]), (118, i_mul), (119, i_ald 5), (121, i_gei 35 [9]), (124, i_add), (125, i_ias), (126, i_inc 4 1), (129, i_got 71)]
def bX5_makes_132 : List (Nat × XI) := [(132, i_ild 3), (133, i_ret 1)]
def rX5_makes : XM := (⟨"WaysAtlas$Run", "makes", "(II)I"⟩, prog_23_method_5_code, 6, (some .int), [], [(0, bX5_makes_0), (71, bX5_makes_71), (132, bX5_makes_132)], fun _ _ => none)
def bX5_top_0 : List (Nat × XI) := [(0, i_ald 0), (1, i_ger 1031 [6]), (4, i_ald 0), (5, i_gei 17 [6]), (8, i_psh (.int 1)), (9, i_sub), (10, i_lda 8), (11, i_ret 3)]
def rX5_top : XM := (⟨"WaysAtlas$Run", "top", "()LWaysAtlas$Frame;"⟩, prog_23_method_3_code, 1, (some (.object "WaysAtlas$Frame")), [], [(0, bX5_top_0)], fun _ _ => none)
def bX5_step_0 : List (Nat × XI) := [(0, i_ald 0), (1, i_gei 19 [6]), (4, i_ald 0), (5, i_gei 20 [6]), (8, i_icne 16), (11, i_ald 0), (12, i_ger 1047 [6]), (15, i_thr)]
def bX5_step_16 : List (Nat × XI) := [(16, i_ald 0), (17, i_dup), (18, i_gei 19 [6]), (21, i_psh (.int 1)), (22, i_add), (23, i_pui 19 [6]), (26, i_ret 0)]
def rX5_step : XM := (⟨"WaysAtlas$Run", "step", "()V"⟩, prog_23_method_4_code, 1, none, [], [(0, bX5_step_0), (16, bX5_step_16)], fun _ _ => none)
def bX5_opens_0 : List (Nat × XI) := [(0, i_psh (.int 0)), (1, i_ist 5), (3, i_fal 3)]
def bX5_opens_3 : List (Nat × XI) := [(3, i_ild 5), (5, i_ild 2), (6, i_icge 73), (9, i_ald 0), (10, i_clv 0 [(6, 85)]), (13, i_ald 0), (14, i_ild 1), (15, i_psh (.int 1)), (16, i_ild 5), (18, i_add), (19, i_clv 2 [(6, 87)]), (22, i_ist 6), (24, i_ild 6), (26, i_psh (.int (-9))), (28, i_iceq 46), (31, i_ald 0), (32, i_ald 0), (33, i_ild 6), (35, i_psh (.int (-9))), (37, i_clv 2 [(6, 83)]), (40, i_pui 31 [6]), (43, i_ild 5), (45, i_ret 1)]
def bX5_opens_46 : List (Nat × XI) := [(46, i_ald 3), (47, i_ild 4), (49, i_ild 5), (51, i_add), (52, i_ald 0), (53, i_gei 23 [6]), (56, i_ias), (57, i_ald 0), (58, i_dup), (59, i_gei 23 [6]), (62, i_psh (.int 1)), (63, i_add), (64, i_pui 23 [6]), (67, i_inc 5 1), (70, i_got 3)]
def bX5_opens_73 : List (Nat × XI) := [(73, i_ald 0), (74, i_psh (.int (-9))), (76, i_pui 31 [6]), (79, i_ild 2), (80, i_ret 1)]
def rX5_opens : XM := (⟨"WaysAtlas$Run", "opens", "(II[II)I"⟩, prog_23_method_10_code, 7, (some .int), [], [(0, bX5_opens_0), (3, bX5_opens_3), (46, bX5_opens_46), (73, bX5_opens_73)], fun _ _ => none)
def bX5_passes_0 : List (Nat × XI) := [(0, i_psh (.int 7)), (2, i_ild 1), (3, i_mul), (4, i_ild 2), (5, i_add), (6, i_ist 3), (7, i_ald 0), (8, i_ger 1042 [6]), (11, i_ild 3), (12, i_du2), (13, i_lda 0), (14, i_psh (.int 1)), (15, i_add), (16, i_ias), (17, i_ald 0), (18, i_gei 26 [6]), (21, i_psh (.int 60)), (23, i_icge 67), (26, i_ald 0), (27, i_ger 1043 [6]), (30, i_psh (.int 2)), (31, i_ald 0), (32, i_gei 26 [6]), (35, i_mul), (36, i_ild 3), (37, i_ias), (38, i_ald 0), (39, i_ger 1043 [6]), (42, i_psh (.int 2)), (43, i_ald 0), (44, i_gei 26 [6]), (47, i_mul), (48, i_psh (.int 1)), (49, i_add), (50, i_ald 0), (51, i_ger 1042 [6]), (54, i_ild 3), (55, i_lda 0), (56, i_ias), (57, i_ald 0), (58, i_dup), (59, i_gei 26 [6]), (62, i_psh (.int 1)), (63, i_add), (64, i_pui 26 [6]), (67, i_fal 67)]
def bX5_passes_67 : List (Nat × XI) := [(67, i_ald 0), (68, i_ger 1030 [6]), (71, i_ild 3), (72, i_ald 0), (73, i_ger 1042 [6]), (76, i_ild 3), (77, i_lda 0), (78, i_clv 2 [(5, 78)]), (81, i_ret 1)]
def rX5_passes : XM := (⟨"WaysAtlas$Run", "passes", "(II)I"⟩, prog_23_method_8_code, 4, (some .int), [], [(0, bX5_passes_0), (67, bX5_passes_67)], fun _ _ => none)
def bX5_closes_0 : List (Nat × XI) := [(0, i_ild 5), (2, i_ist 6), (4, i_ild 2), (5, i_psh (.int 1)), (6, i_sub), (7, i_ist 7), (9, i_fal 9)]
def bX5_closes_9 : List (Nat × XI) := [(9, i_ild 7), (11, i_iflt 100), (14, i_ald 0), (15, i_clv 0 [(6, 85)]), (18, i_ald 0), (19, i_ger 1040 [6]), (22, i_ald 0), (23, i_gei 24 [6]), (26, i_ald 3), (27, i_ild 4), (29, i_ild 7), (31, i_add), (32, i_lda 0), (33, i_ias), (34, i_ald 0), (35, i_dup), (36, i_gei 24 [6]), (39, i_psh (.int 1)), (40, i_add), (41, i_pui 24 [6]), (44, i_ald 0), (45, i_ild 1), (46, i_psh (.int 4)), (47, i_ild 7), (49, i_add), (50, i_clv 2 [(6, 87)]), (53, i_ist 8), (55, i_ild 8), (57, i_psh (.int (-9))), (59, i_iceq 94), (62, i_ald 0), (63, i_ild 8), (65, i_psh (.int (-9))), (67, i_clv 2 [(6, 83)]), (70, i_ist 9), (72, i_ild 6), (74, i_psh (.int (-9))), (76, i_icne 86), (79, i_ild 9), (81, i_ist 6), (83, i_got 94)]
def bX5_closes_86 : List (Nat × XI) := [(86, i_ald 0), (87, i_ild 6), (89, i_ild 9), (91, i_clv 2 [(6, 89)]), (94, i_fal 94)]
def bX5_closes_94 : List (Nat × XI) := [(94, i_inc 7 (-1)), (97, i_got 9)]
def bX5_closes_100 : List (Nat × XI) := [(100, i_ild 6), (102, i_ret 1)]
def rX5_closes : XM := (⟨"WaysAtlas$Run", "closes", "(II[III)I"⟩, prog_23_method_11_code, 10, (some .int), [], [(0, bX5_closes_0), (9, bX5_closes_9), (86, bX5_closes_86), (94, bX5_closes_94), (100, bX5_closes_100)], fun _ _ => none)
def bX5_suppresses_0 : List (Nat × XI) := [(0, i_ald 0), (1, i_ger 1035 [6]), (4, i_ild 1), (5, i_lda 0), (6, i_psh (.int (-9))), (8, i_icne 19), (11, i_ald 0), (12, i_ger 1035 [6]), (15, i_ild 1), (16, i_ild 2), (17, i_ias), (18, i_ret 0)]
def bX5_suppresses_19 : List (Nat × XI) := [(19, i_ald 0), (20, i_ger 1035 [6]), (23, i_ild 1), (24, i_lda 0), (25, i_ist 3), (26, i_fal 26)]
def bX5_suppresses_26 : List (Nat × XI) := [(26, i_ald 0), (27, i_ger 1036 [6]), (30, i_ild 3), (31, i_lda 0), (32, i_psh (.int (-9))), (34, i_iceq 47), (37, i_ald 0), (38, i_ger 1036 [6]), (41, i_ild 3), (42, i_lda 0), (43, i_ist 3), (44, i_got 26)]
def bX5_suppresses_47 : List (Nat × XI) := [(47, i_ald 0), (48, i_ger 1036 [6]), (51, i_ild 3), (52, i_ild 2), (53, i_ias), (54, i_ret 0)]
def rX5_suppresses : XM := (⟨"WaysAtlas$Run", "suppresses", "(II)V"⟩, prog_23_method_7_code, 4, none, [], [(0, bX5_suppresses_0), (19, bX5_suppresses_19), (26, bX5_suppresses_26), (47, bX5_suppresses_47)], fun _ _ => none)
def bX5_marks_0 : List (Nat × XI) := [(0, i_ald 0), (1, i_ild 1), (2, i_psh (.int 0)), (3, i_clv 2 [(6, 87)]), (6, i_ist 3), (7, i_ild 3), (8, i_psh (.int (-9))), (10, i_iceq 19), (13, i_ald 0), (14, i_ild 3), (15, i_clv 1 [(6, 82)]), (18, i_thr)]
def bX5_marks_19 : List (Nat × XI) := [(19, i_ald 0), (20, i_ger 1032 [6]), (23, i_ald 0), (24, i_gei 21 [6]), (27, i_ild 2), (28, i_ias), (29, i_ald 0), (30, i_dup), (31, i_gei 21 [6]), (34, i_psh (.int 1)), (35, i_add), (36, i_pui 21 [6]), (39, i_ret 0)]
def rX5_marks : XM := (⟨"WaysAtlas$Run", "marks", "(II)V"⟩, prog_23_method_9_code, 4, none, [], [(0, bX5_marks_0), (19, bX5_marks_19)], fun _ _ => none)
def bX5_lastMark_0 : List (Nat × XI) := [(0, i_ald 0), (1, i_gei 21 [6]), (4, i_ifne 12), (7, i_psh (.int (-9))), (9, i_got 23)]
def bX5_lastMark_12 : List (Nat × XI) := [(12, i_ald 0), (13, i_ger 1032 [6]), (16, i_ald 0), (17, i_gei 21 [6]), (20, i_psh (.int 1)), (21, i_sub), (22, i_lda 0), (23, i_fal 23)]
def bX5_lastMark_23 : List (Nat × XI) := [(23, i_ret 1)]
def rX5_lastMark : XM := (⟨"WaysAtlas$Run", "lastMark", "()I"⟩, prog_23_method_13_code, 1, (some .int), [], [(0, bX5_lastMark_0), (12, bX5_lastMark_12), (23, bX5_lastMark_23)], fun _ _ => none)
def bX6_init_0 : List (Nat × XI) := [(0, i_ald 0), (1, i_sv 12), (3, i_psh .null), (4, i_psh (.int 0)), (5, i_psh (.int 0)), (6, i_cli 292 4), (9, i_ret 0)]
def rX6_init : XM := (⟨"WaysAtlas$Thrown", "<init>", "()V"⟩, prog_32_method_1_code, 1, none, [], [(0, bX6_init_0)], fun _ _ => none)
def bX6_with_0 : List (Nat × XI) := [(0, i_ald 0), (1, i_ild 1), (2, i_pui 33 [7]), (5, i_ald 0), (6, i_ret 3)]
def rX6_with : XM := (⟨"WaysAtlas$Thrown", "with", "(I)LWaysAtlas$Thrown;"⟩, prog_32_method_2_code, 2, (some (.object "WaysAtlas$Thrown")), [], [(0, bX6_with_0)], fun _ _ => none)
def bX7_init_0 : List (Nat × XI) := [(0, i_ald 0), (1, i_sv 11), (3, i_psh .null), (4, i_psh (.int 0)), (5, i_psh (.int 0)), (6, i_cli 292 4), (9, i_ret 0)]
def rX7_init : XM := (⟨"WaysAtlas$Spent", "<init>", "()V"⟩, prog_29_method_1_code, 1, none, [], [(0, bX7_init_0)], fun _ _ => none)
def bX8_init_0 : List (Nat × XI) := [(0, i_ald 0), (1, i_obj), (4, i_ald 0), (5, i_psh (.int 6)), (7, i_nwa 0), (9, i_pur 1053 [9]), (12, i_ald 0), (13, i_psh (.int 3)), (14, i_nwa 0), (16, i_pur 1054 [9]), (19, i_ald 0), (20, i_psh (.int 640)), (23, i_nwa 0), (25, i_pur 1055 [9]), (28, i_ret 0)]
def rX8_init : XM := (⟨"WaysAtlas$Frame", "<init>", "()V"⟩, prog_5_method_1_code, 1, none, [], [(0, bX8_init_0)], fun _ _ => none)
def bX8_begin_0 : List (Nat × XI) := [(0, i_ald 0), (1, i_ald 1), (2, i_pur 1056 [9]), (5, i_psh (.int 0)), (6, i_ist 4), (8, i_fal 8)]
def bX8_begin_8 : List (Nat × XI) := [(8, i_ild 4), (10, i_psh (.int 6)), (12, i_icge 29), (15, i_ald 0), (16, i_ger 1053 [9]), (19, i_ild 4), (21, i_psh (.int 0)), (22, i_ias), (23, i_inc 4 1), (26, i_got 8)]
def bX8_begin_29 : List (Nat × XI) := [(29, i_psh (.int 0)), (30, i_ist 4), (32, i_fal 32)]
def bX8_begin_32 : List (Nat × XI) := [(32, i_ild 4), (34, i_psh (.int 3)), (35, i_icge 53), (38, i_ald 0), (39, i_ger 1054 [9]), (42, i_ild 4), (44, i_psh (.int (-9))), (46, i_ias), (47, i_inc 4 1), (50, i_got 32)]
def bX8_begin_53 : List (Nat × XI) := [(53, i_ald 0), (54, i_ger 1053 [9]), (57, i_psh (.int 0)), (58, i_ild 2), (59, i_ias), (60, i_ald 0), (61, i_ger 1053 [9]), (64, i_psh (.int 1)), (65, i_ild 3), (66, i_ias), (67, i_ald 0), (68, i_psh (.int 0)), (69, i_pui 34 [9]), (72, i_ald 0), (73, i_psh (.int (-9))), (75, i_pui 35 [9]), (78, i_ald 0), (79, i_ald 1), (80, i_gei 77 [12]), (83, i_pui 36 [9]), (86, i_ret 0)]
def rX8_begin : XM := (⟨"WaysAtlas$Frame", "begin", "(LWaysAtlas$Method;II)V"⟩, prog_5_method_2_code, 5, none, [], [(0, bX8_begin_0), (8, bX8_begin_8), (29, bX8_begin_29), (32, bX8_begin_32), (53, bX8_begin_53)], fun _ _ => none)
def bX9_init_0 : List (Nat × XI) := [(0, i_ald 0), (1, i_obj), (4, i_ald 0), (5, i_psh (.int 21)), (7, i_nwa 3), (9, i_dup), (10, i_psh (.int 0)), (11, i_psh (.long 427595)), (14, i_las), (15, i_dup), (16, i_psh (.int 1)), (17, i_psh (.long 99724)), (20, i_las), (21, i_dup), (22, i_psh (.int 2)), (23, i_psh (.long 18935)), (26, i_las), (27, i_dup), (28, i_psh (.int 3)), (29, i_psh (.long 474565)), (32, i_las), (33, i_dup), (34, i_psh (.int 4)), (35, i_psh (.long 609900110)), (38, i_las), (39, i_dup), (40, i_psh (.int 5)), (41, i_psh (.long 294)), (44, i_las), (45, i_dup), (46, i_psh (.int 6)), (48, i_psh (.long 176741)), (51, i_las), (52, i_dup), (53, i_psh (.int 7)), (55, i_psh (.long 409072)), (58, i_las), (59, i_dup), (60, i_psh (.int 8)), (62, i_psh (.long 12748485)), (65, i_las), (66, i_dup), (67, i_psh (.int 9)), (69, i_psh (.long 464660)), (72, i_las), (73, i_dup), (74, i_psh (.int 10)), (76, i_psh (.long 21252599)), (79, i_las), (80, i_dup), (81, i_psh (.int 11)), (83, i_psh (.long 772144)), (86, i_las), (87, i_dup), (88, i_psh (.int 12)), (90, i_psh (.long 1279278)), (93, i_las), (94, i_dup), (95, i_psh (.int 13)), (97, i_psh (.long 8029764)), (100, i_las), (101, i_dup), (102, i_psh (.int 14)), (104, i_psh (.long 763528)), (107, i_las), (108, i_dup), (109, i_psh (.int 15)), (111, i_psh (.long 3199080)), (114, i_las), (115, i_dup), (116, i_psh (.int 16)), (118, i_psh (.long 6759166361)), (121, i_las), (122, i_dup), (123, i_psh (.int 17)), (125, i_psh (.long 632645)), (128, i_las), (129, i_dup), (130, i_psh (.int 18)), (132, i_psh (.long 370116)), (135, i_las), (136, i_dup), (137, i_psh (.int 19)), (139, i_psh (.long 22483122)), (142, i_las), (143, i_dup), (144, i_psh (.int 20)), (146, i_psh (.long 442114532)), (149, i_las), (150, i_pur 1057 [10]), (153, i_ald 0), (154, i_psh (.int 1000)), (157, i_nwa 1), (159, i_pur 1058 [10]), (162, i_ald 0), (163, i_psh (.int 2560)), (166, i_nwa 0), (168, i_pur 1059 [10]), (171, i_ald 0), (172, i_psh (.int 2)), (173, i_nwa 0), (175, i_pur 1060 [10]), (178, i_ald 0), (179, i_psh (.int 2200)), (182, i_nwa 0), (184, i_pur 1061 [10]), (187, i_ald 0), (188, i_psh (.int 2200)), (191, i_nwa 0), (193, i_pur 1062 [10]), (196, i_ald 0), (197, i_psh (.int 800)), (200, i_nwa 0), (202, i_pur 1063 [10]), (205, i_ald 0), (206, i_psh (.int 320)), (209, i_nwa 0), (211, i_pur 1064 [10]), (214, i_ald 0), (215, i_psh (.int 320)), (218, i_nwa 0), (220, i_pur 1065 [10]), (223, i_ald 0), (224, i_psh (.int 320)), (227, i_nwa 0), (229, i_pur 1066 [10]), (232, i_ald 0), (233, i_psh (.int 2)), (234, i_nwa 0), (236, i_pur 1067 [10]), (239, i_ald 0), (240, i_psh (.int 16)), (242, i_nwa 0), (244, i_pur 1068 [10]), (247, i_ald 0), (248, i_psh (.int 2)), (249, i_nwa 0), (251, i_pur 1069 [10]), (254, i_ald 0), (255, i_psh (.int 32)), (257, i_nwa 0), (259, i_pur 1070 [10]), (262, i_ald 0), (263, i_psh (.int 2)), (264, i_nwa 0), (266, i_pur 1071 [10]), (269, i_ald 0), (270, i_psh (.int 500)), (273, i_nwa 0), (275, i_pur 1072 [10]), (278, i_ald 0), (279, i_psh (.int 500)), (282, i_nwa 0), (284, i_pur 1073 [10]), (287, i_ald 0), (288, i_psh (.int 500)), (291, i_nwa 0), (293, i_pur 1074 [10]), (296, i_ald 0), (297, i_psh (.int 1000)), (300, i_nwa 0), (302, i_pur 1075 [10]), (305, i_ald 0), (306, i_psh (.int 1000)), (309, i_nwa 0), (311, i_pur 1076 [10]), (314, i_ald 0), (315, i_psh (.int 12)), (317, i_nwa 0), (319, i_pur 1077 [10]), (322, i_ald 0), (323, i_psh (.int 12)), (325, i_nwa 0), (327, i_pur 1078 [10]), (330, i_ald 0), (331, i_psh (.int 12)), (333, i_nwa 0), (335, i_pur 1079 [10]), (338, i_ald 0), (339, i_psh (.int 12)), (341, i_nwa 0), (343, i_pur 1080 [10]), (346, i_ald 0), (347, i_psh (.int 30)), (349, i_nwa 0), (351, i_pur 1081 [10]), (354, i_ald 0), (355, i_psh (.int 30)), (357, i_nwa 0), (359, i_pur 1082 [10]), (362, i_ald 0), (363, i_psh (.int 30)), (365, i_nwa 0), (367, i_pur 1083 [10]), (370, i_ald 0), (371, i_psh (.int 30)), (373, i_nwa 0), (375, i_pur 1084 [10]), (378, i_ald 0), (379, i_psh (.int 2)), (380, i_nwa 2), (382, i_pur 1085 [10]), (385, i_ald 0), (386, i_psh (.int 30)), (388, i_nwa 0), (390, i_pur 1086 [10]), (393, i_ald 0), (394, i_psh (.int 1230)), (397, i_nwa 0), (399, i_pur 1087 [10]), (402, i_ald 0), (403, i_psh (.int 1260)), (406, i_nwa 0), (408, i_pur 1088 [10]), (411, i_ald 0), (412, i_psh (.int 1260)), (415, i_nwa 0), (417, i_pur 1089 [10]), (420, i_ald 0), (421, i_psh (.int 1260)), (424, i_nwa 0), (426, i_pur 1090 [10]), (429, i_ald 0), (430, i_psh (.int 1260)), (433, i_nwa 0), (435, i_pur 1091 [10]), (438, i_ald 0), (439, i_psh (.int 1260)), (442, i_nwa 0), (444, i_pur 1092 [10]), (447, i_ald 0), (448, i_psh (.int 1260)), (451, i_nwa 0), (453, i_pur 1093 [10]), (456, i_ald 0), (457, i_psh (.int 15120)), (460, i_nwa 0), (462, i_pur 1094 [10]), (465, i_ald 0), (466, i_psh (.int 1230)), (469, i_nwa 0), (471, i_pur 1095 [10]), (474, i_ald 0), (475, i_psh (.int 240)), (478, i_nwa 0), (480, i_pur 1096 [10]), (483, i_ald 0), (484, i_psh (.int 400)), (487, i_nwa 0), (489, i_pur 1097 [10]), (492, i_ald 0), (493, i_psh (.int 400)), (496, i_nwa 0), (498, i_pur 1098 [10]), (501, i_ald 0), (502, i_psh (.int 400)), (505, i_nwa 0), (507, i_pur 1099 [10]), (510, i_ald 0), (511, i_psh (.int 400)), (514, i_nwa 0), (516, i_pur 1100 [10]), (519, i_ald 0), (520, i_psh (.int 400)), (523, i_nwa 0), (525, i_pur 1101 [10]), (528, i_ald 0), (529, i_psh (.int 400)), (532, i_nwa 0), (534, i_pur 1102 [10]), (537, i_ald 0), (538, i_psh (.int 400)), (541, i_nwa 0), (543, i_pur 1103 [10]), (546, i_ald 0), (547, i_psh (.int 400)), (550, i_nwa 0), (552, i_pur 1104 [10]), (555, i_ald 0), (556, i_psh (.int 72)), (558, i_nwa 0), (560, i_pur 1105 [10]), (563, i_ald 0), (564, i_psh (.int 36)), (566, i_nwa 0), (568, i_pur 1106 [10]), (571, i_ald 0), (572, i_psh (.int 12)), (574, i_nwa 0), (576, i_pur 1107 [10]), (579, i_ald 0), (580, i_psh (.int 12)), (582, i_nwa 0), (584, i_pur 1108 [10]), (587, i_ald 0), (588, i_psh (.int 420)), (591, i_nwa 0), (593, i_pur 1109 [10]), (596, i_ald 0), (597, i_psh (.int 3360)), (600, i_nwa 0), (602, i_pur 1110 [10]), (605, i_ald 0), (606, i_psh (.int 560)), (609, i_nwa 0), (611, i_pur 1111 [10]), (614, i_ald 0), (615, i_psh (.int 60)), (617, i_nwa 0), (619, i_pur 1112 [10]), (622, i_ald 0), (623, i_psh (.int 60)), (625, i_nwa 0), (627, i_pur 1113 [10]), (630, i_ald 0), (631, i_psh (.int 60)), (633, i_nwa 0), (635, i_pur 1114 [10]), (638, i_ald 0), (639, i_psh (.int 1100)), (642, i_nwa 0), (644, i_pur 1115 [10]), (647, i_ald 0), (648, i_psh (.int 244)), (651, i_nwa 0), (653, i_pur 1116 [10]), (656, i_ald 0), (657, i_psh (.int 0)), (658, i_pui 44 [10]), (661, i_ret 0)]
def rX9_init : XM := (⟨"WaysAtlasModel", "<init>", "()V"⟩, prog_36_method_1_code, 1, none, [], [(0, bX9_init_0)], fun _ _ => none)
def bX9_say_0 : List (Nat × XI) := [(0, i_ild 3), (1, i_psh (.int 1)), (2, i_psh (.int 8)), (4, i_cls 99 3), (7, i_ifne 12), (10, i_psh (.int (-1))), (11, i_ret 1)]
def bX9_say_12 : List (Nat × XI) := [(12, i_ald 0), (13, i_gei 38 [10]), (16, i_ild 3), (17, i_add), (18, i_psh (.int 1000)), (21, i_icle 27), (24, i_psh (.int (-2))), (26, i_ret 1)]
def bX9_say_27 : List (Nat × XI) := [(27, i_ild 3), (28, i_psh (.int 1)), (29, i_sub), (30, i_ist 4), (32, i_fal 32)]
def bX9_say_32 : List (Nat × XI) := [(32, i_ild 4), (34, i_iflt 71), (37, i_ald 0), (38, i_ger 1058 [10]), (41, i_ald 0), (42, i_gei 38 [10]), (45, i_lld 1), (46, i_psh (.int 8)), (48, i_ild 4), (50, i_mul), (51, i_lshr), (52, i_l2i), (53, i_i2b), (54, i_bas), (55, i_ald 0), (56, i_dup), (57, i_gei 38 [10]), (60, i_psh (.int 1)), (61, i_add), (62, i_pui 38 [10]), (65, i_inc 4 (-1)), (68, i_got 32)]
def bX9_say_71 : List (Nat × XI) := [(71, i_ald 0), (72, i_gei 38 [10]), (75, i_ret 1)]
def rX9_say : XM := (⟨"WaysAtlasModel", "say", "(JI)I"⟩, prog_36_method_4_code, 5, (some .int), [], [(0, bX9_say_0), (12, bX9_say_12), (27, bX9_say_27), (32, bX9_say_32), (71, bX9_say_71)], fun _ _ => none)
def bX9_in_0 : List (Nat × XI) := [(0, i_ild 0), (1, i_ild 1), (2, i_iclt 14), (5, i_ild 0), (6, i_ild 2), (7, i_icgt 14), (10, i_psh (.int 1)), (11, i_got 15)]
def bX9_in_14 : List (Nat × XI) := [(14, i_psh (.int 0)), (15, i_fal 15)]
def bX9_in_15 : List (Nat × XI) := [(15, i_ret 4)]
def rX9_in : XM := (⟨"WaysAtlasModel", "in", "(III)Z"⟩, prog_36_method_3_code, 3, (some .boolean), [], [(0, bX9_in_0), (14, bX9_in_14), (15, bX9_in_15)], fun _ _ => none)
def bX9_compile_0 : List (Nat × XI) := [(0, i_ald 0), (1, i_psh (.int 1)), (2, i_ald 0), (3, i_gei 44 [10]), (6, i_sub), (7, i_pui 45 [10]), (10, i_ald 0), (11, i_clv 0 [(10, 101)]), (14, i_ald 0), (15, i_clv 0 [(10, 147)]), (18, i_ald 0), (19, i_psh (.int 0)), (20, i_pui 38 [10]), (23, i_ald 0), (24, i_ald 0), (25, i_gei 49 [10]), (28, i_pui 51 [10]), (31, i_ald 0), (32, i_gei 49 [10]), (35, i_ifeq 46), (38, i_psh (.int (-100))), (40, i_ald 0), (41, i_gei 50 [10]), (44, i_sub), (45, i_ret 1)]
def bX9_compile_46 : List (Nat × XI) := [(46, i_ald 0), (47, i_ald 0), (48, i_gei 45 [10]), (51, i_pui 44 [10]), (54, i_ald 0), (55, i_psh (.int 1)), (56, i_puz 46 [10]), (59, i_ald 0), (60, i_psh (.int 0)), (61, i_pui 57 [10]), (64, i_ald 0), (65, i_ger 1085 [10]), (68, i_psh (.int 0)), (69, i_psh (.int 0)), (70, i_zas), (71, i_ald 0), (72, i_ger 1085 [10]), (75, i_psh (.int 1)), (76, i_psh (.int 0)), (77, i_zas), (78, i_ald 0), (79, i_ger 1060 [10]), (82, i_ald 0), (83, i_gei 44 [10]), (86, i_lda 0), (87, i_ret 1)]
def rX9_compile : XM := (⟨"WaysAtlasModel", "compile", "(Z)I"⟩, prog_36_method_53_code, 2, (some .int), [], [(0, bX9_compile_0), (46, bX9_compile_46)], fun _ _ => none)
def bX9_reads_0 : List (Nat × XI) := [(0, i_ald 0), (1, i_psh (.int 0)), (2, i_pui 39 [10]), (5, i_ald 0), (6, i_psh (.int 0)), (7, i_pui 49 [10]), (10, i_ald 0), (11, i_psh (.int 0)), (12, i_pui 52 [10]), (15, i_ald 0), (16, i_psh (.int 0)), (17, i_pui 47 [10]), (20, i_ald 0), (21, i_psh (.int 0)), (22, i_pui 48 [10]), (25, i_ald 0), (26, i_psh (.int 0)), (27, i_pui 56 [10]), (30, i_ald 0), (31, i_ger 1060 [10]), (34, i_ald 0), (35, i_gei 45 [10]), (38, i_psh (.int 0)), (39, i_ias), (40, i_ald 0), (41, i_ger 1067 [10]), (44, i_ald 0), (45, i_gei 45 [10]), (48, i_psh (.int 0)), (49, i_ias), (50, i_ald 0), (51, i_ger 1069 [10]), (54, i_ald 0), (55, i_gei 45 [10]), (58, i_psh (.int 0)), (59, i_ias), (60, i_ald 0), (61, i_ger 1071 [10]), (64, i_ald 0), (65, i_gei 45 [10]), (68, i_psh (.int 7)), (70, i_ias), (71, i_psh (.int 0)), (72, i_ist 1), (73, i_fal 73)]
def bX9_reads_73 : List (Nat × XI) := [(73, i_ild 1), (74, i_psh (.int 7)), (76, i_icge 117), (79, i_ald 0), (80, i_ger 1070 [10]), (83, i_psh (.int 16)), (85, i_ald 0), (86, i_gei 45 [10]), (89, i_mul), (90, i_ild 1), (91, i_add), (92, i_ild 1), (93, i_ifne 100), (96, i_psh (.int (-1))), (97, i_got 110)]
def bX9_reads_100 : List (Nat × XI) := [(100, i_ild 1), (101, i_psh (.int 1)), (102, i_icne 109), (105, i_psh (.int 0)), (106, i_got 110)]
def bX9_reads_109 : List (Nat × XI) := [(109, i_psh (.int 1)), (110, i_fal 110)]
def bX9_reads_110 : List (Nat × XI) := [(110, i_ias), (111, i_inc 1 1), (114, i_got 73)]
def bX9_reads_117 : List (Nat × XI) := [(117, i_ald 0), (118, i_clv 0 [(10, 102)]), (121, i_fal 121)]
def bX9_reads_121 : List (Nat × XI) := [(121, i_ald 0), (122, i_gei 49 [10]), (125, i_ifne 191), (128, i_ald 0), (129, i_gei 40 [10]), (132, i_ifne 154), (135, i_ald 0), (136, i_gei 56 [10]), (139, i_ifgt 154), (142, i_ald 0), (143, i_ger 1069 [10]), (146, i_ald 0), (147, i_gei 45 [10]), (150, i_lda 0), (151, i_ifne 191), (154, i_fal 154)]
def bX9_reads_154 : List (Nat × XI) := [(154, i_ald 0), (155, i_gei 56 [10]), (158, i_ifne 168), (161, i_ald 0), (162, i_clv 0 [(10, 109)]), (165, i_got 121)]
def bX9_reads_168 : List (Nat × XI) := [(168, i_ald 0), (169, i_psh (.int 125)), (171, i_clv 1 [(10, 117)]), (174, i_ifeq 184), (177, i_ald 0), (178, i_clv 0 [(10, 119)]), (181, i_got 121)]
def bX9_reads_184 : List (Nat × XI) := [(184, i_ald 0), (185, i_clv 0 [(10, 122)]), (188, i_got 121)]
def bX9_reads_191 : List (Nat × XI) := [(191, i_ret 0)]
def rX9_reads : XM := (⟨"WaysAtlasModel", "reads", "()V"⟩, prog_36_method_51_code, 2, none, [], [(0, bX9_reads_0), (73, bX9_reads_73), (100, bX9_reads_100), (109, bX9_reads_109), (110, bX9_reads_110), (117, bX9_reads_117), (121, bX9_reads_121), (154, bX9_reads_154), (168, bX9_reads_168), (184, bX9_reads_184), (191, bX9_reads_191)], fun _ _ => none)
def bX9_advance_0 : List (Nat × XI) := [(0, i_ald 0), (1, i_gei 39 [10]), (4, i_ald 0), (5, i_gei 38 [10]), (8, i_icge 52), (11, i_ald 0), (12, i_ger 1058 [10]), (15, i_ald 0), (16, i_gei 39 [10]), (19, i_lda 1), (20, i_psh (.int 32)), (22, i_iceq 39), (25, i_ald 0), (26, i_ger 1058 [10]), (29, i_ald 0), (30, i_gei 39 [10]), (33, i_lda 1), (34, i_psh (.int 10)), (36, i_icne 52), (39, i_fal 39)]
def bX9_advance_39 : List (Nat × XI) := [(39, i_ald 0), (40, i_dup), (41, i_gei 39 [10]), (44, i_psh (.int 1)), (45, i_add), (46, i_pui 39 [10]), (49, i_got 0)]
def bX9_advance_52 : List (Nat × XI) := [(52, i_ald 0), (53, i_ald 0), (54, i_gei 39 [10]), (57, i_pui 41 [10]), (60, i_ald 0), (61, i_gei 39 [10]), (64, i_ald 0), (65, i_gei 38 [10]), (68, i_iclt 79), (71, i_ald 0), (72, i_psh (.int 0)), (73, i_pui 40 [10]), (76, i_got 173)]
def bX9_advance_79 : List (Nat × XI) := [(79, i_ald 0), (80, i_ald 0), (81, i_gei 39 [10]), (84, i_clv 1 [(10, 103)]), (87, i_ifeq 97), (90, i_ald 0), (91, i_clv 0 [(10, 105)]), (94, i_got 173)]
def bX9_advance_97 : List (Nat × XI) := [(97, i_ald 0), (98, i_ald 0), (99, i_gei 39 [10]), (102, i_clv 1 [(10, 106)]), (105, i_ifeq 128), (108, i_ald 0), (109, i_ald 0), (110, i_clv 0 [(10, 107)]), (113, i_psh (.int 5)), (114, i_icge 121), (117, i_psh (.int 4)), (118, i_got 122)]
def bX9_advance_121 : List (Nat × XI) := [(121, i_psh (.int 1)), (122, i_fal 122)]
def bX9_advance_122 : List (Nat × XI) := [(122, i_pui 40 [10]), (125, i_got 173)]
def bX9_advance_128 : List (Nat × XI) := [(128, i_ald 0), (129, i_ald 0), (130, i_ald 0), (131, i_gei 39 [10]), (134, i_clv 1 [(10, 104)]), (137, i_cls 108 1), (140, i_ifeq 147), (143, i_psh (.int 5)), (144, i_got 148)]
def bX9_advance_147 : List (Nat × XI) := [(147, i_psh (.int 1)), (148, i_fal 148)]
def bX9_advance_148 : List (Nat × XI) := [(148, i_pui 40 [10]), (151, i_ald 0), (152, i_ald 0), (153, i_ald 0), (154, i_gei 39 [10]), (157, i_clv 1 [(10, 104)]), (160, i_pui 42 [10]), (163, i_ald 0), (164, i_dup), (165, i_gei 39 [10]), (168, i_psh (.int 1)), (169, i_add), (170, i_pui 39 [10]), (173, i_fal 173)]
def bX9_advance_173 : List (Nat × XI) := [(173, i_ret 0)]
def rX9_advance : XM := (⟨"WaysAtlasModel", "advance", "()V"⟩, prog_36_method_11_code, 1, none, [], [(0, bX9_advance_0), (39, bX9_advance_39), (52, bX9_advance_52), (79, bX9_advance_79), (97, bX9_advance_97), (121, bX9_advance_121), (122, bX9_advance_122), (128, bX9_advance_128), (147, bX9_advance_147), (148, bX9_advance_148), (173, bX9_advance_173)], fun _ _ => none)
def bX9_isLetter_0 : List (Nat × XI) := [(0, i_ald 0), (1, i_ild 1), (2, i_clv 1 [(10, 104)]), (5, i_psh (.int 97)), (7, i_psh (.int 122)), (9, i_cls 99 3), (12, i_ret 4)]
def rX9_isLetter : XM := (⟨"WaysAtlasModel", "isLetter", "(I)Z"⟩, prog_36_method_6_code, 2, (some .boolean), [], [(0, bX9_isLetter_0)], fun _ _ => none)
def bX9_byteAt_0 : List (Nat × XI) := [(0, i_ild 1), (1, i_ald 0), (2, i_gei 38 [10]), (5, i_icge 21), (8, i_ald 0), (9, i_ger 1058 [10]), (12, i_ild 1), (13, i_lda 1), (14, i_psh (.int 255)), (17, i_and), (18, i_got 22)]
def bX9_byteAt_21 : List (Nat × XI) := [(21, i_psh (.int 0)), (22, i_fal 22)]
def bX9_byteAt_22 : List (Nat × XI) := [(22, i_ret 1)]
def rX9_byteAt : XM := (⟨"WaysAtlasModel", "byteAt", "(I)I"⟩, prog_36_method_5_code, 2, (some .int), [], [(0, bX9_byteAt_0), (21, bX9_byteAt_21), (22, bX9_byteAt_22)], fun _ _ => none)
def bX9_wordOrName_0 : List (Nat × XI) := [(0, i_ald 0), (1, i_ald 0), (2, i_gei 39 [10]), (5, i_clv 1 [(10, 104)]), (8, i_ist 1), (9, i_psh (.long 0)), (10, i_lst 2), (11, i_psh (.int 0)), (12, i_ist 4), (14, i_fal 14)]
def bX9_wordOrName_14 : List (Nat × XI) := [(14, i_ald 0), (15, i_ald 0), (16, i_gei 39 [10]), (19, i_clv 1 [(10, 103)]), (22, i_ifeq 74), (25, i_ild 4), (27, i_psh (.int 12)), (29, i_icge 54), (32, i_lld 2), (33, i_psh (.long 32)), (36, i_lmul), (37, i_ald 0), (38, i_ald 0), (39, i_gei 39 [10]), (42, i_clv 1 [(10, 104)]), (45, i_i2l), (46, i_ladd), (47, i_psh (.long 96)), (50, i_lsub), (51, i_got 57)]
def bX9_wordOrName_54 : List (Nat × XI) := [(54, i_psh (.long (-1))), (57, i_fal 57)]
def bX9_wordOrName_57 : List (Nat × XI) := [(57, i_lst 2), (58, i_inc 4 1), (61, i_ald 0), (62, i_dup), (63, i_gei 39 [10]), (66, i_psh (.int 1)), (67, i_add), (68, i_pui 39 [10]), (71, i_got 14)]
def bX9_wordOrName_74 : List (Nat × XI) := [(74, i_ald 0), (75, i_ald 0), (76, i_gei 39 [10]), (79, i_clv 1 [(10, 106)]), (82, i_ifne 137), (85, i_ald 0), (86, i_psh (.int 2)), (87, i_pui 40 [10]), (90, i_ald 0), (91, i_psh (.int (-1))), (92, i_pui 42 [10]), (95, i_psh (.int 0)), (96, i_ist 5), (98, i_fal 98)]
def bX9_wordOrName_98 : List (Nat × XI) := [(98, i_ild 5), (100, i_psh (.int 21)), (102, i_icge 136), (105, i_ald 0), (106, i_ald 0), (107, i_ger 1057 [10]), (110, i_ild 5), (112, i_lda 3), (113, i_lld 2), (114, i_lcm), (115, i_ifne 123), (118, i_ild 5), (120, i_got 127)]
def bX9_wordOrName_123 : List (Nat × XI) := [(123, i_ald 0), (124, i_gei 42 [10]), (127, i_fal 127)]
def bX9_wordOrName_127 : List (Nat × XI) := [(127, i_pui 42 [10]), (130, i_inc 5 1), (133, i_got 98)]
def bX9_wordOrName_136 : List (Nat × XI) := [(136, i_ret 0)]
def bX9_wordOrName_137 : List (Nat × XI) := [(137, i_ild 4), (139, i_psh (.int 1)), (140, i_icne 171), (143, i_ild 1), (144, i_psh (.int 107)), (146, i_iceq 167), (149, i_ild 1), (150, i_psh (.int 109)), (152, i_iceq 167), (155, i_ild 1), (156, i_psh (.int 118)), (158, i_iceq 167), (161, i_ild 1), (162, i_psh (.int 114)), (164, i_icne 171), (167, i_fal 167)]
def bX9_wordOrName_167 : List (Nat × XI) := [(167, i_psh (.int 1)), (168, i_got 172)]
def bX9_wordOrName_171 : List (Nat × XI) := [(171, i_psh (.int 0)), (172, i_fal 172)]
def bX9_wordOrName_172 : List (Nat × XI) := [(172, i_ist 5), (174, i_ald 0), (175, i_clv 0 [(10, 107)]), (178, i_ist 6), (180, i_ald 0), (181, i_ild 5), (183, i_ifeq 196), (186, i_ild 6), (188, i_psh (.int 3)), (189, i_icge 196), (192, i_psh (.int 3)), (193, i_got 197)]
def bX9_wordOrName_196 : List (Nat × XI) := [(196, i_psh (.int 1)), (197, i_fal 197)]
def bX9_wordOrName_197 : List (Nat × XI) := [(197, i_pui 40 [10]), (200, i_ald 0), (201, i_ild 1), (202, i_pui 42 [10]), (205, i_ret 0)]
def rX9_wordOrName : XM := (⟨"WaysAtlasModel", "wordOrName", "()V"⟩, prog_36_method_9_code, 7, none, [], [(0, bX9_wordOrName_0), (14, bX9_wordOrName_14), (54, bX9_wordOrName_54), (57, bX9_wordOrName_57), (74, bX9_wordOrName_74), (98, bX9_wordOrName_98), (123, bX9_wordOrName_123), (127, bX9_wordOrName_127), (136, bX9_wordOrName_136), (137, bX9_wordOrName_137), (167, bX9_wordOrName_167), (171, bX9_wordOrName_171), (172, bX9_wordOrName_172), (196, bX9_wordOrName_196), (197, bX9_wordOrName_197)], fun _ _ => none)
def bX9_isDigit_0 : List (Nat × XI) := [(0, i_ald 0), (1, i_ild 1), (2, i_clv 1 [(10, 104)]), (5, i_psh (.int 48)), (7, i_psh (.int 57)), (9, i_cls 99 3), (12, i_ret 4)]
def rX9_isDigit : XM := (⟨"WaysAtlasModel", "isDigit", "(I)Z"⟩, prog_36_method_7_code, 2, (some .boolean), [], [(0, bX9_isDigit_0)], fun _ _ => none)
def bX9_digits_0 : List (Nat × XI) := [(0, i_psh (.int 0)), (1, i_ist 1), (2, i_ald 0), (3, i_psh (.int 0)), (4, i_pui 43 [10]), (7, i_fal 7)]
def bX9_digits_7 : List (Nat × XI) := [(7, i_ald 0), (8, i_ald 0), (9, i_gei 39 [10]), (12, i_clv 1 [(10, 106)]), (15, i_ifeq 69), (18, i_ald 0), (19, i_ild 1), (20, i_psh (.int 4)), (21, i_icge 46), (24, i_psh (.int 10)), (26, i_ald 0), (27, i_gei 43 [10]), (30, i_mul), (31, i_ald 0), (32, i_ald 0), (33, i_gei 39 [10]), (36, i_clv 1 [(10, 104)]), (39, i_add), (40, i_psh (.int 48)), (42, i_sub), (43, i_got 50)]
def bX9_digits_46 : List (Nat × XI) := [(46, i_ald 0), (47, i_gei 43 [10]), (50, i_fal 50)]
def bX9_digits_50 : List (Nat × XI) := [(50, i_pui 43 [10]), (53, i_inc 1 1), (56, i_ald 0), (57, i_dup), (58, i_gei 39 [10]), (61, i_psh (.int 1)), (62, i_add), (63, i_pui 39 [10]), (66, i_got 7)]
def bX9_digits_69 : List (Nat × XI) := [(69, i_ild 1), (70, i_ret 1)]
def rX9_digits : XM := (⟨"WaysAtlasModel", "digits", "()I"⟩, prog_36_method_8_code, 2, (some .int), [], [(0, bX9_digits_0), (7, bX9_digits_7), (46, bX9_digits_46), (50, bX9_digits_50), (69, bX9_digits_69)], fun _ _ => none)
def bX9_isSignByte_0 : List (Nat × XI) := [(0, i_ild 0), (1, i_psh (.int 43)), (3, i_iceq 96), (6, i_ild 0), (7, i_psh (.int 45)), (9, i_iceq 96), (12, i_ild 0), (13, i_psh (.int 42)), (15, i_iceq 96), (18, i_ild 0), (19, i_psh (.int 47)), (21, i_iceq 96), (24, i_ild 0), (25, i_psh (.int 37)), (27, i_iceq 96), (30, i_ild 0), (31, i_psh (.int 40)), (33, i_iceq 96), (36, i_ild 0), (37, i_psh (.int 41)), (39, i_iceq 96), (42, i_ild 0), (43, i_psh (.int 91)), (45, i_iceq 96), (48, i_ild 0), (49, i_psh (.int 93)), (51, i_iceq 96), (54, i_ild 0), (55, i_psh (.int 123)), (57, i_iceq 96), (60, i_ild 0), (61, i_psh (.int 125)), (63, i_iceq 96), (66, i_ild 0), (67, i_psh (.int 61)), (69, i_iceq 96), (72, i_ild 0), (73, i_psh (.int 60)), (75, i_iceq 96), (78, i_ild 0), (79, i_psh (.int 62)), (81, i_iceq 96), (84, i_ild 0), (85, i_psh (.int 44)), (87, i_iceq 96), (90, i_ild 0), (91, i_psh (.int 59)), (93, i_icne 100), (96, i_fal 96)]
def bX9_isSignByte_96 : List (Nat × XI) := [(96, i_psh (.int 1)), (97, i_got 101)]
def bX9_isSignByte_100 : List (Nat × XI) := [(100, i_psh (.int 0)), (101, i_fal 101)]
def bX9_isSignByte_101 : List (Nat × XI) := [(101, i_ret 4)]
def rX9_isSignByte : XM := (⟨"WaysAtlasModel", "isSignByte", "(I)Z"⟩, prog_36_method_10_code, 1, (some .boolean), [], [(0, bX9_isSignByte_0), (96, bX9_isSignByte_96), (100, bX9_isSignByte_100), (101, bX9_isSignByte_101)], fun _ _ => none)
def bX9_outside_0 : List (Nat × XI) := [(0, i_ald 0), (1, i_psh (.int 18)), (3, i_clv 1 [(10, 110)]), (6, i_ifeq 159), (9, i_ald 0), (10, i_ger 1069 [10]), (13, i_ald 0), (14, i_gei 45 [10]), (17, i_lda 0), (18, i_ifne 159), (21, i_ald 0), (22, i_ger 1071 [10]), (25, i_ald 0), (26, i_gei 45 [10]), (29, i_lda 0), (30, i_psh (.int 16)), (32, i_icne 45), (35, i_ald 0), (36, i_psh (.int 2)), (37, i_ald 0), (38, i_gei 41 [10]), (41, i_clv 2 [(10, 111)]), (44, i_ret 0)]
def bX9_outside_45 : List (Nat × XI) := [(45, i_ald 0), (46, i_clv 0 [(10, 102)]), (49, i_ald 0), (50, i_psh (.int 19)), (52, i_clv 1 [(10, 110)]), (55, i_ifne 63), (58, i_ald 0), (59, i_clv 0 [(10, 112)]), (62, i_ret 0)]
def bX9_outside_63 : List (Nat × XI) := [(63, i_ald 0), (64, i_clv 0 [(10, 102)]), (67, i_ald 0), (68, i_gei 41 [10]), (71, i_ist 1), (72, i_ald 0), (73, i_gei 52 [10]), (76, i_ist 2), (77, i_ald 0), (78, i_psh (.int 2)), (79, i_clv 1 [(10, 113)]), (82, i_ist 3), (83, i_ald 0), (84, i_gei 49 [10]), (87, i_ifne 114), (90, i_ald 0), (91, i_ger 1072 [10]), (94, i_ild 2), (95, i_ild 3), (96, i_ald 0), (97, i_ger 1071 [10]), (100, i_ald 0), (101, i_gei 45 [10]), (104, i_lda 0), (105, i_icge 112), (108, i_psh (.int 0)), (109, i_got 113)]
def bX9_outside_112 : List (Nat × XI) := [(112, i_psh (.int 4)), (113, i_fal 113)]
def bX9_outside_113 : List (Nat × XI) := [(113, i_ias), (114, i_fal 114)]
def bX9_outside_114 : List (Nat × XI) := [(114, i_ald 0), (115, i_ger 1070 [10]), (118, i_psh (.int 16)), (120, i_ald 0), (121, i_gei 45 [10]), (124, i_mul), (125, i_ald 0), (126, i_ger 1071 [10]), (129, i_ald 0), (130, i_gei 45 [10]), (133, i_lda 0), (134, i_add), (135, i_ild 3), (136, i_ias), (137, i_ald 0), (138, i_ger 1071 [10]), (141, i_ald 0), (142, i_gei 45 [10]), (145, i_du2), (146, i_lda 0), (147, i_psh (.int 1)), (148, i_add), (149, i_ias), (150, i_ald 0), (151, i_psh (.int 59)), (153, i_clv 1 [(10, 116)]), (156, i_got 246)]
def bX9_outside_159 : List (Nat × XI) := [(159, i_ald 0), (160, i_psh (.int 20)), (162, i_clv 1 [(10, 110)]), (165, i_ifeq 242), (168, i_ald 0), (169, i_ger 1069 [10]), (172, i_ald 0), (173, i_gei 45 [10]), (176, i_lda 0), (177, i_psh (.int 8)), (179, i_icne 192), (182, i_ald 0), (183, i_psh (.int 2)), (184, i_ald 0), (185, i_gei 41 [10]), (188, i_clv 2 [(10, 111)]), (191, i_ret 0)]
def bX9_outside_192 : List (Nat × XI) := [(192, i_ald 0), (193, i_clv 0 [(10, 102)]), (196, i_ald 0), (197, i_ger 1069 [10]), (200, i_ald 0), (201, i_gei 45 [10]), (204, i_du2), (205, i_lda 0), (206, i_psh (.int 1)), (207, i_add), (208, i_ias), (209, i_ald 0), (210, i_ger 1068 [10]), (213, i_psh (.int 8)), (215, i_ald 0), (216, i_gei 45 [10]), (219, i_mul), (220, i_ald 0), (221, i_ger 1069 [10]), (224, i_ald 0), (225, i_gei 45 [10]), (228, i_lda 0), (229, i_add), (230, i_psh (.int 1)), (231, i_sub), (232, i_ald 0), (233, i_psh (.int 0)), (234, i_psh (.int (-1))), (235, i_clv 2 [(10, 118)]), (238, i_ias), (239, i_got 246)]
def bX9_outside_242 : List (Nat × XI) := [(242, i_ald 0), (243, i_clv 0 [(10, 112)]), (246, i_fal 246)]
def bX9_outside_246 : List (Nat × XI) := [(246, i_ret 0)]
def rX9_outside : XM := (⟨"WaysAtlasModel", "outside", "()V"⟩, prog_36_method_50_code, 4, none, [], [(0, bX9_outside_0), (45, bX9_outside_45), (63, bX9_outside_63), (112, bX9_outside_112), (113, bX9_outside_113), (114, bX9_outside_114), (159, bX9_outside_159), (192, bX9_outside_192), (242, bX9_outside_242), (246, bX9_outside_246)], fun _ _ => none)
def bX9_isWord_0 : List (Nat × XI) := [(0, i_ald 0), (1, i_gei 40 [10]), (4, i_psh (.int 2)), (5, i_icne 20), (8, i_ald 0), (9, i_gei 42 [10]), (12, i_ild 1), (13, i_icne 20), (16, i_psh (.int 1)), (17, i_got 21)]
def bX9_isWord_20 : List (Nat × XI) := [(20, i_psh (.int 0)), (21, i_fal 21)]
def bX9_isWord_21 : List (Nat × XI) := [(21, i_ret 4)]
def rX9_isWord : XM := (⟨"WaysAtlasModel", "isWord", "(I)Z"⟩, prog_36_method_12_code, 2, (some .boolean), [], [(0, bX9_isWord_0), (20, bX9_isWord_20), (21, bX9_isWord_21)], fun _ _ => none)
def bX9_fails_0 : List (Nat × XI) := [(0, i_ald 0), (1, i_gei 49 [10]), (4, i_ifne 17), (7, i_ald 0), (8, i_ild 1), (9, i_pui 49 [10]), (12, i_ald 0), (13, i_ild 2), (14, i_pui 50 [10]), (17, i_fal 17)]
def bX9_fails_17 : List (Nat × XI) := [(17, i_ret 0)]
def rX9_fails : XM := (⟨"WaysAtlasModel", "fails", "(II)V"⟩, prog_36_method_17_code, 3, none, [], [(0, bX9_fails_0), (17, bX9_fails_17)], fun _ _ => none)
def bX9_cannot_0 : List (Nat × XI) := [(0, i_ald 0), (1, i_psh (.int 1)), (2, i_ald 0), (3, i_gei 41 [10]), (6, i_clv 2 [(10, 111)]), (9, i_ret 0)]
def rX9_cannot : XM := (⟨"WaysAtlasModel", "cannot", "()V"⟩, prog_36_method_18_code, 1, none, [], [(0, bX9_cannot_0)], fun _ _ => none)
def bX9_takeKind_0 : List (Nat × XI) := [(0, i_ald 0), (1, i_gei 49 [10]), (4, i_ifne 20), (7, i_ald 0), (8, i_psh (.int 107)), (10, i_clv 1 [(10, 114)]), (13, i_ifne 20), (16, i_ald 0), (17, i_clv 0 [(10, 112)]), (20, i_fal 20)]
def bX9_takeKind_20 : List (Nat × XI) := [(20, i_ald 0), (21, i_gei 43 [10]), (24, i_ist 2), (25, i_ald 0), (26, i_gei 49 [10]), (29, i_ifne 46), (32, i_ald 0), (33, i_ild 1), (34, i_ald 0), (35, i_gei 41 [10]), (38, i_ild 2), (39, i_clv 3 [(10, 115)]), (42, i_ald 0), (43, i_clv 0 [(10, 102)]), (46, i_fal 46)]
def bX9_takeKind_46 : List (Nat × XI) := [(46, i_ild 2), (47, i_ret 1)]
def rX9_takeKind : XM := (⟨"WaysAtlasModel", "takeKind", "(I)I"⟩, prog_36_method_22_code, 3, (some .int), [], [(0, bX9_takeKind_0), (20, bX9_takeKind_20), (46, bX9_takeKind_46)], fun _ _ => none)
def bX9_isName_0 : List (Nat × XI) := [(0, i_ald 0), (1, i_gei 40 [10]), (4, i_psh (.int 3)), (5, i_icne 20), (8, i_ald 0), (9, i_gei 42 [10]), (12, i_ild 1), (13, i_icne 20), (16, i_psh (.int 1)), (17, i_got 21)]
def bX9_isName_20 : List (Nat × XI) := [(20, i_psh (.int 0)), (21, i_fal 21)]
def bX9_isName_21 : List (Nat × XI) := [(21, i_ret 4)]
def rX9_isName : XM := (⟨"WaysAtlasModel", "isName", "(I)Z"⟩, prog_36_method_14_code, 2, (some .boolean), [], [(0, bX9_isName_0), (20, bX9_isName_20), (21, bX9_isName_21)], fun _ _ => none)
def bX9_check_0 : List (Nat × XI) := [(0, i_ald 0), (1, i_ger 1072 [10]), (4, i_ald 0), (5, i_gei 52 [10]), (8, i_ild 1), (9, i_ias), (10, i_ald 0), (11, i_ger 1073 [10]), (14, i_ald 0), (15, i_gei 52 [10]), (18, i_ild 2), (19, i_ias), (20, i_ald 0), (21, i_ger 1074 [10]), (24, i_ald 0), (25, i_gei 52 [10]), (28, i_ild 3), (29, i_ias), (30, i_ald 0), (31, i_dup), (32, i_gei 52 [10]), (35, i_psh (.int 1)), (36, i_add), (37, i_pui 52 [10]), (40, i_ret 0)]
def rX9_check : XM := (⟨"WaysAtlasModel", "check", "(III)V"⟩, prog_36_method_19_code, 4, none, [], [(0, bX9_check_0)], fun _ _ => none)
def bX9_takeSign_0 : List (Nat × XI) := [(0, i_ald 0), (1, i_gei 49 [10]), (4, i_ifne 19), (7, i_ald 0), (8, i_ild 1), (9, i_clv 1 [(10, 117)]), (12, i_ifne 19), (15, i_ald 0), (16, i_clv 0 [(10, 112)]), (19, i_fal 19)]
def bX9_takeSign_19 : List (Nat × XI) := [(19, i_ald 0), (20, i_gei 49 [10]), (23, i_ifne 30), (26, i_ald 0), (27, i_clv 0 [(10, 102)]), (30, i_fal 30)]
def bX9_takeSign_30 : List (Nat × XI) := [(30, i_ret 0)]
def rX9_takeSign : XM := (⟨"WaysAtlasModel", "takeSign", "(I)V"⟩, prog_36_method_20_code, 2, none, [], [(0, bX9_takeSign_0), (19, bX9_takeSign_19), (30, bX9_takeSign_30)], fun _ _ => none)
def bX9_isSign_0 : List (Nat × XI) := [(0, i_ald 0), (1, i_gei 40 [10]), (4, i_psh (.int 5)), (5, i_icne 20), (8, i_ald 0), (9, i_gei 42 [10]), (12, i_ild 1), (13, i_icne 20), (16, i_psh (.int 1)), (17, i_got 21)]
def bX9_isSign_20 : List (Nat × XI) := [(20, i_psh (.int 0)), (21, i_fal 21)]
def bX9_isSign_21 : List (Nat × XI) := [(21, i_ret 4)]
def rX9_isSign : XM := (⟨"WaysAtlasModel", "isSign", "(I)Z"⟩, prog_36_method_13_code, 2, (some .boolean), [], [(0, bX9_isSign_0), (20, bX9_isSign_20), (21, bX9_isSign_21)], fun _ _ => none)
def bX9_opens_0 : List (Nat × XI) := [(0, i_ald 0), (1, i_gei 49 [10]), (4, i_ifne 20), (7, i_ald 0), (8, i_psh (.int 123)), (10, i_clv 1 [(10, 117)]), (13, i_ifne 20), (16, i_ald 0), (17, i_clv 0 [(10, 112)]), (20, i_fal 20)]
def bX9_opens_20 : List (Nat × XI) := [(20, i_ald 0), (21, i_gei 49 [10]), (24, i_ifne 49), (27, i_ild 1), (28, i_ifeq 49), (31, i_ald 0), (32, i_gei 56 [10]), (35, i_psh (.int 7)), (37, i_icne 49), (40, i_ald 0), (41, i_psh (.int 2)), (42, i_ald 0), (43, i_gei 41 [10]), (46, i_clv 2 [(10, 111)]), (49, i_fal 49)]
def bX9_opens_49 : List (Nat × XI) := [(49, i_ald 0), (50, i_gei 49 [10]), (53, i_ifeq 58), (56, i_psh (.int (-1))), (57, i_ret 1)]
def bX9_opens_58 : List (Nat × XI) := [(58, i_ald 0), (59, i_clv 0 [(10, 102)]), (62, i_ald 0), (63, i_ger 1077 [10]), (66, i_ald 0), (67, i_gei 56 [10]), (70, i_ild 1), (71, i_ias), (72, i_ald 0), (73, i_ger 1078 [10]), (76, i_ald 0), (77, i_gei 56 [10]), (80, i_ild 2), (81, i_ias), (82, i_ald 0), (83, i_ger 1079 [10]), (86, i_ald 0), (87, i_gei 56 [10]), (90, i_ald 0), (91, i_gei 48 [10]), (94, i_ias), (95, i_ald 0), (96, i_ger 1080 [10]), (99, i_ald 0), (100, i_gei 56 [10]), (103, i_psh (.int (-1))), (104, i_ias), (105, i_ald 0), (106, i_dup), (107, i_gei 56 [10]), (110, i_psh (.int 1)), (111, i_add), (112, i_pui 56 [10]), (115, i_ald 0), (116, i_ger 1063 [10]), (119, i_psh (.int 400)), (122, i_ald 0), (123, i_gei 45 [10]), (126, i_mul), (127, i_ald 0), (128, i_gei 48 [10]), (131, i_add), (132, i_psh (.int (-1))), (133, i_ias), (134, i_ald 0), (135, i_dup), (136, i_gei 48 [10]), (139, i_psh (.int 1)), (140, i_add), (141, i_pui 48 [10]), (144, i_ald 0), (145, i_gei 48 [10]), (148, i_psh (.int 1)), (149, i_sub), (150, i_ret 1)]
def rX9_opens : XM := (⟨"WaysAtlasModel", "opens", "(II)I"⟩, prog_36_method_35_code, 3, (some .int), [], [(0, bX9_opens_0), (20, bX9_opens_20), (49, bX9_opens_49), (58, bX9_opens_58)], fun _ _ => none)
def bX9_closes_0 : List (Nat × XI) := [(0, i_ald 0), (1, i_clv 0 [(10, 102)]), (4, i_ald 0), (5, i_dup), (6, i_gei 56 [10]), (9, i_psh (.int 1)), (10, i_sub), (11, i_pui 56 [10]), (14, i_ald 0), (15, i_ger 1077 [10]), (18, i_ald 0), (19, i_gei 56 [10]), (22, i_lda 0), (23, i_ist 1), (24, i_ald 0), (25, i_ger 1078 [10]), (28, i_ald 0), (29, i_gei 56 [10]), (32, i_lda 0), (33, i_ist 2), (34, i_ild 1), (35, i_psh (.int 1)), (36, i_icne 68), (39, i_ald 0), (40, i_psh (.int 6)), (42, i_clv 1 [(10, 110)]), (45, i_ifeq 68), (48, i_ald 0), (49, i_clv 0 [(10, 102)]), (52, i_ald 0), (53, i_ild 2), (54, i_psh (.int 8)), (56, i_ald 0), (57, i_psh (.int 2)), (58, i_ild 2), (59, i_clv 2 [(10, 118)]), (62, i_clv 3 [(10, 120)]), (65, i_got 134)]
def bX9_closes_68 : List (Nat × XI) := [(68, i_ild 1), (69, i_psh (.int 4)), (70, i_psh (.int 6)), (72, i_cls 99 3), (75, i_ifeq 134), (78, i_ald 0), (79, i_psh (.int 15)), (81, i_clv 1 [(10, 110)]), (84, i_ifeq 95), (87, i_ald 0), (88, i_ild 2), (89, i_clv 1 [(10, 121)]), (92, i_got 134)]
def bX9_closes_95 : List (Nat × XI) := [(95, i_ald 0), (96, i_psh (.int 16)), (98, i_clv 1 [(10, 110)]), (101, i_ifeq 125), (104, i_ald 0), (105, i_clv 0 [(10, 102)]), (108, i_ald 0), (109, i_ild 2), (110, i_psh (.int 9)), (112, i_ald 0), (113, i_psh (.int 7)), (115, i_ild 2), (116, i_clv 2 [(10, 118)]), (119, i_clv 3 [(10, 120)]), (122, i_got 134)]
def bX9_closes_125 : List (Nat × XI) := [(125, i_ild 1), (126, i_psh (.int 4)), (127, i_icne 134), (130, i_ald 0), (131, i_clv 0 [(10, 112)]), (134, i_fal 134)]
def bX9_closes_134 : List (Nat × XI) := [(134, i_ret 0)]
def rX9_closes : XM := (⟨"WaysAtlasModel", "closes", "()V"⟩, prog_36_method_49_code, 3, none, [], [(0, bX9_closes_0), (68, bX9_closes_68), (95, bX9_closes_95), (125, bX9_closes_125), (134, bX9_closes_134)], fun _ _ => none)
def bX9_put_0 : List (Nat × XI) := [(0, i_ald 0), (1, i_ger 1059 [10]), (4, i_psh (.int 1280)), (7, i_ald 0), (8, i_gei 45 [10]), (11, i_mul), (12, i_psh (.int 16)), (14, i_ild 1), (15, i_mul), (16, i_add), (17, i_ild 2), (18, i_add), (19, i_ild 3), (20, i_ias), (21, i_ret 0)]
def rX9_put : XM := (⟨"WaysAtlasModel", "put", "(III)V"⟩, prog_36_method_16_code, 4, none, [], [(0, bX9_put_0)], fun _ _ => none)
def bX9_ofCatch_0 : List (Nat × XI) := [(0, i_ald 0), (1, i_clv 0 [(10, 102)]), (4, i_ald 0), (5, i_psh (.int 1)), (6, i_clv 1 [(10, 113)]), (9, i_ist 2), (10, i_psh (.int 160)), (13, i_ald 0), (14, i_gei 45 [10]), (17, i_mul), (18, i_ald 0), (19, i_ger 1067 [10]), (22, i_ald 0), (23, i_gei 45 [10]), (26, i_lda 0), (27, i_add), (28, i_ist 3), (29, i_ald 0), (30, i_ger 1064 [10]), (33, i_ild 3), (34, i_ild 1), (35, i_ias), (36, i_ald 0), (37, i_ger 1065 [10]), (40, i_ild 3), (41, i_ild 2), (42, i_ias), (43, i_ald 0), (44, i_ger 1067 [10]), (47, i_ald 0), (48, i_gei 45 [10]), (51, i_du2), (52, i_lda 0), (53, i_psh (.int 1)), (54, i_add), (55, i_ias), (56, i_ald 0), (57, i_ger 1066 [10]), (60, i_ild 3), (61, i_ald 0), (62, i_psh (.int 6)), (64, i_ild 1), (65, i_clv 2 [(10, 118)]), (68, i_ias), (69, i_ret 0)]
def rX9_ofCatch : XM := (⟨"WaysAtlasModel", "ofCatch", "(I)V"⟩, prog_36_method_48_code, 4, none, [], [(0, bX9_ofCatch_0)], fun _ _ => none)
def bX9_statement_0 : List (Nat × XI) := [(0, i_ald 0), (1, i_clv 0 [(10, 123)]), (4, i_ifne 12), (7, i_ald 0), (8, i_clv 0 [(10, 112)]), (11, i_ret 0)]
def bX9_statement_12 : List (Nat × XI) := [(12, i_ald 0), (13, i_ger 1060 [10]), (16, i_ald 0), (17, i_gei 45 [10]), (20, i_lda 0), (21, i_psh (.int 80)), (23, i_icne 36), (26, i_ald 0), (27, i_psh (.int 2)), (28, i_ald 0), (29, i_gei 41 [10]), (32, i_clv 2 [(10, 111)]), (35, i_ret 0)]
def bX9_statement_36 : List (Nat × XI) := [(36, i_ald 0), (37, i_gei 40 [10]), (40, i_psh (.int 3)), (41, i_icne 65), (44, i_ald 0), (45, i_gei 42 [10]), (48, i_psh (.int 118)), (50, i_icne 60), (53, i_ald 0), (54, i_clv 0 [(10, 124)]), (57, i_got 64)]
def bX9_statement_60 : List (Nat × XI) := [(60, i_ald 0), (61, i_clv 0 [(10, 141)]), (64, i_fal 64)]
def bX9_statement_64 : List (Nat × XI) := [(64, i_ret 0)]
def bX9_statement_65 : List (Nat × XI) := [(65, i_psh (.int (-1))), (66, i_ist 1), (67, i_ald 0), (68, i_gei 42 [10]), (71, i_tsw 0 14 365 [140, 169, 365, 365, 188, 215, 365, 222, 256, 256, 289, 320, 329, 338])]
def bX9_statement_140 : List (Nat × XI) := [(140, i_ald 0), (141, i_psh (.int 0)), (142, i_clv 1 [(10, 125)]), (145, i_ist 1), (146, i_ald 0), (147, i_clv 0 [(10, 102)]), (150, i_ald 0), (151, i_ild 1), (152, i_psh (.int 1)), (153, i_ald 0), (154, i_clv 0 [(10, 133)]), (157, i_clv 3 [(10, 120)]), (160, i_ald 0), (161, i_psh (.int 59)), (163, i_clv 1 [(10, 116)]), (166, i_got 369)]
def bX9_statement_169 : List (Nat × XI) := [(169, i_ald 0), (170, i_psh (.int 7)), (172, i_clv 1 [(10, 125)]), (175, i_ist 1), (176, i_ald 0), (177, i_clv 0 [(10, 102)]), (180, i_ald 0), (181, i_ild 1), (182, i_clv 1 [(10, 126)]), (185, i_got 369)]
def bX9_statement_188 : List (Nat × XI) := [(188, i_ald 0), (189, i_psh (.int 8)), (191, i_clv 1 [(10, 125)]), (194, i_ist 1), (195, i_ald 0), (196, i_clv 0 [(10, 102)]), (199, i_ald 0), (200, i_ild 1), (201, i_psh (.int 3)), (202, i_psh (.int 4)), (203, i_clv 3 [(10, 128)]), (206, i_ald 0), (207, i_psh (.int 59)), (209, i_clv 1 [(10, 116)]), (212, i_got 369)]
def bX9_statement_215 : List (Nat × XI) := [(215, i_ald 0), (216, i_clv 0 [(10, 142)]), (219, i_got 369)]
def bX9_statement_222 : List (Nat × XI) := [(222, i_ald 0), (223, i_psh (.int 10)), (225, i_clv 1 [(10, 125)]), (228, i_ist 1), (229, i_ald 0), (230, i_clv 0 [(10, 102)]), (233, i_ald 0), (234, i_ild 1), (235, i_psh (.int 3)), (236, i_psh (.int 4)), (237, i_clv 3 [(10, 128)]), (240, i_ald 0), (241, i_ild 1), (242, i_psh (.int 7)), (244, i_ald 0), (245, i_psh (.int 3)), (246, i_ild 1), (247, i_clv 2 [(10, 118)]), (250, i_clv 3 [(10, 120)]), (253, i_got 369)]
def bX9_statement_256 : List (Nat × XI) := [(256, i_ald 0), (257, i_ald 0), (258, i_gei 42 [10]), (261, i_psh (.int 8)), (263, i_icne 271), (266, i_psh (.int 11)), (268, i_got 273)]
def bX9_statement_271 : List (Nat × XI) := [(271, i_psh (.int 12)), (273, i_fal 273)]
def bX9_statement_273 : List (Nat × XI) := [(273, i_clv 1 [(10, 125)]), (276, i_ist 1), (277, i_ald 0), (278, i_clv 0 [(10, 102)]), (281, i_ald 0), (282, i_ild 1), (283, i_clv 1 [(10, 143)]), (286, i_got 369)]
def bX9_statement_289 : List (Nat × XI) := [(289, i_ald 0), (290, i_psh (.int 13)), (292, i_clv 1 [(10, 125)]), (295, i_ist 1), (296, i_ald 0), (297, i_clv 0 [(10, 102)]), (300, i_ald 0), (301, i_ild 1), (302, i_psh (.int 1)), (303, i_ald 0), (304, i_psh (.int 1)), (305, i_clv 1 [(10, 113)]), (308, i_clv 3 [(10, 120)]), (311, i_ald 0), (312, i_psh (.int 59)), (314, i_clv 1 [(10, 116)]), (317, i_got 369)]
def bX9_statement_320 : List (Nat × XI) := [(320, i_ald 0), (321, i_psh (.int 14)), (323, i_clv 1 [(10, 145)]), (326, i_got 369)]
def bX9_statement_329 : List (Nat × XI) := [(329, i_ald 0), (330, i_psh (.int 15)), (332, i_clv 1 [(10, 145)]), (335, i_got 369)]
def bX9_statement_338 : List (Nat × XI) := [(338, i_ald 0), (339, i_psh (.int 16)), (341, i_clv 1 [(10, 125)]), (344, i_ist 1), (345, i_ald 0), (346, i_clv 0 [(10, 102)]), (349, i_ald 0), (350, i_ild 1), (351, i_psh (.int 7)), (353, i_ald 0), (354, i_psh (.int 4)), (355, i_ild 1), (356, i_clv 2 [(10, 118)]), (359, i_clv 3 [(10, 120)]), (362, i_got 369)]
def bX9_statement_365 : List (Nat × XI) := [(365, i_ald 0), (366, i_clv 0 [(10, 146)]), (369, i_fal 369)]
def bX9_statement_369 : List (Nat × XI) := [(369, i_ret 0)]
def rX9_statement : XM := (⟨"WaysAtlasModel", "statement", "()V"⟩, prog_36_method_47_code, 2, none, [], [(0, bX9_statement_0), (12, bX9_statement_12), (36, bX9_statement_36), (60, bX9_statement_60), (64, bX9_statement_64), (65, bX9_statement_65), (140, bX9_statement_140), (169, bX9_statement_169), (188, bX9_statement_188), (215, bX9_statement_215), (222, bX9_statement_222), (256, bX9_statement_256), (271, bX9_statement_271), (273, bX9_statement_273), (289, bX9_statement_289), (320, bX9_statement_320), (329, bX9_statement_329), (338, bX9_statement_338), (365, bX9_statement_365), (369, bX9_statement_369)], fun _ _ => none)
def bX9_canBegin_0 : List (Nat × XI) := [(0, i_ald 0), (1, i_gei 40 [10]), (4, i_psh (.int 3)), (5, i_icne 32), (8, i_ald 0), (9, i_gei 42 [10]), (12, i_psh (.int 118)), (14, i_iceq 26), (17, i_ald 0), (18, i_gei 42 [10]), (21, i_psh (.int 114)), (23, i_icne 30), (26, i_fal 26)]
def bX9_canBegin_26 : List (Nat × XI) := [(26, i_psh (.int 1)), (27, i_got 31)]
def bX9_canBegin_30 : List (Nat × XI) := [(30, i_psh (.int 0)), (31, i_fal 31)]
def bX9_canBegin_31 : List (Nat × XI) := [(31, i_ret 4)]
def bX9_canBegin_32 : List (Nat × XI) := [(32, i_ald 0), (33, i_gei 40 [10]), (36, i_psh (.int 2)), (37, i_icne 85), (40, i_ald 0), (41, i_gei 42 [10]), (44, i_ifeq 81), (47, i_ald 0), (48, i_gei 42 [10]), (51, i_psh (.int 1)), (52, i_iceq 81), (55, i_ald 0), (56, i_gei 42 [10]), (59, i_psh (.int 4)), (60, i_psh (.int 5)), (61, i_cls 99 3), (64, i_ifne 81), (67, i_ald 0), (68, i_gei 42 [10]), (71, i_psh (.int 7)), (73, i_psh (.int 14)), (75, i_cls 99 3), (78, i_ifeq 85), (81, i_fal 81)]
def bX9_canBegin_81 : List (Nat × XI) := [(81, i_psh (.int 1)), (82, i_got 86)]
def bX9_canBegin_85 : List (Nat × XI) := [(85, i_psh (.int 0)), (86, i_fal 86)]
def bX9_canBegin_86 : List (Nat × XI) := [(86, i_ret 4)]
def rX9_canBegin : XM := (⟨"WaysAtlasModel", "canBegin", "()Z"⟩, prog_36_method_46_code, 1, (some .boolean), [], [(0, bX9_canBegin_0), (26, bX9_canBegin_26), (30, bX9_canBegin_30), (31, bX9_canBegin_31), (32, bX9_canBegin_32), (81, bX9_canBegin_81), (85, bX9_canBegin_85), (86, bX9_canBegin_86)], fun _ _ => none)
def bX9_ofVar_0 : List (Nat × XI) := [(0, i_ald 0), (1, i_gei 43 [10]), (4, i_ist 1), (5, i_ild 1), (6, i_psh (.int 5)), (7, i_icle 20), (10, i_ald 0), (11, i_psh (.int 2)), (12, i_ald 0), (13, i_gei 41 [10]), (16, i_clv 2 [(10, 111)]), (19, i_ret 0)]
def bX9_ofVar_20 : List (Nat × XI) := [(20, i_ald 0), (21, i_psh (.int 1)), (22, i_clv 1 [(10, 125)]), (25, i_ist 2), (26, i_ald 0), (27, i_ild 2), (28, i_psh (.int 1)), (29, i_ild 1), (30, i_clv 3 [(10, 120)]), (33, i_ald 0), (34, i_clv 0 [(10, 102)]), (37, i_ald 0), (38, i_psh (.int 61)), (40, i_clv 1 [(10, 116)]), (43, i_ald 0), (44, i_gei 49 [10]), (47, i_ifne 77), (50, i_ald 0), (51, i_psh (.int 1)), (52, i_clv 1 [(10, 110)]), (55, i_ifeq 77), (58, i_ald 0), (59, i_ild 2), (60, i_psh (.int 0)), (61, i_psh (.int 2)), (62, i_clv 3 [(10, 120)]), (65, i_ald 0), (66, i_clv 0 [(10, 102)]), (69, i_ald 0), (70, i_ild 2), (71, i_clv 1 [(10, 126)]), (74, i_got 97)]
def bX9_ofVar_77 : List (Nat × XI) := [(77, i_ald 0), (78, i_gei 49 [10]), (81, i_ifne 97), (84, i_ald 0), (85, i_ild 2), (86, i_psh (.int 3)), (87, i_psh (.int 4)), (88, i_clv 3 [(10, 128)]), (91, i_ald 0), (92, i_psh (.int 59)), (94, i_clv 1 [(10, 116)]), (97, i_fal 97)]
def bX9_ofVar_97 : List (Nat × XI) := [(97, i_ret 0)]
def rX9_ofVar : XM := (⟨"WaysAtlasModel", "ofVar", "()V"⟩, prog_36_method_40_code, 3, none, [], [(0, bX9_ofVar_0), (20, bX9_ofVar_20), (77, bX9_ofVar_77), (97, bX9_ofVar_97)], fun _ _ => none)
def bX9_comes_0 : List (Nat × XI) := [(0, i_ald 0), (1, i_ger 1060 [10]), (4, i_ald 0), (5, i_gei 45 [10]), (8, i_lda 0), (9, i_ist 2), (10, i_psh (.int 0)), (11, i_ist 3), (12, i_fal 12)]
def bX9_comes_12 : List (Nat × XI) := [(12, i_ild 3), (13, i_psh (.int 16)), (15, i_icge 31), (18, i_ald 0), (19, i_ild 2), (20, i_ild 3), (21, i_psh (.int (-1))), (22, i_clv 3 [(10, 120)]), (25, i_inc 3 1), (28, i_got 12)]
def bX9_comes_31 : List (Nat × XI) := [(31, i_ald 0), (32, i_ild 2), (33, i_psh (.int 0)), (34, i_ild 1), (35, i_clv 3 [(10, 120)]), (38, i_ald 0), (39, i_ild 2), (40, i_psh (.int 11)), (42, i_ald 0), (43, i_ger 1069 [10]), (46, i_ald 0), (47, i_gei 45 [10]), (50, i_lda 0), (51, i_psh (.int 1)), (52, i_sub), (53, i_clv 3 [(10, 120)]), (56, i_ald 0), (57, i_ger 1080 [10]), (60, i_ald 0), (61, i_gei 56 [10]), (64, i_psh (.int 1)), (65, i_sub), (66, i_lda 0), (67, i_ifge 99), (70, i_ald 0), (71, i_ger 1063 [10]), (74, i_psh (.int 400)), (77, i_ald 0), (78, i_gei 45 [10]), (81, i_mul), (82, i_ald 0), (83, i_ger 1079 [10]), (86, i_ald 0), (87, i_gei 56 [10]), (90, i_psh (.int 1)), (91, i_sub), (92, i_lda 0), (93, i_add), (94, i_ild 2), (95, i_ias), (96, i_got 117)]
def bX9_comes_99 : List (Nat × XI) := [(99, i_ald 0), (100, i_ald 0), (101, i_ger 1080 [10]), (104, i_ald 0), (105, i_gei 56 [10]), (108, i_psh (.int 1)), (109, i_sub), (110, i_lda 0), (111, i_psh (.int 10)), (113, i_ild 2), (114, i_clv 3 [(10, 120)]), (117, i_fal 117)]
def bX9_comes_117 : List (Nat × XI) := [(117, i_ald 0), (118, i_ger 1080 [10]), (121, i_ald 0), (122, i_gei 56 [10]), (125, i_psh (.int 1)), (126, i_sub), (127, i_ild 2), (128, i_ias), (129, i_ald 0), (130, i_ger 1060 [10]), (133, i_ald 0), (134, i_gei 45 [10]), (137, i_du2), (138, i_lda 0), (139, i_psh (.int 1)), (140, i_add), (141, i_ias), (142, i_ild 2), (143, i_ret 1)]
def rX9_comes : XM := (⟨"WaysAtlasModel", "comes", "(I)I"⟩, prog_36_method_37_code, 4, (some .int), [], [(0, bX9_comes_0), (12, bX9_comes_12), (31, bX9_comes_31), (99, bX9_comes_99), (117, bX9_comes_117)], fun _ _ => none)
def bX9_call_0 : List (Nat × XI) := [(0, i_ald 0), (1, i_ild 1), (2, i_psh (.int 2)), (3, i_ald 0), (4, i_clv 0 [(10, 127)]), (7, i_clv 3 [(10, 120)]), (10, i_ald 0), (11, i_psh (.int 40)), (13, i_clv 1 [(10, 116)]), (16, i_ald 0), (17, i_ild 1), (18, i_psh (.int 3)), (19, i_psh (.int 4)), (20, i_clv 3 [(10, 128)]), (23, i_ald 0), (24, i_psh (.int 44)), (26, i_clv 1 [(10, 116)]), (29, i_ald 0), (30, i_ild 1), (31, i_psh (.int 5)), (32, i_psh (.int 6)), (34, i_clv 3 [(10, 128)]), (37, i_ald 0), (38, i_psh (.int 41)), (40, i_clv 1 [(10, 116)]), (43, i_ald 0), (44, i_psh (.int 59)), (46, i_clv 1 [(10, 116)]), (49, i_ret 0)]
def rX9_call : XM := (⟨"WaysAtlasModel", "call", "(I)V"⟩, prog_36_method_39_code, 2, none, [], [(0, bX9_call_0)], fun _ _ => none)
def bX9_takeMethod_0 : List (Nat × XI) := [(0, i_ald 0), (1, i_gei 49 [10]), (4, i_ifne 20), (7, i_ald 0), (8, i_psh (.int 109)), (10, i_clv 1 [(10, 114)]), (13, i_ifne 20), (16, i_ald 0), (17, i_clv 0 [(10, 112)]), (20, i_fal 20)]
def bX9_takeMethod_20 : List (Nat × XI) := [(20, i_ald 0), (21, i_gei 43 [10]), (24, i_ist 1), (25, i_ald 0), (26, i_gei 49 [10]), (29, i_ifne 46), (32, i_ald 0), (33, i_psh (.int 3)), (34, i_ald 0), (35, i_gei 41 [10]), (38, i_ild 1), (39, i_clv 3 [(10, 115)]), (42, i_ald 0), (43, i_clv 0 [(10, 102)]), (46, i_fal 46)]
def bX9_takeMethod_46 : List (Nat × XI) := [(46, i_ild 1), (47, i_ret 1)]
def rX9_takeMethod : XM := (⟨"WaysAtlasModel", "takeMethod", "()I"⟩, prog_36_method_23_code, 2, (some .int), [], [(0, bX9_takeMethod_0), (20, bX9_takeMethod_20), (46, bX9_takeMethod_46)], fun _ _ => none)
def bX9_sumOf_0 : List (Nat × XI) := [(0, i_ald 0), (1, i_ild 1), (2, i_ild 2), (3, i_ald 0), (4, i_gei 47 [10]), (7, i_clv 3 [(10, 120)]), (10, i_ald 0), (11, i_clv 0 [(10, 129)]), (14, i_ald 0), (15, i_ild 1), (16, i_ild 3), (17, i_ald 0), (18, i_gei 47 [10]), (21, i_clv 3 [(10, 120)]), (24, i_ret 0)]
def rX9_sumOf : XM := (⟨"WaysAtlasModel", "sumOf", "(III)V"⟩, prog_36_method_38_code, 4, none, [], [(0, bX9_sumOf_0)], fun _ _ => none)
def bX9_sum_0 : List (Nat × XI) := [(0, i_ald 0), (1, i_psh (.int 0)), (2, i_pui 53 [10]), (5, i_ald 0), (6, i_psh (.int 0)), (7, i_pui 54 [10]), (10, i_ald 0), (11, i_psh (.int 0)), (12, i_puz 55 [10]), (15, i_psh (.int 1)), (16, i_ist 1), (17, i_fal 17)]
def bX9_sum_17 : List (Nat × XI) := [(17, i_ald 0), (18, i_gei 49 [10]), (21, i_ifne 58), (24, i_ald 0), (25, i_gei 55 [10]), (28, i_ifne 58), (31, i_ild 1), (32, i_ifeq 50), (35, i_ald 0), (36, i_clv 0 [(10, 130)]), (39, i_ifne 46), (42, i_psh (.int 1)), (43, i_got 54)]
def bX9_sum_46 : List (Nat × XI) := [(46, i_psh (.int 0)), (47, i_got 54)]
def bX9_sum_50 : List (Nat × XI) := [(50, i_ald 0), (51, i_clv 0 [(10, 136)]), (54, i_fal 54)]
def bX9_sum_54 : List (Nat × XI) := [(54, i_ist 1), (55, i_got 17)]
def bX9_sum_58 : List (Nat × XI) := [(58, i_ret 0)]
def rX9_sum : XM := (⟨"WaysAtlasModel", "sum", "()V"⟩, prog_36_method_34_code, 2, none, [], [(0, bX9_sum_0), (17, bX9_sum_17), (46, bX9_sum_46), (50, bX9_sum_50), (54, bX9_sum_54), (58, bX9_sum_58)], fun _ _ => none)
def bX9_beginsFactor_0 : List (Nat × XI) := [(0, i_ald 0), (1, i_psh (.int 45)), (3, i_clv 1 [(10, 117)]), (6, i_ifeq 28), (9, i_ald 0), (10, i_clv 0 [(10, 131)]), (13, i_ifeq 26), (16, i_ald 0), (17, i_psh (.int 4)), (18, i_psh (.int 0)), (19, i_clv 2 [(10, 132)]), (22, i_ald 0), (23, i_clv 0 [(10, 102)]), (26, i_fal 26)]
def bX9_beginsFactor_26 : List (Nat × XI) := [(26, i_psh (.int 0)), (27, i_ret 4)]
def bX9_beginsFactor_28 : List (Nat × XI) := [(28, i_ald 0), (29, i_psh (.int 40)), (31, i_clv 1 [(10, 117)]), (34, i_ifeq 57), (37, i_ald 0), (38, i_clv 0 [(10, 131)]), (41, i_ifeq 55), (44, i_ald 0), (45, i_psh (.int 40)), (47, i_psh (.int 0)), (48, i_clv 2 [(10, 132)]), (51, i_ald 0), (52, i_clv 0 [(10, 102)]), (55, i_fal 55)]
def bX9_beginsFactor_55 : List (Nat × XI) := [(55, i_psh (.int 0)), (56, i_ret 4)]
def bX9_beginsFactor_57 : List (Nat × XI) := [(57, i_ald 0), (58, i_gei 40 [10]), (61, i_psh (.int 4)), (62, i_icne 76), (65, i_ald 0), (66, i_psh (.int 0)), (67, i_ald 0), (68, i_clv 0 [(10, 133)]), (71, i_clv 2 [(10, 134)]), (74, i_psh (.int 1)), (75, i_ret 4)]
def bX9_beginsFactor_76 : List (Nat × XI) := [(76, i_ald 0), (77, i_psh (.int 118)), (79, i_clv 1 [(10, 114)]), (82, i_ifeq 117), (85, i_ald 0), (86, i_gei 43 [10]), (89, i_psh (.int 5)), (90, i_icle 102), (93, i_ald 0), (94, i_psh (.int 2)), (95, i_ald 0), (96, i_gei 41 [10]), (99, i_clv 2 [(10, 111)]), (102, i_fal 102)]
def bX9_beginsFactor_102 : List (Nat × XI) := [(102, i_ald 0), (103, i_psh (.int 1)), (104, i_ald 0), (105, i_gei 43 [10]), (108, i_clv 2 [(10, 134)]), (111, i_ald 0), (112, i_clv 0 [(10, 102)]), (115, i_psh (.int 1)), (116, i_ret 4)]
def bX9_beginsFactor_117 : List (Nat × XI) := [(117, i_ald 0), (118, i_psh (.int 17)), (120, i_clv 1 [(10, 110)]), (123, i_ifeq 158), (126, i_ald 0), (127, i_clv 0 [(10, 131)]), (130, i_ifeq 156), (133, i_ald 0), (134, i_dup), (135, i_gei 54 [10]), (138, i_psh (.int 1)), (139, i_sub), (140, i_pui 54 [10]), (143, i_ald 0), (144, i_clv 0 [(10, 102)]), (147, i_ald 0), (148, i_psh (.int 3)), (149, i_ald 0), (150, i_clv 0 [(10, 135)]), (153, i_clv 2 [(10, 134)]), (156, i_fal 156)]
def bX9_beginsFactor_156 : List (Nat × XI) := [(156, i_psh (.int 1)), (157, i_ret 4)]
def bX9_beginsFactor_158 : List (Nat × XI) := [(158, i_ald 0), (159, i_clv 0 [(10, 135)]), (162, i_ist 1), (163, i_ald 0), (164, i_gei 49 [10]), (167, i_ifne 183), (170, i_ald 0), (171, i_psh (.int 91)), (173, i_clv 1 [(10, 117)]), (176, i_ifne 183), (179, i_ald 0), (180, i_clv 0 [(10, 112)]), (183, i_fal 183)]
def bX9_beginsFactor_183 : List (Nat × XI) := [(183, i_ald 0), (184, i_gei 49 [10]), (187, i_ifne 208), (190, i_ald 0), (191, i_clv 0 [(10, 131)]), (194, i_ifeq 208), (197, i_ald 0), (198, i_psh (.int 91)), (200, i_ild 1), (201, i_clv 2 [(10, 132)]), (204, i_ald 0), (205, i_clv 0 [(10, 102)]), (208, i_fal 208)]
def bX9_beginsFactor_208 : List (Nat × XI) := [(208, i_psh (.int 0)), (209, i_ret 4)]
def rX9_beginsFactor : XM := (⟨"WaysAtlasModel", "beginsFactor", "()Z"⟩, prog_36_method_32_code, 2, (some .boolean), [], [(0, bX9_beginsFactor_0), (26, bX9_beginsFactor_26), (28, bX9_beginsFactor_28), (55, bX9_beginsFactor_55), (57, bX9_beginsFactor_57), (76, bX9_beginsFactor_76), (102, bX9_beginsFactor_102), (117, bX9_beginsFactor_117), (156, bX9_beginsFactor_156), (158, bX9_beginsFactor_158), (183, bX9_beginsFactor_183), (208, bX9_beginsFactor_208)], fun _ _ => none)
def bX9_mayGoDeeper_0 : List (Nat × XI) := [(0, i_ald 0), (1, i_gei 54 [10]), (4, i_psh (.int 8)), (6, i_icne 20), (9, i_ald 0), (10, i_psh (.int 2)), (11, i_ald 0), (12, i_gei 41 [10]), (15, i_clv 2 [(10, 111)]), (18, i_psh (.int 0)), (19, i_ret 4)]
def bX9_mayGoDeeper_20 : List (Nat × XI) := [(20, i_ald 0), (21, i_dup), (22, i_gei 54 [10]), (25, i_psh (.int 1)), (26, i_add), (27, i_pui 54 [10]), (30, i_psh (.int 1)), (31, i_ret 4)]
def rX9_mayGoDeeper : XM := (⟨"WaysAtlasModel", "mayGoDeeper", "()Z"⟩, prog_36_method_27_code, 1, (some .boolean), [], [(0, bX9_mayGoDeeper_0), (20, bX9_mayGoDeeper_20)], fun _ _ => none)
def bX9_waitsFor_0 : List (Nat × XI) := [(0, i_ald 0), (1, i_ger 1075 [10]), (4, i_ald 0), (5, i_gei 53 [10]), (8, i_ild 1), (9, i_ias), (10, i_ald 0), (11, i_ger 1076 [10]), (14, i_ald 0), (15, i_gei 53 [10]), (18, i_ild 2), (19, i_ias), (20, i_ald 0), (21, i_dup), (22, i_gei 53 [10]), (25, i_psh (.int 1)), (26, i_add), (27, i_pui 53 [10]), (30, i_ret 0)]
def rX9_waitsFor : XM := (⟨"WaysAtlasModel", "waitsFor", "(II)V"⟩, prog_36_method_26_code, 3, none, [], [(0, bX9_waitsFor_0)], fun _ _ => none)
def bX9_takeNumber_0 : List (Nat × XI) := [(0, i_ald 0), (1, i_gei 49 [10]), (4, i_ifne 19), (7, i_ald 0), (8, i_gei 40 [10]), (11, i_psh (.int 4)), (12, i_iceq 19), (15, i_ald 0), (16, i_clv 0 [(10, 112)]), (19, i_fal 19)]
def bX9_takeNumber_19 : List (Nat × XI) := [(19, i_ald 0), (20, i_gei 43 [10]), (23, i_ist 1), (24, i_ald 0), (25, i_gei 49 [10]), (28, i_ifne 35), (31, i_ald 0), (32, i_clv 0 [(10, 102)]), (35, i_fal 35)]
def bX9_takeNumber_35 : List (Nat × XI) := [(35, i_ild 1), (36, i_ret 1)]
def rX9_takeNumber : XM := (⟨"WaysAtlasModel", "takeNumber", "()I"⟩, prog_36_method_21_code, 2, (some .int), [], [(0, bX9_takeNumber_0), (19, bX9_takeNumber_19), (35, bX9_takeNumber_35)], fun _ _ => none)
def bX9_emits_0 : List (Nat × XI) := [(0, i_ald 0), (1, i_ger 1061 [10]), (4, i_psh (.int 1100)), (7, i_ald 0), (8, i_gei 45 [10]), (11, i_mul), (12, i_ald 0), (13, i_gei 47 [10]), (16, i_add), (17, i_ild 1), (18, i_ias), (19, i_ald 0), (20, i_ger 1062 [10]), (23, i_psh (.int 1100)), (26, i_ald 0), (27, i_gei 45 [10]), (30, i_mul), (31, i_ald 0), (32, i_gei 47 [10]), (35, i_add), (36, i_ild 2), (37, i_ias), (38, i_ald 0), (39, i_dup), (40, i_gei 47 [10]), (43, i_psh (.int 1)), (44, i_add), (45, i_pui 47 [10]), (48, i_ret 0)]
def rX9_emits : XM := (⟨"WaysAtlasModel", "emits", "(II)V"⟩, prog_36_method_25_code, 3, none, [], [(0, bX9_emits_0)], fun _ _ => none)
def bX9_takeRow_0 : List (Nat × XI) := [(0, i_ald 0), (1, i_gei 49 [10]), (4, i_ifne 20), (7, i_ald 0), (8, i_psh (.int 114)), (10, i_clv 1 [(10, 114)]), (13, i_ifne 20), (16, i_ald 0), (17, i_clv 0 [(10, 112)]), (20, i_fal 20)]
def bX9_takeRow_20 : List (Nat × XI) := [(20, i_ald 0), (21, i_gei 43 [10]), (24, i_ist 1), (25, i_ald 0), (26, i_gei 49 [10]), (29, i_ifne 46), (32, i_ild 1), (33, i_psh (.int 2)), (34, i_icle 46), (37, i_ald 0), (38, i_psh (.int 2)), (39, i_ald 0), (40, i_gei 41 [10]), (43, i_clv 2 [(10, 111)]), (46, i_fal 46)]
def bX9_takeRow_46 : List (Nat × XI) := [(46, i_ald 0), (47, i_gei 49 [10]), (50, i_ifne 57), (53, i_ald 0), (54, i_clv 0 [(10, 102)]), (57, i_fal 57)]
def bX9_takeRow_57 : List (Nat × XI) := [(57, i_ild 1), (58, i_ret 1)]
def rX9_takeRow : XM := (⟨"WaysAtlasModel", "takeRow", "()I"⟩, prog_36_method_24_code, 2, (some .int), [], [(0, bX9_takeRow_0), (20, bX9_takeRow_20), (46, bX9_takeRow_46), (57, bX9_takeRow_57)], fun _ _ => none)
def bX9_goesOn_0 : List (Nat × XI) := [(0, i_ald 0), (1, i_clv 0 [(10, 137)]), (4, i_ald 0), (5, i_psh (.int 43)), (7, i_clv 1 [(10, 117)]), (10, i_ifne 22), (13, i_ald 0), (14, i_psh (.int 45)), (16, i_clv 1 [(10, 117)]), (19, i_ifeq 52), (22, i_fal 22)]
def bX9_goesOn_22 : List (Nat × XI) := [(22, i_ald 0), (23, i_clv 0 [(10, 139)]), (26, i_ald 0), (27, i_ald 0), (28, i_gei 42 [10]), (31, i_psh (.int 43)), (33, i_icne 40), (36, i_psh (.int 5)), (37, i_got 42)]
def bX9_goesOn_40 : List (Nat × XI) := [(40, i_psh (.int 6)), (42, i_fal 42)]
def bX9_goesOn_42 : List (Nat × XI) := [(42, i_psh (.int 0)), (43, i_clv 2 [(10, 132)]), (46, i_ald 0), (47, i_clv 0 [(10, 102)]), (50, i_psh (.int 1)), (51, i_ret 4)]
def bX9_goesOn_52 : List (Nat × XI) := [(52, i_ald 0), (53, i_psh (.int 42)), (55, i_clv 1 [(10, 117)]), (58, i_ifne 79), (61, i_ald 0), (62, i_psh (.int 47)), (64, i_clv 1 [(10, 117)]), (67, i_ifne 79), (70, i_ald 0), (71, i_psh (.int 37)), (73, i_clv 1 [(10, 117)]), (76, i_ifeq 124), (79, i_fal 79)]
def bX9_goesOn_79 : List (Nat × XI) := [(79, i_ald 0), (80, i_clv 0 [(10, 140)]), (83, i_ald 0), (84, i_ald 0), (85, i_gei 42 [10]), (88, i_psh (.int 42)), (90, i_icne 98), (93, i_psh (.int 7)), (95, i_got 114)]
def bX9_goesOn_98 : List (Nat × XI) := [(98, i_ald 0), (99, i_gei 42 [10]), (102, i_psh (.int 47)), (104, i_icne 112), (107, i_psh (.int 8)), (109, i_got 114)]
def bX9_goesOn_112 : List (Nat × XI) := [(112, i_psh (.int 9)), (114, i_fal 114)]
def bX9_goesOn_114 : List (Nat × XI) := [(114, i_psh (.int 0)), (115, i_clv 2 [(10, 132)]), (118, i_ald 0), (119, i_clv 0 [(10, 102)]), (122, i_psh (.int 1)), (123, i_ret 4)]
def bX9_goesOn_124 : List (Nat × XI) := [(124, i_ald 0), (125, i_clv 0 [(10, 139)]), (128, i_ald 0), (129, i_gei 53 [10]), (132, i_ifne 142), (135, i_ald 0), (136, i_psh (.int 1)), (137, i_puz 55 [10]), (140, i_psh (.int 0)), (141, i_ret 4)]
def bX9_goesOn_142 : List (Nat × XI) := [(142, i_ald 0), (143, i_clv 0 [(10, 138)]), (146, i_ist 1), (147, i_ild 1), (148, i_psh (.int 40)), (150, i_icne 162), (153, i_ald 0), (154, i_psh (.int 41)), (156, i_clv 1 [(10, 117)]), (159, i_ifne 177), (162, i_fal 162)]
def bX9_goesOn_162 : List (Nat × XI) := [(162, i_ild 1), (163, i_psh (.int 91)), (165, i_icne 224), (168, i_ald 0), (169, i_psh (.int 93)), (171, i_clv 1 [(10, 117)]), (174, i_ifeq 224), (177, i_fal 177)]
def bX9_goesOn_177 : List (Nat × XI) := [(177, i_ald 0), (178, i_dup), (179, i_gei 53 [10]), (182, i_psh (.int 1)), (183, i_sub), (184, i_pui 53 [10]), (187, i_ild 1), (188, i_psh (.int 91)), (190, i_icne 207), (193, i_ald 0), (194, i_psh (.int 2)), (195, i_ald 0), (196, i_ger 1076 [10]), (199, i_ald 0), (200, i_gei 53 [10]), (203, i_lda 0), (204, i_clv 2 [(10, 134)]), (207, i_fal 207)]
def bX9_goesOn_207 : List (Nat × XI) := [(207, i_ald 0), (208, i_dup), (209, i_gei 54 [10]), (212, i_psh (.int 1)), (213, i_sub), (214, i_pui 54 [10]), (217, i_ald 0), (218, i_clv 0 [(10, 102)]), (221, i_got 228)]
def bX9_goesOn_224 : List (Nat × XI) := [(224, i_ald 0), (225, i_clv 0 [(10, 112)]), (228, i_fal 228)]
def bX9_goesOn_228 : List (Nat × XI) := [(228, i_psh (.int 0)), (229, i_ret 4)]
def rX9_goesOn : XM := (⟨"WaysAtlasModel", "goesOn", "()Z"⟩, prog_36_method_33_code, 2, (some .boolean), [], [(0, bX9_goesOn_0), (22, bX9_goesOn_22), (40, bX9_goesOn_40), (42, bX9_goesOn_42), (52, bX9_goesOn_52), (79, bX9_goesOn_79), (98, bX9_goesOn_98), (112, bX9_goesOn_112), (114, bX9_goesOn_114), (124, bX9_goesOn_124), (142, bX9_goesOn_142), (162, bX9_goesOn_162), (177, bX9_goesOn_177), (207, bX9_goesOn_207), (224, bX9_goesOn_224), (228, bX9_goesOn_228)], fun _ _ => none)
def bX9_endFactor_0 : List (Nat × XI) := [(0, i_ald 0), (1, i_clv 0 [(10, 138)]), (4, i_psh (.int 4)), (5, i_icne 37), (8, i_ald 0), (9, i_dup), (10, i_gei 53 [10]), (13, i_psh (.int 1)), (14, i_sub), (15, i_pui 53 [10]), (18, i_ald 0), (19, i_psh (.int 4)), (20, i_psh (.int 0)), (21, i_clv 2 [(10, 134)]), (24, i_ald 0), (25, i_dup), (26, i_gei 54 [10]), (29, i_psh (.int 1)), (30, i_sub), (31, i_pui 54 [10]), (34, i_got 0)]
def bX9_endFactor_37 : List (Nat × XI) := [(37, i_ret 0)]
def rX9_endFactor : XM := (⟨"WaysAtlasModel", "endFactor", "()V"⟩, prog_36_method_29_code, 1, none, [], [(0, bX9_endFactor_0), (37, bX9_endFactor_37)], fun _ _ => none)
def bX9_top_0 : List (Nat × XI) := [(0, i_ald 0), (1, i_gei 53 [10]), (4, i_ifne 11), (7, i_psh (.int (-1))), (8, i_got 22)]
def bX9_top_11 : List (Nat × XI) := [(11, i_ald 0), (12, i_ger 1075 [10]), (15, i_ald 0), (16, i_gei 53 [10]), (19, i_psh (.int 1)), (20, i_sub), (21, i_lda 0), (22, i_fal 22)]
def bX9_top_22 : List (Nat × XI) := [(22, i_ret 1)]
def rX9_top : XM := (⟨"WaysAtlasModel", "top", "()I"⟩, prog_36_method_28_code, 1, (some .int), [], [(0, bX9_top_0), (11, bX9_top_11), (22, bX9_top_22)], fun _ _ => none)
def bX9_endSum_0 : List (Nat × XI) := [(0, i_ald 0), (1, i_clv 0 [(10, 138)]), (4, i_psh (.int 5)), (5, i_psh (.int 9)), (7, i_cls 99 3), (10, i_ifeq 40), (13, i_ald 0), (14, i_dup), (15, i_gei 53 [10]), (18, i_psh (.int 1)), (19, i_sub), (20, i_pui 53 [10]), (23, i_ald 0), (24, i_ald 0), (25, i_ger 1075 [10]), (28, i_ald 0), (29, i_gei 53 [10]), (32, i_lda 0), (33, i_psh (.int 0)), (34, i_clv 2 [(10, 134)]), (37, i_got 0)]
def bX9_endSum_40 : List (Nat × XI) := [(40, i_ret 0)]
def rX9_endSum : XM := (⟨"WaysAtlasModel", "endSum", "()V"⟩, prog_36_method_31_code, 1, none, [], [(0, bX9_endSum_0), (40, bX9_endSum_40)], fun _ _ => none)
def bX9_endProduct_0 : List (Nat × XI) := [(0, i_ald 0), (1, i_clv 0 [(10, 138)]), (4, i_psh (.int 7)), (6, i_psh (.int 9)), (8, i_cls 99 3), (11, i_ifeq 41), (14, i_ald 0), (15, i_dup), (16, i_gei 53 [10]), (19, i_psh (.int 1)), (20, i_sub), (21, i_pui 53 [10]), (24, i_ald 0), (25, i_ald 0), (26, i_ger 1075 [10]), (29, i_ald 0), (30, i_gei 53 [10]), (33, i_lda 0), (34, i_psh (.int 0)), (35, i_clv 2 [(10, 134)]), (38, i_got 0)]
def bX9_endProduct_41 : List (Nat × XI) := [(41, i_ret 0)]
def rX9_endProduct : XM := (⟨"WaysAtlasModel", "endProduct", "()V"⟩, prog_36_method_30_code, 1, none, [], [(0, bX9_endProduct_0), (41, bX9_endProduct_41)], fun _ _ => none)
def bX9_ofRow_0 : List (Nat × XI) := [(0, i_ald 0), (1, i_psh (.int 5)), (2, i_clv 1 [(10, 125)]), (5, i_ist 1), (6, i_ald 0), (7, i_ild 1), (8, i_psh (.int 1)), (9, i_ald 0), (10, i_clv 0 [(10, 135)]), (13, i_clv 3 [(10, 120)]), (16, i_ald 0), (17, i_gei 49 [10]), (20, i_ifeq 24), (23, i_ret 0)]
def bX9_ofRow_24 : List (Nat × XI) := [(24, i_ald 0), (25, i_psh (.int 91)), (27, i_clv 1 [(10, 117)]), (30, i_ifeq 86), (33, i_ald 0), (34, i_ild 1), (35, i_psh (.int 0)), (36, i_psh (.int 6)), (38, i_clv 3 [(10, 120)]), (41, i_ald 0), (42, i_clv 0 [(10, 102)]), (45, i_ald 0), (46, i_ild 1), (47, i_psh (.int 3)), (48, i_psh (.int 4)), (49, i_clv 3 [(10, 128)]), (52, i_ald 0), (53, i_psh (.int 93)), (55, i_clv 1 [(10, 116)]), (58, i_ald 0), (59, i_psh (.int 61)), (61, i_clv 1 [(10, 116)]), (64, i_ald 0), (65, i_gei 49 [10]), (68, i_ifne 79), (71, i_ald 0), (72, i_ild 1), (73, i_psh (.int 5)), (74, i_psh (.int 6)), (76, i_clv 3 [(10, 128)]), (79, i_fal 79)]
def bX9_ofRow_79 : List (Nat × XI) := [(79, i_ald 0), (80, i_psh (.int 59)), (82, i_clv 1 [(10, 116)]), (85, i_ret 0)]
def bX9_ofRow_86 : List (Nat × XI) := [(86, i_ald 0), (87, i_psh (.int 61)), (89, i_clv 1 [(10, 116)]), (92, i_ald 0), (93, i_gei 49 [10]), (96, i_ifne 128), (99, i_ald 0), (100, i_psh (.int 2)), (101, i_clv 1 [(10, 110)]), (104, i_ifeq 128), (107, i_ald 0), (108, i_ild 1), (109, i_psh (.int 0)), (110, i_psh (.int 3)), (111, i_clv 3 [(10, 120)]), (114, i_ald 0), (115, i_clv 0 [(10, 102)]), (118, i_ald 0), (119, i_ild 1), (120, i_psh (.int 3)), (121, i_psh (.int 4)), (122, i_clv 3 [(10, 128)]), (125, i_got 167)]
def bX9_ofRow_128 : List (Nat × XI) := [(128, i_ald 0), (129, i_gei 49 [10]), (132, i_ifne 157), (135, i_ald 0), (136, i_psh (.int 3)), (137, i_clv 1 [(10, 110)]), (140, i_ifeq 157), (143, i_ald 0), (144, i_ild 1), (145, i_psh (.int 0)), (146, i_psh (.int 4)), (147, i_clv 3 [(10, 120)]), (150, i_ald 0), (151, i_clv 0 [(10, 102)]), (154, i_got 167)]
def bX9_ofRow_157 : List (Nat × XI) := [(157, i_ald 0), (158, i_ild 1), (159, i_psh (.int 2)), (160, i_ald 0), (161, i_clv 0 [(10, 135)]), (164, i_clv 3 [(10, 120)]), (167, i_fal 167)]
def bX9_ofRow_167 : List (Nat × XI) := [(167, i_ald 0), (168, i_psh (.int 59)), (170, i_clv 1 [(10, 116)]), (173, i_ret 0)]
def rX9_ofRow : XM := (⟨"WaysAtlasModel", "ofRow", "()V"⟩, prog_36_method_41_code, 2, none, [], [(0, bX9_ofRow_0), (24, bX9_ofRow_24), (79, bX9_ofRow_79), (86, bX9_ofRow_86), (128, bX9_ofRow_128), (157, bX9_ofRow_157), (167, bX9_ofRow_167)], fun _ _ => none)
def bX9_ofIf_0 : List (Nat × XI) := [(0, i_ald 0), (1, i_psh (.int 9)), (3, i_clv 1 [(10, 125)]), (6, i_ist 1), (7, i_ald 0), (8, i_clv 0 [(10, 102)]), (11, i_ald 0), (12, i_ild 1), (13, i_psh (.int 3)), (14, i_psh (.int 4)), (15, i_clv 3 [(10, 128)]), (18, i_ald 0), (19, i_psh (.int 61)), (21, i_clv 1 [(10, 117)]), (24, i_ifne 45), (27, i_ald 0), (28, i_psh (.int 60)), (30, i_clv 1 [(10, 117)]), (33, i_ifne 45), (36, i_ald 0), (37, i_psh (.int 62)), (39, i_clv 1 [(10, 117)]), (42, i_ifeq 49), (45, i_fal 45)]
def bX9_ofIf_45 : List (Nat × XI) := [(45, i_psh (.int 1)), (46, i_got 50)]
def bX9_ofIf_49 : List (Nat × XI) := [(49, i_psh (.int 0)), (50, i_fal 50)]
def bX9_ofIf_50 : List (Nat × XI) := [(50, i_ist 2), (51, i_ald 0), (52, i_ild 1), (53, i_psh (.int 1)), (54, i_ald 0), (55, i_gei 42 [10]), (58, i_clv 3 [(10, 120)]), (61, i_ald 0), (62, i_gei 49 [10]), (65, i_ifne 76), (68, i_ild 2), (69, i_ifne 76), (72, i_ald 0), (73, i_clv 0 [(10, 112)]), (76, i_fal 76)]
def bX9_ofIf_76 : List (Nat × XI) := [(76, i_ald 0), (77, i_gei 49 [10]), (80, i_ifne 95), (83, i_ald 0), (84, i_clv 0 [(10, 102)]), (87, i_ald 0), (88, i_ild 1), (89, i_psh (.int 5)), (90, i_psh (.int 6)), (92, i_clv 3 [(10, 128)]), (95, i_fal 95)]
def bX9_ofIf_95 : List (Nat × XI) := [(95, i_ald 0), (96, i_ild 1), (97, i_psh (.int 7)), (99, i_ald 0), (100, i_psh (.int 1)), (101, i_ild 1), (102, i_clv 2 [(10, 118)]), (105, i_clv 3 [(10, 120)]), (108, i_ret 0)]
def rX9_ofIf : XM := (⟨"WaysAtlasModel", "ofIf", "()V"⟩, prog_36_method_43_code, 3, none, [], [(0, bX9_ofIf_0), (45, bX9_ofIf_45), (49, bX9_ofIf_49), (50, bX9_ofIf_50), (76, bX9_ofIf_76), (95, bX9_ofIf_95)], fun _ _ => none)
def bX9_loopNumber_0 : List (Nat × XI) := [(0, i_ald 0), (1, i_gei 41 [10]), (4, i_ist 2), (5, i_ald 0), (6, i_clv 0 [(10, 133)]), (9, i_ist 3), (10, i_ald 0), (11, i_ild 1), (12, i_psh (.int 1)), (13, i_ild 3), (14, i_clv 3 [(10, 120)]), (17, i_ald 0), (18, i_gei 49 [10]), (21, i_ifne 44), (24, i_ild 3), (25, i_psh (.int 1)), (26, i_ald 0), (27, i_psh (.int 3)), (28, i_clv 1 [(10, 144)]), (31, i_cls 99 3), (34, i_ifne 44), (37, i_ald 0), (38, i_psh (.int 4)), (39, i_ild 2), (40, i_psh (.int 0)), (41, i_clv 3 [(10, 115)]), (44, i_fal 44)]
def bX9_loopNumber_44 : List (Nat × XI) := [(44, i_ald 0), (45, i_psh (.int 59)), (47, i_clv 1 [(10, 116)]), (50, i_ret 0)]
def rX9_loopNumber : XM := (⟨"WaysAtlasModel", "loopNumber", "(I)V"⟩, prog_36_method_42_code, 4, none, [], [(0, bX9_loopNumber_0), (44, bX9_loopNumber_44)], fun _ _ => none)
def bX9_around_0 : List (Nat × XI) := [(0, i_psh (.int 0)), (1, i_ist 2), (2, i_psh (.int 0)), (3, i_ist 3), (4, i_fal 4)]
def bX9_around_4 : List (Nat × XI) := [(4, i_ild 3), (5, i_ald 0), (6, i_gei 56 [10]), (9, i_icge 36), (12, i_ild 2), (13, i_ald 0), (14, i_ger 1077 [10]), (17, i_ild 3), (18, i_lda 0), (19, i_ild 1), (20, i_icne 27), (23, i_psh (.int 1)), (24, i_got 28)]
def bX9_around_27 : List (Nat × XI) := [(27, i_psh (.int 0)), (28, i_fal 28)]
def bX9_around_28 : List (Nat × XI) := [(28, i_add), (29, i_ist 2), (30, i_inc 3 1), (33, i_got 4)]
def bX9_around_36 : List (Nat × XI) := [(36, i_ild 2), (37, i_ret 1)]
def rX9_around : XM := (⟨"WaysAtlasModel", "around", "(I)I"⟩, prog_36_method_36_code, 4, (some .int), [], [(0, bX9_around_0), (4, bX9_around_4), (27, bX9_around_27), (28, bX9_around_28), (36, bX9_around_36)], fun _ _ => none)
def bX9_again_0 : List (Nat × XI) := [(0, i_ald 0), (1, i_gei 41 [10]), (4, i_ist 2), (5, i_ald 0), (6, i_ild 1), (7, i_clv 1 [(10, 125)]), (10, i_ist 3), (11, i_ald 0), (12, i_psh (.int 6)), (14, i_clv 1 [(10, 144)]), (17, i_ifne 27), (20, i_ald 0), (21, i_psh (.int 4)), (22, i_ild 2), (23, i_psh (.int 0)), (24, i_clv 3 [(10, 115)]), (27, i_fal 27)]
def bX9_again_27 : List (Nat × XI) := [(27, i_ald 0), (28, i_clv 0 [(10, 102)]), (31, i_ild 1), (32, i_psh (.int 14)), (34, i_icne 48), (37, i_ald 0), (38, i_ild 3), (39, i_psh (.int 1)), (40, i_ald 0), (41, i_psh (.int 1)), (42, i_clv 1 [(10, 113)]), (45, i_clv 3 [(10, 120)]), (48, i_fal 48)]
def bX9_again_48 : List (Nat × XI) := [(48, i_ald 0), (49, i_psh (.int 59)), (51, i_clv 1 [(10, 116)]), (54, i_ret 0)]
def rX9_again : XM := (⟨"WaysAtlasModel", "again", "(I)V"⟩, prog_36_method_45_code, 4, none, [], [(0, bX9_again_0), (27, bX9_again_27), (48, bX9_again_48)], fun _ _ => none)
def bX9_ofWith_0 : List (Nat × XI) := [(0, i_ald 0), (1, i_psh (.int 17)), (3, i_clv 1 [(10, 125)]), (6, i_ist 1), (7, i_ald 0), (8, i_clv 0 [(10, 102)]), (11, i_ald 0), (12, i_gei 41 [10]), (15, i_ist 2), (16, i_ald 0), (17, i_gei 40 [10]), (20, i_psh (.int 4)), (21, i_icne 28), (24, i_psh (.int 1)), (25, i_got 29)]
def bX9_ofWith_28 : List (Nat × XI) := [(28, i_psh (.int 0)), (29, i_fal 29)]
def bX9_ofWith_29 : List (Nat × XI) := [(29, i_ist 3), (30, i_ald 0), (31, i_clv 0 [(10, 133)]), (34, i_ist 4), (36, i_ild 3), (37, i_ifeq 56), (40, i_ild 4), (42, i_psh (.int 1)), (43, i_psh (.int 3)), (44, i_cls 99 3), (47, i_ifne 56), (50, i_ald 0), (51, i_psh (.int 2)), (52, i_ild 2), (53, i_clv 2 [(10, 111)]), (56, i_fal 56)]
def bX9_ofWith_56 : List (Nat × XI) := [(56, i_ald 0), (57, i_ild 1), (58, i_psh (.int 1)), (59, i_ild 4), (61, i_clv 3 [(10, 120)]), (64, i_ald 0), (65, i_ild 1), (66, i_psh (.int 7)), (68, i_ald 0), (69, i_psh (.int 5)), (70, i_ild 1), (71, i_clv 2 [(10, 118)]), (74, i_clv 3 [(10, 120)]), (77, i_ret 0)]
def rX9_ofWith : XM := (⟨"WaysAtlasModel", "ofWith", "()V"⟩, prog_36_method_44_code, 5, none, [], [(0, bX9_ofWith_0), (28, bX9_ofWith_28), (29, bX9_ofWith_29), (56, bX9_ofWith_56)], fun _ _ => none)
def bX9_looks_0 : List (Nat × XI) := [(0, i_psh (.int 0)), (1, i_ist 1), (2, i_fal 2)]
def bX9_looks_2 : List (Nat × XI) := [(2, i_ild 1), (3, i_ald 0), (4, i_gei 52 [10]), (7, i_icge 110), (10, i_ald 0), (11, i_gei 49 [10]), (14, i_ifne 110), (17, i_ald 0), (18, i_ger 1072 [10]), (21, i_ild 1), (22, i_lda 0), (23, i_psh (.int 1)), (24, i_icne 45), (27, i_ald 0), (28, i_ger 1074 [10]), (31, i_ild 1), (32, i_lda 0), (33, i_ald 0), (34, i_ger 1071 [10]), (37, i_ald 0), (38, i_gei 45 [10]), (41, i_lda 0), (42, i_icge 83), (45, i_fal 45)]
def bX9_looks_45 : List (Nat × XI) := [(45, i_ald 0), (46, i_ger 1072 [10]), (49, i_ild 1), (50, i_lda 0), (51, i_psh (.int 3)), (52, i_icne 73), (55, i_ald 0), (56, i_ger 1074 [10]), (59, i_ild 1), (60, i_lda 0), (61, i_ald 0), (62, i_ger 1069 [10]), (65, i_ald 0), (66, i_gei 45 [10]), (69, i_lda 0), (70, i_icge 83), (73, i_fal 73)]
def bX9_looks_73 : List (Nat × XI) := [(73, i_ald 0), (74, i_ger 1072 [10]), (77, i_ild 1), (78, i_lda 0), (79, i_psh (.int 4)), (80, i_icne 87), (83, i_fal 83)]
def bX9_looks_83 : List (Nat × XI) := [(83, i_psh (.int 1)), (84, i_got 88)]
def bX9_looks_87 : List (Nat × XI) := [(87, i_psh (.int 0)), (88, i_fal 88)]
def bX9_looks_88 : List (Nat × XI) := [(88, i_ist 2), (89, i_ild 2), (90, i_ifeq 104), (93, i_ald 0), (94, i_psh (.int 3)), (95, i_ald 0), (96, i_ger 1073 [10]), (99, i_ild 1), (100, i_lda 0), (101, i_clv 2 [(10, 111)]), (104, i_fal 104)]
def bX9_looks_104 : List (Nat × XI) := [(104, i_inc 1 1), (107, i_got 2)]
def bX9_looks_110 : List (Nat × XI) := [(110, i_ret 0)]
def rX9_looks : XM := (⟨"WaysAtlasModel", "looks", "()V"⟩, prog_36_method_52_code, 3, none, [], [(0, bX9_looks_0), (2, bX9_looks_2), (45, bX9_looks_45), (73, bX9_looks_73), (83, bX9_looks_83), (87, bX9_looks_87), (88, bX9_looks_88), (104, bX9_looks_104), (110, bX9_looks_110)], fun _ _ => none)
def bX9_fault_0 : List (Nat × XI) := [(0, i_ald 0), (1, i_gei 51 [10]), (4, i_ret 1)]
def rX9_fault : XM := (⟨"WaysAtlasModel", "fault", "()I"⟩, prog_36_method_54_code, 1, (some .int), [], [(0, bX9_fault_0)], fun _ _ => none)
def bX9_count_0 : List (Nat × XI) := [(0, i_ild 1), (1, i_psh (.int 0)), (2, i_psh (.int 4)), (3, i_cls 99 3), (6, i_ifeq 21), (9, i_ald 0), (10, i_gei 46 [10]), (13, i_ifne 23), (16, i_ild 1), (17, i_psh (.int 4)), (18, i_icge 23), (21, i_fal 21)]
def bX9_count_21 : List (Nat × XI) := [(21, i_psh (.int (-1))), (22, i_ret 1)]
def bX9_count_23 : List (Nat × XI) := [(23, i_ild 1), (24, i_tsw 0 4 96 [56, 66, 76, 86])]
def bX9_count_56 : List (Nat × XI) := [(56, i_ald 0), (57, i_ger 1060 [10]), (60, i_ald 0), (61, i_gei 44 [10]), (64, i_lda 0), (65, i_ret 1)]
def bX9_count_66 : List (Nat × XI) := [(66, i_ald 0), (67, i_ger 1069 [10]), (70, i_ald 0), (71, i_gei 44 [10]), (74, i_lda 0), (75, i_ret 1)]
def bX9_count_76 : List (Nat × XI) := [(76, i_ald 0), (77, i_ger 1071 [10]), (80, i_ald 0), (81, i_gei 44 [10]), (84, i_lda 0), (85, i_ret 1)]
def bX9_count_86 : List (Nat × XI) := [(86, i_ald 0), (87, i_ger 1067 [10]), (90, i_ald 0), (91, i_gei 44 [10]), (94, i_lda 0), (95, i_ret 1)]
def bX9_count_96 : List (Nat × XI) := [(96, i_ald 0), (97, i_gei 57 [10]), (100, i_ret 1)]
def rX9_count : XM := (⟨"WaysAtlasModel", "count", "(I)I"⟩, prog_36_method_55_code, 2, (some .int), [], [(0, bX9_count_0), (21, bX9_count_21), (23, bX9_count_23), (56, bX9_count_56), (66, bX9_count_66), (76, bX9_count_76), (86, bX9_count_86), (96, bX9_count_96)], fun _ _ => none)
def bX9_plan_0 : List (Nat × XI) := [(0, i_ald 0), (1, i_ild 1), (2, i_clv 1 [(10, 151)]), (5, i_ifeq 48), (8, i_ald 0), (9, i_ild 1), (10, i_ild 2), (11, i_clv 2 [(10, 152)]), (14, i_ifeq 48), (17, i_ild 3), (18, i_psh (.int 1)), (19, i_psh (.int 400)), (22, i_cls 99 3), (25, i_ifeq 48), (28, i_ild 4), (30, i_psh (.int 0)), (31, i_ald 0), (32, i_ger 1071 [10]), (35, i_ald 0), (36, i_gei 44 [10]), (39, i_lda 0), (40, i_psh (.int 1)), (41, i_sub), (42, i_cls 99 3), (45, i_ifne 50), (48, i_fal 48)]
def bX9_plan_48 : List (Nat × XI) := [(48, i_psh (.int (-1))), (49, i_ret 1)]
def bX9_plan_50 : List (Nat × XI) := [(50, i_ald 0), (51, i_gei 57 [10]), (54, i_psh (.int 30)), (56, i_icne 62), (59, i_psh (.int (-2))), (61, i_ret 1)]
def bX9_plan_62 : List (Nat × XI) := [(62, i_ald 0), (63, i_ger 1081 [10]), (66, i_ald 0), (67, i_gei 57 [10]), (70, i_ild 1), (71, i_ias), (72, i_ald 0), (73, i_ger 1082 [10]), (76, i_ald 0), (77, i_gei 57 [10]), (80, i_ild 2), (81, i_ias), (82, i_ald 0), (83, i_ger 1083 [10]), (86, i_ald 0), (87, i_gei 57 [10]), (90, i_ild 3), (91, i_ias), (92, i_ald 0), (93, i_ger 1084 [10]), (96, i_ald 0), (97, i_gei 57 [10]), (100, i_ild 4), (102, i_ias), (103, i_ald 0), (104, i_dup), (105, i_gei 57 [10]), (108, i_psh (.int 1)), (109, i_add), (110, i_pui 57 [10]), (113, i_ald 0), (114, i_gei 57 [10]), (117, i_ret 1)]
def rX9_plan : XM := (⟨"WaysAtlasModel", "plan", "(IIII)I"⟩, prog_36_method_58_code, 5, (some .int), [], [(0, bX9_plan_0), (48, bX9_plan_48), (50, bX9_plan_50), (62, bX9_plan_62)], fun _ _ => none)
def bX9_isStatement_0 : List (Nat × XI) := [(0, i_ald 0), (1, i_gei 46 [10]), (4, i_ifeq 30), (7, i_ild 1), (8, i_psh (.int 0)), (9, i_ald 0), (10, i_ger 1060 [10]), (13, i_ald 0), (14, i_gei 44 [10]), (17, i_lda 0), (18, i_psh (.int 1)), (19, i_sub), (20, i_cls 99 3), (23, i_ifeq 30), (26, i_psh (.int 1)), (27, i_got 31)]
def bX9_isStatement_30 : List (Nat × XI) := [(30, i_psh (.int 0)), (31, i_fal 31)]
def bX9_isStatement_31 : List (Nat × XI) := [(31, i_ret 4)]
def rX9_isStatement : XM := (⟨"WaysAtlasModel", "isStatement", "(I)Z"⟩, prog_36_method_56_code, 2, (some .boolean), [], [(0, bX9_isStatement_0), (30, bX9_isStatement_30), (31, bX9_isStatement_31)], fun _ _ => none)
def bX9_hasPart_0 : List (Nat × XI) := [(0, i_ald 0), (1, i_ild 1), (2, i_psh (.int 0)), (3, i_clv 2 [(10, 153)]), (6, i_ist 3), (7, i_ild 2), (8, i_ifne 23), (11, i_ild 3), (12, i_ifne 19), (15, i_psh (.int 1)), (16, i_got 64)]
def bX9_hasPart_19 : List (Nat × XI) := [(19, i_psh (.int 0)), (20, i_got 64)]
def bX9_hasPart_23 : List (Nat × XI) := [(23, i_ild 3), (24, i_psh (.int 17)), (26, i_icne 63), (29, i_ild 2), (30, i_psh (.int 1)), (31, i_ald 0), (32, i_ild 1), (33, i_psh (.int 1)), (34, i_clv 2 [(10, 153)]), (37, i_cls 99 3), (40, i_ifne 59), (43, i_ild 2), (44, i_psh (.int 4)), (45, i_psh (.int 3)), (46, i_ald 0), (47, i_ild 1), (48, i_psh (.int 1)), (49, i_clv 2 [(10, 153)]), (52, i_add), (53, i_cls 99 3), (56, i_ifeq 63), (59, i_fal 59)]
def bX9_hasPart_59 : List (Nat × XI) := [(59, i_psh (.int 1)), (60, i_got 64)]
def bX9_hasPart_63 : List (Nat × XI) := [(63, i_psh (.int 0)), (64, i_fal 64)]
def bX9_hasPart_64 : List (Nat × XI) := [(64, i_ret 4)]
def rX9_hasPart : XM := (⟨"WaysAtlasModel", "hasPart", "(II)Z"⟩, prog_36_method_57_code, 4, (some .boolean), [], [(0, bX9_hasPart_0), (19, bX9_hasPart_19), (23, bX9_hasPart_23), (59, bX9_hasPart_59), (63, bX9_hasPart_63), (64, bX9_hasPart_64)], fun _ _ => none)
def bX9_get_0 : List (Nat × XI) := [(0, i_ald 0), (1, i_ger 1059 [10]), (4, i_psh (.int 1280)), (7, i_ald 0), (8, i_gei 44 [10]), (11, i_mul), (12, i_psh (.int 16)), (14, i_ild 1), (15, i_mul), (16, i_add), (17, i_ild 2), (18, i_add), (19, i_lda 0), (20, i_ret 1)]
def rX9_get : XM := (⟨"WaysAtlasModel", "get", "(II)I"⟩, prog_36_method_15_code, 3, (some .int), [], [(0, bX9_get_0)], fun _ _ => none)
def bX9_clear_0 : List (Nat × XI) := [(0, i_ald 0), (1, i_gei 57 [10]), (4, i_ist 1), (5, i_ald 0), (6, i_psh (.int 0)), (7, i_pui 57 [10]), (10, i_ild 1), (11, i_ret 1)]
def rX9_clear : XM := (⟨"WaysAtlasModel", "clear", "()I"⟩, prog_36_method_59_code, 2, (some .int), [], [(0, bX9_clear_0)], fun _ _ => none)
def bX9_handler_0 : List (Nat × XI) := [(0, i_ald 0), (1, i_gei 46 [10]), (4, i_ifeq 35), (7, i_ild 1), (8, i_psh (.int 0)), (9, i_ald 0), (10, i_ger 1067 [10]), (13, i_ald 0), (14, i_gei 44 [10]), (17, i_lda 0), (18, i_psh (.int 1)), (19, i_sub), (20, i_cls 99 3), (23, i_ifeq 35), (26, i_ild 2), (27, i_psh (.int 0)), (28, i_psh (.int 2)), (29, i_cls 99 3), (32, i_ifne 37), (35, i_fal 35)]
def bX9_handler_35 : List (Nat × XI) := [(35, i_psh (.int (-1))), (36, i_ret 1)]
def bX9_handler_37 : List (Nat × XI) := [(37, i_psh (.int 160)), (40, i_ald 0), (41, i_gei 44 [10]), (44, i_mul), (45, i_ist 3), (46, i_ild 2), (47, i_psh (.int 2)), (48, i_icge 75), (51, i_ild 2), (52, i_ifne 66), (55, i_ald 0), (56, i_ger 1064 [10]), (59, i_ild 3), (60, i_ild 1), (61, i_add), (62, i_lda 0), (63, i_got 74)]
def bX9_handler_66 : List (Nat × XI) := [(66, i_ald 0), (67, i_ger 1065 [10]), (70, i_ild 3), (71, i_ild 1), (72, i_add), (73, i_lda 0), (74, i_fal 74)]
def bX9_handler_74 : List (Nat × XI) := [(74, i_ret 1)]
def bX9_handler_75 : List (Nat × XI) := [(75, i_psh (.int 0)), (76, i_ist 4), (78, i_psh (.int 0)), (79, i_ist 5), (81, i_fal 81)]
def bX9_handler_81 : List (Nat × XI) := [(81, i_ild 5), (83, i_ild 1), (84, i_icge 149), (87, i_ild 4), (89, i_ifne 136), (92, i_ald 0), (93, i_ger 1064 [10]), (96, i_ild 3), (97, i_ild 5), (99, i_add), (100, i_lda 0), (101, i_ald 0), (102, i_ger 1064 [10]), (105, i_ild 3), (106, i_ild 1), (107, i_add), (108, i_lda 0), (109, i_icne 140), (112, i_ald 0), (113, i_ald 0), (114, i_ger 1065 [10]), (117, i_ild 3), (118, i_ild 5), (120, i_add), (121, i_lda 0), (122, i_ald 0), (123, i_ger 1065 [10]), (126, i_ild 3), (127, i_ild 1), (128, i_add), (129, i_lda 0), (130, i_clv 2 [(10, 156)]), (133, i_ifeq 140), (136, i_fal 136)]
def bX9_handler_136 : List (Nat × XI) := [(136, i_psh (.int 1)), (137, i_got 141)]
def bX9_handler_140 : List (Nat × XI) := [(140, i_psh (.int 0)), (141, i_fal 141)]
def bX9_handler_141 : List (Nat × XI) := [(141, i_ist 4), (143, i_inc 5 1), (146, i_got 81)]
def bX9_handler_149 : List (Nat × XI) := [(149, i_ild 4), (151, i_ifeq 158), (154, i_psh (.int 1)), (155, i_got 159)]
def bX9_handler_158 : List (Nat × XI) := [(158, i_psh (.int 0)), (159, i_fal 159)]
def bX9_handler_159 : List (Nat × XI) := [(159, i_ret 1)]
def rX9_handler : XM := (⟨"WaysAtlasModel", "handler", "(II)I"⟩, prog_36_method_61_code, 6, (some .int), [], [(0, bX9_handler_0), (35, bX9_handler_35), (37, bX9_handler_37), (66, bX9_handler_66), (74, bX9_handler_74), (75, bX9_handler_75), (81, bX9_handler_81), (136, bX9_handler_136), (140, bX9_handler_140), (141, bX9_handler_141), (149, bX9_handler_149), (158, bX9_handler_158), (159, bX9_handler_159)], fun _ _ => none)
def bX9_isAbove_0 : List (Nat × XI) := [(0, i_ild 2), (1, i_ist 3), (2, i_fal 2)]
def bX9_isAbove_2 : List (Nat × XI) := [(2, i_ild 3), (3, i_iflt 29), (6, i_ild 3), (7, i_ild 1), (8, i_iceq 29), (11, i_ald 0), (12, i_ger 1070 [10]), (15, i_psh (.int 16)), (17, i_ald 0), (18, i_gei 44 [10]), (21, i_mul), (22, i_ild 3), (23, i_add), (24, i_lda 0), (25, i_ist 3), (26, i_got 2)]
def bX9_isAbove_29 : List (Nat × XI) := [(29, i_ild 3), (30, i_iflt 37), (33, i_psh (.int 1)), (34, i_got 38)]
def bX9_isAbove_37 : List (Nat × XI) := [(37, i_psh (.int 0)), (38, i_fal 38)]
def bX9_isAbove_38 : List (Nat × XI) := [(38, i_ret 4)]
def rX9_isAbove : XM := (⟨"WaysAtlasModel", "isAbove", "(II)Z"⟩, prog_36_method_60_code, 4, (some .boolean), [], [(0, bX9_isAbove_0), (2, bX9_isAbove_2), (29, bX9_isAbove_29), (37, bX9_isAbove_37), (38, bX9_isAbove_38)], fun _ _ => none)
def bX9_run_0 : List (Nat × XI) := [(0, i_ald 0), (1, i_ild 2), (2, i_clv 1 [(10, 158)]), (5, i_ifeq 20), (8, i_ild 5), (10, i_psh (.int 0)), (11, i_psh (.int 400)), (14, i_cls 99 3), (17, i_ifne 22), (20, i_fal 20)]
def bX9_run_20 : List (Nat × XI) := [(20, i_psh (.int (-1))), (21, i_ret 1)]
def bX9_run_22 : List (Nat × XI) := [(22, i_ald 0), (23, i_ild 1), (24, i_ifeq 31), (27, i_psh (.int 1)), (28, i_got 32)]
def bX9_run_31 : List (Nat × XI) := [(31, i_psh (.int 0)), (32, i_fal 32)]
def bX9_run_32 : List (Nat × XI) := [(32, i_pui 58 [10]), (35, i_ald 0), (36, i_psh (.int 0)), (37, i_pui 66 [10]), (40, i_ald 0), (41, i_ger 1085 [10]), (44, i_ald 0), (45, i_gei 58 [10]), (48, i_psh (.int 1)), (49, i_zas), (50, i_ald 0), (51, i_ild 2), (52, i_ild 3), (53, i_ild 4), (55, i_ild 5), (57, i_clv 4 [(10, 159)]), (60, i_ret 1)]
def rX9_run : XM := (⟨"WaysAtlasModel", "run", "(ZIIII)I"⟩, prog_36_method_95_code, 6, (some .int), [], [(0, bX9_run_0), (20, bX9_run_20), (22, bX9_run_22), (31, bX9_run_31), (32, bX9_run_32)], fun _ _ => none)
def bX9_isMethod_0 : List (Nat × XI) := [(0, i_ald 0), (1, i_gei 46 [10]), (4, i_ifeq 30), (7, i_ild 1), (8, i_psh (.int 0)), (9, i_ald 0), (10, i_ger 1069 [10]), (13, i_ald 0), (14, i_gei 44 [10]), (17, i_lda 0), (18, i_psh (.int 1)), (19, i_sub), (20, i_cls 99 3), (23, i_ifeq 30), (26, i_psh (.int 1)), (27, i_got 31)]
def bX9_isMethod_30 : List (Nat × XI) := [(30, i_psh (.int 0)), (31, i_fal 31)]
def bX9_isMethod_31 : List (Nat × XI) := [(31, i_ret 4)]
def rX9_isMethod : XM := (⟨"WaysAtlasModel", "isMethod", "(I)Z"⟩, prog_36_method_94_code, 2, (some .boolean), [], [(0, bX9_isMethod_0), (30, bX9_isMethod_30), (31, bX9_isMethod_31)], fun _ _ => none)
def bX9_runs_0 : List (Nat × XI) := [(0, i_psh (.int 0)), (1, i_ist 5), (3, i_fal 3)]
def bX9_runs_3 : List (Nat × XI) := [(3, i_ild 5), (5, i_psh (.int 10)), (7, i_icge 32), (10, i_ald 0), (11, i_ger 1086 [10]), (14, i_psh (.int 10)), (16, i_ald 0), (17, i_gei 58 [10]), (20, i_mul), (21, i_ild 5), (23, i_add), (24, i_psh (.int 0)), (25, i_ias), (26, i_inc 5 1), (29, i_got 3)]
def bX9_runs_32 : List (Nat × XI) := [(32, i_ald 0), (33, i_ger 1086 [10]), (36, i_psh (.int 10)), (38, i_ald 0), (39, i_gei 58 [10]), (42, i_mul), (43, i_psh (.int 2)), (44, i_add), (45, i_psh (.int (-9))), (47, i_ias), (48, i_psh (.int 0)), (49, i_ist 5), (51, i_fal 51)]
def bX9_runs_51 : List (Nat × XI) := [(51, i_ild 5), (53, i_psh (.int 80)), (55, i_icge 80), (58, i_ald 0), (59, i_ger 1096 [10]), (62, i_psh (.int 80)), (64, i_ald 0), (65, i_gei 58 [10]), (68, i_mul), (69, i_ild 5), (71, i_add), (72, i_psh (.int 0)), (73, i_ias), (74, i_inc 5 1), (77, i_got 51)]
def bX9_runs_80 : List (Nat × XI) := [(80, i_psh (.int 0)), (81, i_ist 5), (83, i_fal 83)]
def bX9_runs_83 : List (Nat × XI) := [(83, i_ild 5), (85, i_psh (.int 560)), (88, i_icge 105), (91, i_ald 0), (92, i_ger 1111 [10]), (95, i_ild 5), (97, i_psh (.int 0)), (98, i_ias), (99, i_inc 5 1), (102, i_got 83)]
def bX9_runs_105 : List (Nat × XI) := [(105, i_ald 0), (106, i_ild 4), (108, i_pui 59 [10]), (111, i_ald 0), (112, i_psh (.int (-1))), (113, i_pui 60 [10]), (116, i_ald 0), (117, i_psh (.int 0)), (118, i_pui 63 [10]), (121, i_ald 0), (122, i_psh (.int 0)), (123, i_pui 64 [10]), (126, i_ald 0), (127, i_psh (.int 0)), (128, i_pui 65 [10]), (131, i_ald 0), (132, i_ild 1), (133, i_ild 2), (134, i_ild 3), (135, i_psh (.int (-1))), (136, i_clv 4 [(10, 160)]), (139, i_fal 139)]
def bX9_runs_139 : List (Nat × XI) := [(139, i_ald 0), (140, i_gei 60 [10]), (143, i_ifge 153), (146, i_ald 0), (147, i_clv 0 [(10, 164)]), (150, i_got 139)]
def bX9_runs_153 : List (Nat × XI) := [(153, i_ald 0), (154, i_ger 1086 [10]), (157, i_psh (.int 10)), (159, i_ald 0), (160, i_gei 58 [10]), (163, i_mul), (164, i_ald 0), (165, i_gei 60 [10]), (168, i_ias), (169, i_ald 0), (170, i_gei 60 [10]), (173, i_ret 1)]
def rX9_runs : XM := (⟨"WaysAtlasModel", "runs", "(IIII)I"⟩, prog_36_method_93_code, 6, (some .int), [], [(0, bX9_runs_0), (3, bX9_runs_3), (32, bX9_runs_32), (51, bX9_runs_51), (80, bX9_runs_80), (83, bX9_runs_83), (105, bX9_runs_105), (139, bX9_runs_139), (153, bX9_runs_153)], fun _ _ => none)
def bX9_beginsMethod_0 : List (Nat × XI) := [(0, i_ald 0), (1, i_psh (.int 0)), (2, i_ild 4), (4, i_psh (.int 0)), (5, i_clv 3 [(10, 161)]), (8, i_ald 0), (9, i_ger 1107 [10]), (12, i_ald 0), (13, i_gei 64 [10]), (16, i_ild 1), (17, i_ias), (18, i_ald 0), (19, i_ger 1108 [10]), (22, i_ald 0), (23, i_gei 64 [10]), (26, i_psh (.int (-9))), (28, i_ias), (29, i_psh (.int 0)), (30, i_ist 5), (32, i_fal 32)]
def bX9_beginsMethod_32 : List (Nat × XI) := [(32, i_ild 5), (34, i_psh (.int 6)), (36, i_icge 80), (39, i_ald 0), (40, i_ger 1105 [10]), (43, i_psh (.int 6)), (45, i_ald 0), (46, i_gei 64 [10]), (49, i_mul), (50, i_ild 5), (52, i_add), (53, i_ild 5), (55, i_ifne 62), (58, i_ild 2), (59, i_got 73)]
def bX9_beginsMethod_62 : List (Nat × XI) := [(62, i_ild 5), (64, i_psh (.int 1)), (65, i_icne 72), (68, i_ild 3), (69, i_got 73)]
def bX9_beginsMethod_72 : List (Nat × XI) := [(72, i_psh (.int 0)), (73, i_fal 73)]
def bX9_beginsMethod_73 : List (Nat × XI) := [(73, i_ias), (74, i_inc 5 1), (77, i_got 32)]
def bX9_beginsMethod_80 : List (Nat × XI) := [(80, i_psh (.int 0)), (81, i_ist 5), (83, i_fal 83)]
def bX9_beginsMethod_83 : List (Nat × XI) := [(83, i_ild 5), (85, i_psh (.int 3)), (86, i_icge 110), (89, i_ald 0), (90, i_ger 1106 [10]), (93, i_psh (.int 3)), (94, i_ald 0), (95, i_gei 64 [10]), (98, i_mul), (99, i_ild 5), (101, i_add), (102, i_psh (.int (-1))), (103, i_ias), (104, i_inc 5 1), (107, i_got 83)]
def bX9_beginsMethod_110 : List (Nat × XI) := [(110, i_ald 0), (111, i_dup), (112, i_gei 64 [10]), (115, i_psh (.int 1)), (116, i_add), (117, i_pui 64 [10]), (120, i_ald 0), (121, i_ger 1086 [10]), (124, i_psh (.int 10)), (126, i_ald 0), (127, i_gei 58 [10]), (130, i_mul), (131, i_psh (.int 8)), (133, i_add), (134, i_ald 0), (135, i_gei 64 [10]), (138, i_ald 0), (139, i_psh (.int 8)), (141, i_clv 1 [(10, 162)]), (144, i_icle 154), (147, i_ald 0), (148, i_gei 64 [10]), (151, i_got 160)]
def bX9_beginsMethod_154 : List (Nat × XI) := [(154, i_ald 0), (155, i_psh (.int 8)), (157, i_clv 1 [(10, 162)]), (160, i_fal 160)]
def bX9_beginsMethod_160 : List (Nat × XI) := [(160, i_ias), (161, i_ald 0), (162, i_ald 0), (163, i_ger 1068 [10]), (166, i_psh (.int 8)), (168, i_ald 0), (169, i_gei 44 [10]), (172, i_mul), (173, i_ild 1), (174, i_add), (175, i_lda 0), (176, i_clv 1 [(10, 163)]), (179, i_ret 0)]
def rX9_beginsMethod : XM := (⟨"WaysAtlasModel", "beginsMethod", "(IIII)V"⟩, prog_36_method_75_code, 6, none, [], [(0, bX9_beginsMethod_0), (32, bX9_beginsMethod_32), (62, bX9_beginsMethod_62), (72, bX9_beginsMethod_72), (73, bX9_beginsMethod_73), (80, bX9_beginsMethod_80), (83, bX9_beginsMethod_83), (110, bX9_beginsMethod_110), (154, bX9_beginsMethod_154), (160, bX9_beginsMethod_160)], fun _ _ => none)
def bX9_pushes_0 : List (Nat × XI) := [(0, i_ald 0), (1, i_ger 1097 [10]), (4, i_ald 0), (5, i_gei 63 [10]), (8, i_ild 1), (9, i_ias), (10, i_ald 0), (11, i_ger 1098 [10]), (14, i_ald 0), (15, i_gei 63 [10]), (18, i_ild 2), (19, i_ias), (20, i_ald 0), (21, i_ger 1099 [10]), (24, i_ald 0), (25, i_gei 63 [10]), (28, i_ild 3), (29, i_ias), (30, i_ald 0), (31, i_ger 1100 [10]), (34, i_ald 0), (35, i_gei 63 [10]), (38, i_psh (.int 0)), (39, i_ias), (40, i_ald 0), (41, i_ger 1101 [10]), (44, i_ald 0), (45, i_gei 63 [10]), (48, i_psh (.int 0)), (49, i_ias), (50, i_ald 0), (51, i_ger 1102 [10]), (54, i_ald 0), (55, i_gei 63 [10]), (58, i_psh (.int 0)), (59, i_ias), (60, i_ald 0), (61, i_ger 1103 [10]), (64, i_ald 0), (65, i_gei 63 [10]), (68, i_psh (.int 0)), (69, i_ias), (70, i_ald 0), (71, i_ger 1104 [10]), (74, i_ald 0), (75, i_gei 63 [10]), (78, i_psh (.int (-9))), (80, i_ias), (81, i_ald 0), (82, i_dup), (83, i_gei 63 [10]), (86, i_psh (.int 1)), (87, i_add), (88, i_pui 63 [10]), (91, i_ret 0)]
def rX9_pushes : XM := (⟨"WaysAtlasModel", "pushes", "(III)V"⟩, prog_36_method_69_code, 4, none, [], [(0, bX9_pushes_0)], fun _ _ => none)
def bX9_tell_0 : List (Nat × XI) := [(0, i_ald 0), (1, i_ger 1086 [10]), (4, i_psh (.int 10)), (6, i_ald 0), (7, i_gei 58 [10]), (10, i_mul), (11, i_ild 1), (12, i_add), (13, i_lda 0), (14, i_ret 1)]
def rX9_tell : XM := (⟨"WaysAtlasModel", "tell", "(I)I"⟩, prog_36_method_63_code, 2, (some .int), [], [(0, bX9_tell_0)], fun _ _ => none)
def bX9_entersBlock_0 : List (Nat × XI) := [(0, i_ald 0), (1, i_psh (.int 1)), (2, i_psh (.int (-1))), (3, i_ald 0), (4, i_ger 1063 [10]), (7, i_psh (.int 400)), (10, i_ald 0), (11, i_gei 44 [10]), (14, i_mul), (15, i_ild 1), (16, i_add), (17, i_lda 0), (18, i_clv 3 [(10, 161)]), (21, i_ald 0), (22, i_psh (.int (-1))), (23, i_pui 61 [10]), (26, i_ret 0)]
def rX9_entersBlock : XM := (⟨"WaysAtlasModel", "entersBlock", "(I)V"⟩, prog_36_method_70_code, 2, none, [], [(0, bX9_entersBlock_0)], fun _ _ => none)
def bX9_goesOnce_0 : List (Nat × XI) := [(0, i_ald 0), (1, i_gei 63 [10]), (4, i_psh (.int 1)), (5, i_sub), (6, i_ist 1), (7, i_ald 0), (8, i_gei 61 [10]), (11, i_psh (.int (-1))), (12, i_icne 80), (15, i_ald 0), (16, i_ger 1099 [10]), (19, i_ild 1), (20, i_lda 0), (21, i_ist 2), (22, i_ild 2), (23, i_ifge 42), (26, i_ald 0), (27, i_dup), (28, i_gei 63 [10]), (31, i_psh (.int 1)), (32, i_sub), (33, i_pui 63 [10]), (36, i_ald 0), (37, i_psh (.int 0)), (38, i_pui 61 [10]), (41, i_ret 0)]
def bX9_goesOnce_42 : List (Nat × XI) := [(42, i_ald 0), (43, i_ger 1099 [10]), (46, i_ild 1), (47, i_ald 0), (48, i_ild 2), (49, i_psh (.int 10)), (51, i_clv 2 [(10, 153)]), (54, i_ias), (55, i_ald 0), (56, i_clv 0 [(10, 165)]), (59, i_ifeq 79), (62, i_ald 0), (63, i_ger 1108 [10]), (66, i_ald 0), (67, i_gei 64 [10]), (70, i_psh (.int 1)), (71, i_sub), (72, i_ild 2), (73, i_ias), (74, i_ald 0), (75, i_ild 2), (76, i_clv 1 [(10, 166)]), (79, i_fal 79)]
def bX9_goesOnce_79 : List (Nat × XI) := [(79, i_ret 0)]
def bX9_goesOnce_80 : List (Nat × XI) := [(80, i_ald 0), (81, i_ger 1097 [10]), (84, i_ild 1), (85, i_lda 0), (86, i_tsw 1 3 156 [112, 140, 148])]
def bX9_goesOnce_112 : List (Nat × XI) := [(112, i_ald 0), (113, i_gei 61 [10]), (116, i_ifne 127), (119, i_ald 0), (120, i_psh (.int (-1))), (121, i_pui 61 [10]), (124, i_got 161)]
def bX9_goesOnce_127 : List (Nat × XI) := [(127, i_ald 0), (128, i_dup), (129, i_gei 63 [10]), (132, i_psh (.int 1)), (133, i_sub), (134, i_pui 63 [10]), (137, i_got 161)]
def bX9_goesOnce_140 : List (Nat × XI) := [(140, i_ald 0), (141, i_ild 1), (142, i_clv 1 [(10, 184)]), (145, i_got 161)]
def bX9_goesOnce_148 : List (Nat × XI) := [(148, i_ald 0), (149, i_ild 1), (150, i_clv 1 [(10, 185)]), (153, i_got 161)]
def bX9_goesOnce_156 : List (Nat × XI) := [(156, i_ald 0), (157, i_ild 1), (158, i_clv 1 [(10, 190)]), (161, i_fal 161)]
def bX9_goesOnce_161 : List (Nat × XI) := [(161, i_ret 0)]
def rX9_goesOnce : XM := (⟨"WaysAtlasModel", "goesOnce", "()V"⟩, prog_36_method_92_code, 3, none, [], [(0, bX9_goesOnce_0), (42, bX9_goesOnce_42), (79, bX9_goesOnce_79), (80, bX9_goesOnce_80), (112, bX9_goesOnce_112), (127, bX9_goesOnce_127), (140, bX9_goesOnce_140), (148, bX9_goesOnce_148), (156, bX9_goesOnce_156), (161, bX9_goesOnce_161)], fun _ _ => none)
def bX9_takesStep_0 : List (Nat × XI) := [(0, i_ald 0), (1, i_gei 59 [10]), (4, i_ifne 14), (7, i_ald 0), (8, i_psh (.int 2)), (9, i_pui 60 [10]), (12, i_psh (.int 0)), (13, i_ret 4)]
def bX9_takesStep_14 : List (Nat × XI) := [(14, i_ald 0), (15, i_dup), (16, i_gei 59 [10]), (19, i_psh (.int 1)), (20, i_sub), (21, i_pui 59 [10]), (24, i_ald 0), (25, i_ger 1086 [10]), (28, i_psh (.int 10)), (30, i_ald 0), (31, i_gei 58 [10]), (34, i_mul), (35, i_psh (.int 9)), (37, i_add), (38, i_du2), (39, i_lda 0), (40, i_psh (.int 1)), (41, i_add), (42, i_ias), (43, i_psh (.int 1)), (44, i_ret 4)]
def rX9_takesStep : XM := (⟨"WaysAtlasModel", "takesStep", "()Z"⟩, prog_36_method_62_code, 1, (some .boolean), [], [(0, bX9_takesStep_0), (14, bX9_takesStep_14)], fun _ _ => none)
def bX9_does_0 : List (Nat × XI) := [(0, i_ald 0), (1, i_ild 1), (2, i_psh (.int 0)), (3, i_clv 2 [(10, 153)]), (6, i_tsw 0 17 401 [88, 140, 181, 189, 197, 221, 254, 181, 262, 289, 297, 305, 319, 333, 346, 368, 380])]
def bX9_does_88 : List (Nat × XI) := [(88, i_ald 0), (89, i_ild 1), (90, i_psh (.int 0)), (91, i_clv 2 [(10, 167)]), (94, i_ist 2), (95, i_ild 2), (96, i_iflt 107), (99, i_ald 0), (100, i_ild 2), (101, i_clv 1 [(10, 168)]), (104, i_got 406)]
def bX9_does_107 : List (Nat × XI) := [(107, i_ald 0), (108, i_ger 1087 [10]), (111, i_psh (.int 410)), (114, i_ald 0), (115, i_gei 58 [10]), (118, i_mul), (119, i_ald 0), (120, i_psh (.int 3)), (121, i_clv 1 [(10, 162)]), (124, i_add), (125, i_ald 0), (126, i_ild 1), (127, i_psh (.int 1)), (128, i_clv 2 [(10, 153)]), (131, i_ias), (132, i_ald 0), (133, i_psh (.int 3)), (134, i_clv 1 [(10, 170)]), (137, i_got 406)]
def bX9_does_140 : List (Nat × XI) := [(140, i_ald 0), (141, i_ild 1), (142, i_psh (.int 3)), (143, i_psh (.int 4)), (144, i_clv 3 [(10, 171)]), (147, i_ist 3), (148, i_ald 0), (149, i_gei 61 [10]), (152, i_psh (.int (-1))), (153, i_icne 406), (156, i_ald 0), (157, i_ger 1105 [10]), (160, i_psh (.int 6)), (162, i_ald 0), (163, i_gei 64 [10]), (166, i_psh (.int 1)), (167, i_sub), (168, i_mul), (169, i_ald 0), (170, i_ild 1), (171, i_psh (.int 1)), (172, i_clv 2 [(10, 153)]), (175, i_add), (176, i_ild 3), (177, i_ias), (178, i_got 406)]
def bX9_does_181 : List (Nat × XI) := [(181, i_ald 0), (182, i_ild 1), (183, i_clv 1 [(10, 175)]), (186, i_got 406)]
def bX9_does_189 : List (Nat × XI) := [(189, i_ald 0), (190, i_ild 1), (191, i_clv 1 [(10, 176)]), (194, i_got 406)]
def bX9_does_197 : List (Nat × XI) := [(197, i_ald 0), (198, i_ger 1106 [10]), (201, i_psh (.int 3)), (202, i_ald 0), (203, i_gei 64 [10]), (206, i_psh (.int 1)), (207, i_sub), (208, i_mul), (209, i_ald 0), (210, i_ild 1), (211, i_psh (.int 1)), (212, i_clv 2 [(10, 153)]), (215, i_add), (216, i_psh (.int (-1))), (217, i_ias), (218, i_got 406)]
def bX9_does_221 : List (Nat × XI) := [(221, i_ald 0), (222, i_ger 1106 [10]), (225, i_psh (.int 3)), (226, i_ald 0), (227, i_gei 64 [10]), (230, i_psh (.int 1)), (231, i_sub), (232, i_mul), (233, i_ald 0), (234, i_ild 1), (235, i_psh (.int 1)), (236, i_clv 2 [(10, 153)]), (239, i_add), (240, i_ald 0), (241, i_ald 0), (242, i_ild 1), (243, i_psh (.int 2)), (244, i_clv 2 [(10, 153)]), (247, i_clv 1 [(10, 172)]), (250, i_ias), (251, i_got 406)]
def bX9_does_254 : List (Nat × XI) := [(254, i_ald 0), (255, i_ild 1), (256, i_clv 1 [(10, 177)]), (259, i_got 406)]
def bX9_does_262 : List (Nat × XI) := [(262, i_ald 0), (263, i_ild 1), (264, i_psh (.int 3)), (265, i_psh (.int 4)), (266, i_clv 3 [(10, 171)]), (269, i_ist 4), (271, i_ald 0), (272, i_gei 61 [10]), (275, i_psh (.int (-1))), (276, i_icne 406), (279, i_ald 0), (280, i_psh (.int 1)), (281, i_ild 4), (283, i_clv 2 [(10, 178)]), (286, i_got 406)]
def bX9_does_289 : List (Nat × XI) := [(289, i_ald 0), (290, i_ild 1), (291, i_clv 1 [(10, 179)]), (294, i_got 406)]
def bX9_does_297 : List (Nat × XI) := [(297, i_ald 0), (298, i_ild 1), (299, i_clv 1 [(10, 180)]), (302, i_got 406)]
def bX9_does_305 : List (Nat × XI) := [(305, i_ald 0), (306, i_psh (.int 2)), (307, i_ald 0), (308, i_ild 1), (309, i_psh (.int 1)), (310, i_clv 2 [(10, 153)]), (313, i_clv 2 [(10, 178)]), (316, i_got 406)]
def bX9_does_319 : List (Nat × XI) := [(319, i_ald 0), (320, i_psh (.int 3)), (321, i_ald 0), (322, i_ild 1), (323, i_psh (.int 1)), (324, i_clv 2 [(10, 153)]), (327, i_clv 2 [(10, 178)]), (330, i_got 406)]
def bX9_does_333 : List (Nat × XI) := [(333, i_ald 0), (334, i_ald 0), (335, i_ild 1), (336, i_psh (.int 1)), (337, i_clv 2 [(10, 153)]), (340, i_clv 1 [(10, 168)]), (343, i_got 406)]
def bX9_does_346 : List (Nat × XI) := [(346, i_ald 0), (347, i_psh (.int 4)), (348, i_ald 0), (349, i_ald 0), (350, i_ild 1), (351, i_psh (.int 1)), (352, i_clv 2 [(10, 153)]), (355, i_ald 0), (356, i_clv 0 [(10, 182)]), (359, i_clv 2 [(10, 169)]), (362, i_clv 2 [(10, 178)]), (365, i_got 406)]
def bX9_does_368 : List (Nat × XI) := [(368, i_ald 0), (369, i_psh (.int 4)), (370, i_ald 0), (371, i_clv 0 [(10, 182)]), (374, i_clv 2 [(10, 178)]), (377, i_got 406)]
def bX9_does_380 : List (Nat × XI) := [(380, i_ald 0), (381, i_psh (.int 3)), (382, i_ild 1), (383, i_psh (.int 0)), (384, i_clv 3 [(10, 161)]), (387, i_ald 0), (388, i_ald 0), (389, i_ild 1), (390, i_psh (.int 7)), (392, i_clv 2 [(10, 153)]), (395, i_clv 1 [(10, 163)]), (398, i_got 406)]
def bX9_does_401 : List (Nat × XI) := [(401, i_ald 0), (402, i_ild 1), (403, i_clv 1 [(10, 183)]), (406, i_fal 406)]
def bX9_does_406 : List (Nat × XI) := [(406, i_ret 0)]
def rX9_does : XM := (⟨"WaysAtlasModel", "does", "(I)V"⟩, prog_36_method_84_code, 5, none, [], [(0, bX9_does_0), (88, bX9_does_88), (107, bX9_does_107), (140, bX9_does_140), (181, bX9_does_181), (189, bX9_does_189), (197, bX9_does_197), (221, bX9_does_221), (254, bX9_does_254), (262, bX9_does_262), (289, bX9_does_289), (297, bX9_does_297), (305, bX9_does_305), (319, bX9_does_319), (333, bX9_does_333), (346, bX9_does_346), (368, bX9_does_368), (380, bX9_does_380), (401, bX9_does_401), (406, bX9_does_406)], fun _ _ => none)
def bX9_passes_0 : List (Nat × XI) := [(0, i_ald 0), (1, i_ger 1111 [10]), (4, i_psh (.int 7)), (6, i_ild 1), (7, i_mul), (8, i_ild 2), (9, i_add), (10, i_du2), (11, i_lda 0), (12, i_psh (.int 1)), (13, i_add), (14, i_ias), (15, i_ald 0), (16, i_ger 1111 [10]), (19, i_psh (.int 7)), (21, i_ild 1), (22, i_mul), (23, i_ild 2), (24, i_add), (25, i_lda 0), (26, i_ist 3), (27, i_ald 0), (28, i_gei 66 [10]), (31, i_psh (.int 1)), (32, i_icne 86), (35, i_ald 0), (36, i_gei 70 [10]), (39, i_psh (.int 60)), (41, i_icge 84), (44, i_ald 0), (45, i_ger 1112 [10]), (48, i_ald 0), (49, i_gei 70 [10]), (52, i_ild 1), (53, i_ias), (54, i_ald 0), (55, i_ger 1113 [10]), (58, i_ald 0), (59, i_gei 70 [10]), (62, i_ild 2), (63, i_ias), (64, i_ald 0), (65, i_ger 1114 [10]), (68, i_ald 0), (69, i_gei 70 [10]), (72, i_ild 3), (73, i_ias), (74, i_ald 0), (75, i_dup), (76, i_gei 70 [10]), (79, i_psh (.int 1)), (80, i_add), (81, i_pui 70 [10]), (84, i_fal 84)]
def bX9_passes_84 : List (Nat × XI) := [(84, i_psh (.int (-1))), (85, i_ret 1)]
def bX9_passes_86 : List (Nat × XI) := [(86, i_ald 0), (87, i_gei 66 [10]), (90, i_psh (.int 2)), (91, i_icne 124), (94, i_ild 1), (95, i_ald 0), (96, i_gei 67 [10]), (99, i_icne 122), (102, i_ild 2), (103, i_ald 0), (104, i_gei 68 [10]), (107, i_icne 122), (110, i_ild 3), (111, i_ald 0), (112, i_gei 69 [10]), (115, i_icne 122), (118, i_psh (.int 0)), (119, i_got 123)]
def bX9_passes_122 : List (Nat × XI) := [(122, i_psh (.int (-1))), (123, i_fal 123)]
def bX9_passes_123 : List (Nat × XI) := [(123, i_ret 1)]
def bX9_passes_124 : List (Nat × XI) := [(124, i_psh (.int 0)), (125, i_ist 4), (127, i_fal 127)]
def bX9_passes_127 : List (Nat × XI) := [(127, i_ild 4), (129, i_ald 0), (130, i_gei 57 [10]), (133, i_icge 183), (136, i_ald 0), (137, i_ger 1081 [10]), (140, i_ild 4), (142, i_lda 0), (143, i_ild 1), (144, i_icne 177), (147, i_ald 0), (148, i_ger 1082 [10]), (151, i_ild 4), (153, i_lda 0), (154, i_ild 2), (155, i_icne 177), (158, i_ald 0), (159, i_ger 1083 [10]), (162, i_ild 4), (164, i_lda 0), (165, i_ild 3), (166, i_icne 177), (169, i_ald 0), (170, i_ger 1084 [10]), (173, i_ild 4), (175, i_lda 0), (176, i_ret 1)]
def bX9_passes_177 : List (Nat × XI) := [(177, i_inc 4 1), (180, i_got 127)]
def bX9_passes_183 : List (Nat × XI) := [(183, i_psh (.int (-1))), (184, i_ret 1)]
def rX9_passes : XM := (⟨"WaysAtlasModel", "passes", "(II)I"⟩, prog_36_method_65_code, 5, (some .int), [], [(0, bX9_passes_0), (84, bX9_passes_84), (86, bX9_passes_86), (122, bX9_passes_122), (123, bX9_passes_123), (124, bX9_passes_124), (127, bX9_passes_127), (177, bX9_passes_177), (183, bX9_passes_183)], fun _ _ => none)
def bX9_fail_0 : List (Nat × XI) := [(0, i_ald 0), (1, i_psh (.int 4)), (2, i_pui 61 [10]), (5, i_ald 0), (6, i_ald 0), (7, i_ild 1), (8, i_psh (.int (-9))), (10, i_clv 2 [(10, 169)]), (13, i_pui 62 [10]), (16, i_ret 0)]
def rX9_fail : XM := (⟨"WaysAtlasModel", "fail", "(I)V"⟩, prog_36_method_67_code, 2, none, [], [(0, bX9_fail_0)], fun _ _ => none)
def bX9_makes_0 : List (Nat × XI) := [(0, i_ald 0), (1, i_psh (.int 4)), (2, i_clv 1 [(10, 162)]), (5, i_ist 3), (6, i_psh (.int 420)), (9, i_ald 0), (10, i_gei 58 [10]), (13, i_mul), (14, i_ild 3), (15, i_add), (16, i_ist 4), (18, i_ald 0), (19, i_ger 1088 [10]), (22, i_ild 4), (24, i_ild 1), (25, i_ias), (26, i_ald 0), (27, i_ger 1089 [10]), (30, i_ild 4), (32, i_ild 2), (33, i_ias), (34, i_ald 0), (35, i_ger 1090 [10]), (38, i_ild 4), (40, i_psh (.int (-9))), (42, i_ias), (43, i_ald 0), (44, i_ger 1091 [10]), (47, i_ild 4), (49, i_psh (.int (-9))), (51, i_ias), (52, i_ald 0), (53, i_ger 1092 [10]), (56, i_ild 4), (58, i_ald 0), (59, i_ger 1108 [10]), (62, i_ald 0), (63, i_gei 64 [10]), (66, i_psh (.int 1)), (67, i_sub), (68, i_lda 0), (69, i_ias), (70, i_ald 0), (71, i_ger 1093 [10]), (74, i_ild 4), (76, i_ald 0), (77, i_gei 64 [10]), (80, i_ias), (81, i_psh (.int 0)), (82, i_ist 5), (84, i_fal 84)]
def bX9_makes_84 : List (Nat × XI) := [(84, i_ild 5), (86, i_ald 0), (87, i_gei 64 [10]), (90, i_icge 153), (93, i_ald 0), (94, i_ger 1094 [10]), (97, i_psh (.int 5040)), (100, i_ald 0), (101, i_gei 58 [10]), (104, i_mul), (105, i_psh (.int 12)), (107, i_ild 3), (108, i_mul), (109, i_add), (110, i_ild 5), (112, i_add), (113, i_psh (.int 1000)), (116, i_ald 0), (117, i_ger 1107 [10]), (120, i_ald 0), (121, i_gei 64 [10]), (124, i_psh (.int 1)), (125, i_sub), (126, i_ild 5), (128, i_sub), (129, i_lda 0), (130, i_mul), (131, i_ald 0), (132, i_ger 1108 [10]), (135, i_ald 0), (136, i_gei 64 [10]), (139, i_psh (.int 1)), (140, i_sub), (141, i_ild 5), (143, i_sub), (144, i_lda 0), (145, i_add), (146, i_ias), (147, i_inc 5 1), (150, i_got 84)]
def bX9_makes_153 : List (Nat × XI) := [(153, i_ald 0), (154, i_psh (.int 4)), (155, i_clv 1 [(10, 170)]), (158, i_ild 3), (159, i_ret 1)]
def rX9_makes : XM := (⟨"WaysAtlasModel", "makes", "(II)I"⟩, prog_36_method_66_code, 6, (some .int), [], [(0, bX9_makes_0), (84, bX9_makes_84), (153, bX9_makes_153)], fun _ _ => none)
def bX9_more_0 : List (Nat × XI) := [(0, i_ald 0), (1, i_ger 1086 [10]), (4, i_psh (.int 10)), (6, i_ald 0), (7, i_gei 58 [10]), (10, i_mul), (11, i_ild 1), (12, i_add), (13, i_du2), (14, i_lda 0), (15, i_psh (.int 1)), (16, i_add), (17, i_ias), (18, i_ret 0)]
def rX9_more : XM := (⟨"WaysAtlasModel", "more", "(I)V"⟩, prog_36_method_64_code, 2, none, [], [(0, bX9_more_0)], fun _ _ => none)
def bX9_eval_0 : List (Nat × XI) := [(0, i_ald 0), (1, i_psh (.int 0)), (2, i_pui 71 [10]), (5, i_ald 0), (6, i_psh (.int 0)), (7, i_pui 72 [10]), (10, i_ald 0), (11, i_ild 1), (12, i_ild 2), (13, i_clv 2 [(10, 153)]), (16, i_ist 4), (18, i_fal 18)]
def bX9_eval_18 : List (Nat × XI) := [(18, i_ild 4), (20, i_ald 0), (21, i_ild 1), (22, i_ild 3), (23, i_clv 2 [(10, 153)]), (26, i_icge 322), (29, i_ald 0), (30, i_gei 72 [10]), (33, i_ifne 322), (36, i_ald 0), (37, i_ger 1061 [10]), (40, i_psh (.int 1100)), (43, i_ald 0), (44, i_gei 44 [10]), (47, i_mul), (48, i_ild 4), (50, i_add), (51, i_lda 0), (52, i_ist 5), (54, i_ald 0), (55, i_ger 1062 [10]), (58, i_psh (.int 1100)), (61, i_ald 0), (62, i_gei 44 [10]), (65, i_mul), (66, i_ild 4), (68, i_add), (69, i_lda 0), (70, i_ist 6), (72, i_ild 5), (74, i_ifeq 83), (77, i_ild 5), (79, i_psh (.int 1)), (80, i_icne 132), (83, i_fal 83)]
def bX9_eval_83 : List (Nat × XI) := [(83, i_ald 0), (84, i_ger 1115 [10]), (87, i_ald 0), (88, i_gei 71 [10]), (91, i_ild 5), (93, i_ifne 101), (96, i_ild 6), (98, i_got 118)]
def bX9_eval_101 : List (Nat × XI) := [(101, i_ald 0), (102, i_ger 1105 [10]), (105, i_psh (.int 6)), (107, i_ald 0), (108, i_gei 64 [10]), (111, i_psh (.int 1)), (112, i_sub), (113, i_mul), (114, i_ild 6), (116, i_add), (117, i_lda 0), (118, i_fal 118)]
def bX9_eval_118 : List (Nat × XI) := [(118, i_ias), (119, i_ald 0), (120, i_dup), (121, i_gei 71 [10]), (124, i_psh (.int 1)), (125, i_add), (126, i_pui 71 [10]), (129, i_got 316)]
def bX9_eval_132 : List (Nat × XI) := [(132, i_ild 5), (134, i_psh (.int 3)), (135, i_icne 200), (138, i_ald 0), (139, i_ald 0), (140, i_ild 6), (142, i_clv 1 [(10, 172)]), (145, i_ifge 152), (148, i_psh (.int 4)), (149, i_got 153)]
def bX9_eval_152 : List (Nat × XI) := [(152, i_psh (.int 0)), (153, i_fal 153)]
def bX9_eval_153 : List (Nat × XI) := [(153, i_pui 72 [10]), (156, i_ald 0), (157, i_ger 1115 [10]), (160, i_ald 0), (161, i_gei 71 [10]), (164, i_ald 0), (165, i_gei 72 [10]), (168, i_ifne 185), (171, i_ald 0), (172, i_ger 1109 [10]), (175, i_ald 0), (176, i_ild 6), (178, i_clv 1 [(10, 172)]), (181, i_lda 0), (182, i_got 186)]
def bX9_eval_185 : List (Nat × XI) := [(185, i_psh (.int 0)), (186, i_fal 186)]
def bX9_eval_186 : List (Nat × XI) := [(186, i_ias), (187, i_ald 0), (188, i_dup), (189, i_gei 71 [10]), (192, i_psh (.int 1)), (193, i_add), (194, i_pui 71 [10]), (197, i_got 316)]
def bX9_eval_200 : List (Nat × XI) := [(200, i_ild 5), (202, i_psh (.int 2)), (203, i_icne 237), (206, i_ald 0), (207, i_ger 1115 [10]), (210, i_ald 0), (211, i_gei 71 [10]), (214, i_psh (.int 1)), (215, i_sub), (216, i_ald 0), (217, i_ild 6), (219, i_ald 0), (220, i_ger 1115 [10]), (223, i_ald 0), (224, i_gei 71 [10]), (227, i_psh (.int 1)), (228, i_sub), (229, i_lda 0), (230, i_clv 2 [(10, 173)]), (233, i_ias), (234, i_got 316)]
def bX9_eval_237 : List (Nat × XI) := [(237, i_ild 5), (239, i_psh (.int 4)), (240, i_icne 269), (243, i_ald 0), (244, i_ger 1115 [10]), (247, i_ald 0), (248, i_gei 71 [10]), (251, i_psh (.int 1)), (252, i_sub), (253, i_ald 0), (254, i_ger 1115 [10]), (257, i_ald 0), (258, i_gei 71 [10]), (261, i_psh (.int 1)), (262, i_sub), (263, i_lda 0), (264, i_neg), (265, i_ias), (266, i_got 316)]
def bX9_eval_269 : List (Nat × XI) := [(269, i_ald 0), (270, i_dup), (271, i_gei 71 [10]), (274, i_psh (.int 1)), (275, i_sub), (276, i_pui 71 [10]), (279, i_ald 0), (280, i_ger 1115 [10]), (283, i_ald 0), (284, i_gei 71 [10]), (287, i_psh (.int 1)), (288, i_sub), (289, i_ald 0), (290, i_ild 5), (292, i_ald 0), (293, i_ger 1115 [10]), (296, i_ald 0), (297, i_gei 71 [10]), (300, i_psh (.int 1)), (301, i_sub), (302, i_lda 0), (303, i_ald 0), (304, i_ger 1115 [10]), (307, i_ald 0), (308, i_gei 71 [10]), (311, i_lda 0), (312, i_clv 3 [(10, 174)]), (315, i_ias), (316, i_fal 316)]
def bX9_eval_316 : List (Nat × XI) := [(316, i_inc 4 1), (319, i_got 18)]
def bX9_eval_322 : List (Nat × XI) := [(322, i_ald 0), (323, i_gei 72 [10]), (326, i_ifeq 339), (329, i_ald 0), (330, i_ald 0), (331, i_gei 72 [10]), (334, i_clv 1 [(10, 168)]), (337, i_psh (.int 0)), (338, i_ret 1)]
def bX9_eval_339 : List (Nat × XI) := [(339, i_ald 0), (340, i_ger 1115 [10]), (343, i_psh (.int 0)), (344, i_lda 0), (345, i_ret 1)]
def rX9_eval : XM := (⟨"WaysAtlasModel", "eval", "(III)I"⟩, prog_36_method_74_code, 7, (some .int), [], [(0, bX9_eval_0), (18, bX9_eval_18), (83, bX9_eval_83), (101, bX9_eval_101), (118, bX9_eval_118), (132, bX9_eval_132), (152, bX9_eval_152), (153, bX9_eval_153), (185, bX9_eval_185), (186, bX9_eval_186), (200, bX9_eval_200), (237, bX9_eval_237), (269, bX9_eval_269), (316, bX9_eval_316), (322, bX9_eval_322), (339, bX9_eval_339)], fun _ _ => none)
def bX9_row_0 : List (Nat × XI) := [(0, i_ald 0), (1, i_ger 1106 [10]), (4, i_psh (.int 3)), (5, i_ald 0), (6, i_gei 64 [10]), (9, i_psh (.int 1)), (10, i_sub), (11, i_mul), (12, i_ild 1), (13, i_add), (14, i_lda 0), (15, i_ret 1)]
def rX9_row : XM := (⟨"WaysAtlasModel", "row", "(I)I"⟩, prog_36_method_71_code, 2, (some .int), [], [(0, bX9_row_0)], fun _ _ => none)
def bX9_evalRow_0 : List (Nat × XI) := [(0, i_ald 0), (1, i_ild 1), (2, i_clv 1 [(10, 172)]), (5, i_ifge 15), (8, i_ald 0), (9, i_psh (.int 4)), (10, i_pui 72 [10]), (13, i_psh (.int 0)), (14, i_ret 1)]
def bX9_evalRow_15 : List (Nat × XI) := [(15, i_ild 2), (16, i_psh (.int 0)), (17, i_ald 0), (18, i_ger 1109 [10]), (21, i_ald 0), (22, i_ild 1), (23, i_clv 1 [(10, 172)]), (26, i_lda 0), (27, i_psh (.int 1)), (28, i_sub), (29, i_cls 99 3), (32, i_ifne 42), (35, i_ald 0), (36, i_psh (.int 3)), (37, i_pui 72 [10]), (40, i_psh (.int 0)), (41, i_ret 1)]
def bX9_evalRow_42 : List (Nat × XI) := [(42, i_ald 0), (43, i_ger 1110 [10]), (46, i_psh (.int 8)), (48, i_ald 0), (49, i_ild 1), (50, i_clv 1 [(10, 172)]), (53, i_mul), (54, i_ild 2), (55, i_add), (56, i_lda 0), (57, i_ret 1)]
def rX9_evalRow : XM := (⟨"WaysAtlasModel", "evalRow", "(II)I"⟩, prog_36_method_72_code, 3, (some .int), [], [(0, bX9_evalRow_0), (15, bX9_evalRow_15), (42, bX9_evalRow_42)], fun _ _ => none)
def bX9_sign_0 : List (Nat × XI) := [(0, i_ild 1), (1, i_psh (.int 7)), (3, i_icle 17), (6, i_ild 3), (7, i_ifne 17), (10, i_ald 0), (11, i_psh (.int 2)), (12, i_pui 72 [10]), (15, i_psh (.int 0)), (16, i_ret 1)]
def bX9_sign_17 : List (Nat × XI) := [(17, i_ild 1), (18, i_psh (.int 5)), (19, i_icne 28), (22, i_ild 2), (23, i_ild 3), (24, i_add), (25, i_got 67)]
def bX9_sign_28 : List (Nat × XI) := [(28, i_ild 1), (29, i_psh (.int 6)), (31, i_icne 40), (34, i_ild 2), (35, i_ild 3), (36, i_sub), (37, i_got 67)]
def bX9_sign_40 : List (Nat × XI) := [(40, i_ild 1), (41, i_psh (.int 7)), (43, i_icne 52), (46, i_ild 2), (47, i_ild 3), (48, i_mul), (49, i_got 67)]
def bX9_sign_52 : List (Nat × XI) := [(52, i_ild 1), (53, i_psh (.int 8)), (55, i_icne 64), (58, i_ild 2), (59, i_ild 3), (60, i_div), (61, i_got 67)]
def bX9_sign_64 : List (Nat × XI) := [(64, i_ild 2), (65, i_ild 3), (66, i_rem), (67, i_fal 67)]
def bX9_sign_67 : List (Nat × XI) := [(67, i_ret 1)]
def rX9_sign : XM := (⟨"WaysAtlasModel", "sign", "(III)I"⟩, prog_36_method_73_code, 4, (some .int), [], [(0, bX9_sign_0), (17, bX9_sign_17), (28, bX9_sign_28), (40, bX9_sign_40), (52, bX9_sign_52), (64, bX9_sign_64), (67, bX9_sign_67)], fun _ _ => none)
def bX9_calls_0 : List (Nat × XI) := [(0, i_ald 0), (1, i_ild 1), (2, i_psh (.int 3)), (3, i_psh (.int 4)), (4, i_clv 3 [(10, 171)]), (7, i_ist 2), (8, i_ald 0), (9, i_gei 61 [10]), (12, i_psh (.int (-1))), (13, i_icne 27), (16, i_ald 0), (17, i_ild 1), (18, i_psh (.int 5)), (19, i_psh (.int 6)), (21, i_clv 3 [(10, 171)]), (24, i_got 28)]
def bX9_calls_27 : List (Nat × XI) := [(27, i_psh (.int 0)), (28, i_fal 28)]
def bX9_calls_28 : List (Nat × XI) := [(28, i_ist 3), (29, i_ald 0), (30, i_gei 61 [10]), (33, i_psh (.int (-1))), (34, i_iceq 38), (37, i_ret 0)]
def bX9_calls_38 : List (Nat × XI) := [(38, i_ald 0), (39, i_gei 64 [10]), (42, i_psh (.int 12)), (44, i_icne 56), (47, i_ald 0), (48, i_psh (.int 6)), (50, i_clv 1 [(10, 168)]), (53, i_got 88)]
def bX9_calls_56 : List (Nat × XI) := [(56, i_ald 0), (57, i_ald 0), (58, i_ild 1), (59, i_psh (.int 2)), (60, i_clv 2 [(10, 153)]), (63, i_ild 2), (64, i_ild 3), (65, i_ald 0), (66, i_ild 1), (67, i_psh (.int 0)), (68, i_clv 2 [(10, 153)]), (71, i_psh (.int 2)), (72, i_icne 84), (75, i_ald 0), (76, i_ild 1), (77, i_psh (.int 1)), (78, i_clv 2 [(10, 153)]), (81, i_got 85)]
def bX9_calls_84 : List (Nat × XI) := [(84, i_psh (.int (-1))), (85, i_fal 85)]
def bX9_calls_85 : List (Nat × XI) := [(85, i_clv 4 [(10, 160)]), (88, i_fal 88)]
def bX9_calls_88 : List (Nat × XI) := [(88, i_ret 0)]
def rX9_calls : XM := (⟨"WaysAtlasModel", "calls", "(I)V"⟩, prog_36_method_76_code, 4, none, [], [(0, bX9_calls_0), (27, bX9_calls_27), (28, bX9_calls_28), (38, bX9_calls_38), (56, bX9_calls_56), (84, bX9_calls_84), (85, bX9_calls_85), (88, bX9_calls_88)], fun _ _ => none)
def bX9_newRow_0 : List (Nat × XI) := [(0, i_ald 0), (1, i_ild 1), (2, i_psh (.int 3)), (3, i_psh (.int 4)), (4, i_clv 3 [(10, 171)]), (7, i_ist 2), (8, i_ald 0), (9, i_gei 61 [10]), (12, i_psh (.int (-1))), (13, i_iceq 17), (16, i_ret 0)]
def bX9_newRow_17 : List (Nat × XI) := [(17, i_ild 2), (18, i_psh (.int 0)), (19, i_psh (.int 8)), (21, i_cls 99 3), (24, i_ifne 33), (27, i_ald 0), (28, i_psh (.int 5)), (29, i_clv 1 [(10, 168)]), (32, i_ret 0)]
def bX9_newRow_33 : List (Nat × XI) := [(33, i_ald 0), (34, i_ger 1109 [10]), (37, i_ald 0), (38, i_gei 65 [10]), (41, i_ild 2), (42, i_ias), (43, i_psh (.int 0)), (44, i_ist 3), (45, i_fal 45)]
def bX9_newRow_45 : List (Nat × XI) := [(45, i_ild 3), (46, i_psh (.int 8)), (48, i_icge 72), (51, i_ald 0), (52, i_ger 1110 [10]), (55, i_psh (.int 8)), (57, i_ald 0), (58, i_gei 65 [10]), (61, i_mul), (62, i_ild 3), (63, i_add), (64, i_psh (.int 0)), (65, i_ias), (66, i_inc 3 1), (69, i_got 45)]
def bX9_newRow_72 : List (Nat × XI) := [(72, i_ald 0), (73, i_ger 1106 [10]), (76, i_psh (.int 3)), (77, i_ald 0), (78, i_gei 64 [10]), (81, i_psh (.int 1)), (82, i_sub), (83, i_mul), (84, i_ald 0), (85, i_ild 1), (86, i_psh (.int 1)), (87, i_clv 2 [(10, 153)]), (90, i_add), (91, i_ald 0), (92, i_gei 65 [10]), (95, i_ias), (96, i_ald 0), (97, i_dup), (98, i_gei 65 [10]), (101, i_psh (.int 1)), (102, i_add), (103, i_pui 65 [10]), (106, i_ret 0)]
def rX9_newRow : XM := (⟨"WaysAtlasModel", "newRow", "(I)V"⟩, prog_36_method_78_code, 4, none, [], [(0, bX9_newRow_0), (17, bX9_newRow_17), (33, bX9_newRow_33), (45, bX9_newRow_45), (72, bX9_newRow_72)], fun _ _ => none)
def bX9_setsRow_0 : List (Nat × XI) := [(0, i_ald 0), (1, i_ild 1), (2, i_psh (.int 3)), (3, i_psh (.int 4)), (4, i_clv 3 [(10, 171)]), (7, i_ist 2), (8, i_ald 0), (9, i_gei 61 [10]), (12, i_psh (.int (-1))), (13, i_icne 27), (16, i_ald 0), (17, i_ild 1), (18, i_psh (.int 5)), (19, i_psh (.int 6)), (21, i_clv 3 [(10, 171)]), (24, i_got 28)]
def bX9_setsRow_27 : List (Nat × XI) := [(27, i_psh (.int 0)), (28, i_fal 28)]
def bX9_setsRow_28 : List (Nat × XI) := [(28, i_ist 3), (29, i_ald 0), (30, i_gei 61 [10]), (33, i_psh (.int (-1))), (34, i_iceq 38), (37, i_ret 0)]
def bX9_setsRow_38 : List (Nat × XI) := [(38, i_ald 0), (39, i_ald 0), (40, i_ild 1), (41, i_psh (.int 1)), (42, i_clv 2 [(10, 153)]), (45, i_clv 1 [(10, 172)]), (48, i_ist 4), (50, i_ild 4), (52, i_ifge 63), (55, i_ald 0), (56, i_psh (.int 4)), (57, i_clv 1 [(10, 168)]), (60, i_got 101)]
def bX9_setsRow_63 : List (Nat × XI) := [(63, i_ild 2), (64, i_psh (.int 0)), (65, i_ald 0), (66, i_ger 1109 [10]), (69, i_ild 4), (71, i_lda 0), (72, i_psh (.int 1)), (73, i_sub), (74, i_cls 99 3), (77, i_ifne 88), (80, i_ald 0), (81, i_psh (.int 3)), (82, i_clv 1 [(10, 168)]), (85, i_got 101)]
def bX9_setsRow_88 : List (Nat × XI) := [(88, i_ald 0), (89, i_ger 1110 [10]), (92, i_psh (.int 8)), (94, i_ild 4), (96, i_mul), (97, i_ild 2), (98, i_add), (99, i_ild 3), (100, i_ias), (101, i_fal 101)]
def bX9_setsRow_101 : List (Nat × XI) := [(101, i_ret 0)]
def rX9_setsRow : XM := (⟨"WaysAtlasModel", "setsRow", "(I)V"⟩, prog_36_method_77_code, 5, none, [], [(0, bX9_setsRow_0), (27, bX9_setsRow_27), (28, bX9_setsRow_28), (38, bX9_setsRow_38), (63, bX9_setsRow_63), (88, bX9_setsRow_88), (101, bX9_setsRow_101)], fun _ _ => none)
def bX9_signals_0 : List (Nat × XI) := [(0, i_ald 0), (1, i_ild 1), (2, i_pui 61 [10]), (5, i_ald 0), (6, i_ild 2), (7, i_pui 62 [10]), (10, i_ret 0)]
def rX9_signals : XM := (⟨"WaysAtlasModel", "signals", "(II)V"⟩, prog_36_method_68_code, 3, none, [], [(0, bX9_signals_0)], fun _ _ => none)
def bX9_asks_0 : List (Nat × XI) := [(0, i_ald 0), (1, i_ild 1), (2, i_psh (.int 3)), (3, i_psh (.int 4)), (4, i_clv 3 [(10, 171)]), (7, i_ist 2), (8, i_ald 0), (9, i_gei 61 [10]), (12, i_psh (.int (-1))), (13, i_icne 27), (16, i_ald 0), (17, i_ild 1), (18, i_psh (.int 5)), (19, i_psh (.int 6)), (21, i_clv 3 [(10, 171)]), (24, i_got 28)]
def bX9_asks_27 : List (Nat × XI) := [(27, i_psh (.int 0)), (28, i_fal 28)]
def bX9_asks_28 : List (Nat × XI) := [(28, i_ist 3), (29, i_ald 0), (30, i_gei 61 [10]), (33, i_psh (.int (-1))), (34, i_iceq 38), (37, i_ret 0)]
def bX9_asks_38 : List (Nat × XI) := [(38, i_ald 0), (39, i_ild 1), (40, i_psh (.int 1)), (41, i_clv 2 [(10, 153)]), (44, i_ist 4), (46, i_ild 4), (48, i_psh (.int 61)), (50, i_icne 66), (53, i_ild 2), (54, i_ild 3), (55, i_icne 62), (58, i_psh (.int 1)), (59, i_got 96)]
def bX9_asks_62 : List (Nat × XI) := [(62, i_psh (.int 0)), (63, i_got 96)]
def bX9_asks_66 : List (Nat × XI) := [(66, i_ild 4), (68, i_psh (.int 60)), (70, i_icne 86), (73, i_ild 2), (74, i_ild 3), (75, i_icge 82), (78, i_psh (.int 1)), (79, i_got 96)]
def bX9_asks_82 : List (Nat × XI) := [(82, i_psh (.int 0)), (83, i_got 96)]
def bX9_asks_86 : List (Nat × XI) := [(86, i_ild 2), (87, i_ild 3), (88, i_icle 95), (91, i_psh (.int 1)), (92, i_got 96)]
def bX9_asks_95 : List (Nat × XI) := [(95, i_psh (.int 0)), (96, i_fal 96)]
def bX9_asks_96 : List (Nat × XI) := [(96, i_ist 5), (98, i_ald 0), (99, i_ild 1), (100, i_ild 5), (102, i_ifeq 110), (105, i_psh (.int 7)), (107, i_got 112)]
def bX9_asks_110 : List (Nat × XI) := [(110, i_psh (.int 8)), (112, i_fal 112)]
def bX9_asks_112 : List (Nat × XI) := [(112, i_clv 2 [(10, 153)]), (115, i_ist 6), (117, i_ild 6), (119, i_iflt 128), (122, i_ald 0), (123, i_ild 6), (125, i_clv 1 [(10, 163)]), (128, i_fal 128)]
def bX9_asks_128 : List (Nat × XI) := [(128, i_ret 0)]
def rX9_asks : XM := (⟨"WaysAtlasModel", "asks", "(I)V"⟩, prog_36_method_79_code, 7, none, [], [(0, bX9_asks_0), (27, bX9_asks_27), (28, bX9_asks_28), (38, bX9_asks_38), (62, bX9_asks_62), (66, bX9_asks_66), (82, bX9_asks_82), (86, bX9_asks_86), (95, bX9_asks_95), (96, bX9_asks_96), (110, bX9_asks_110), (112, bX9_asks_112), (128, bX9_asks_128)], fun _ _ => none)
def bX9_loops_0 : List (Nat × XI) := [(0, i_ald 0), (1, i_ild 1), (2, i_psh (.int 3)), (3, i_psh (.int 4)), (4, i_clv 3 [(10, 171)]), (7, i_ist 2), (8, i_ald 0), (9, i_gei 61 [10]), (12, i_psh (.int (-1))), (13, i_icne 31), (16, i_ild 2), (17, i_ifle 31), (20, i_ald 0), (21, i_psh (.int 2)), (22, i_ild 1), (23, i_ild 2), (24, i_clv 3 [(10, 161)]), (27, i_ald 0), (28, i_clv 0 [(10, 181)]), (31, i_fal 31)]
def bX9_loops_31 : List (Nat × XI) := [(31, i_ret 0)]
def rX9_loops : XM := (⟨"WaysAtlasModel", "loops", "(I)V"⟩, prog_36_method_80_code, 3, none, [], [(0, bX9_loops_0), (31, bX9_loops_31)], fun _ _ => none)
def bX9_turns_0 : List (Nat × XI) := [(0, i_ald 0), (1, i_clv 0 [(10, 165)]), (4, i_ifeq 28), (7, i_ald 0), (8, i_ald 0), (9, i_ald 0), (10, i_ger 1098 [10]), (13, i_ald 0), (14, i_gei 63 [10]), (17, i_psh (.int 1)), (18, i_sub), (19, i_lda 0), (20, i_psh (.int 7)), (22, i_clv 2 [(10, 153)]), (25, i_clv 1 [(10, 163)]), (28, i_fal 28)]
def bX9_turns_28 : List (Nat × XI) := [(28, i_ret 0)]
def rX9_turns : XM := (⟨"WaysAtlasModel", "turns", "()V"⟩, prog_36_method_81_code, 1, none, [], [(0, bX9_turns_0), (28, bX9_turns_28)], fun _ _ => none)
def bX9_taken_0 : List (Nat × XI) := [(0, i_ald 0), (1, i_gei 63 [10]), (4, i_psh (.int 1)), (5, i_sub), (6, i_ist 1), (7, i_fal 7)]
def bX9_taken_7 : List (Nat × XI) := [(7, i_ald 0), (8, i_ger 1097 [10]), (11, i_ild 1), (12, i_lda 0), (13, i_psh (.int 3)), (14, i_icne 27), (17, i_ald 0), (18, i_ger 1099 [10]), (21, i_ild 1), (22, i_lda 0), (23, i_psh (.int 2)), (24, i_iceq 33), (27, i_fal 27)]
def bX9_taken_27 : List (Nat × XI) := [(27, i_inc 1 (-1)), (30, i_got 7)]
def bX9_taken_33 : List (Nat × XI) := [(33, i_ald 0), (34, i_ger 1104 [10]), (37, i_ild 1), (38, i_lda 0), (39, i_ret 1)]
def rX9_taken : XM := (⟨"WaysAtlasModel", "taken", "()I"⟩, prog_36_method_82_code, 2, (some .int), [], [(0, bX9_taken_0), (7, bX9_taken_7), (27, bX9_taken_27), (33, bX9_taken_33)], fun _ _ => none)
def bX9_opensAll_0 : List (Nat × XI) := [(0, i_ald 0), (1, i_psh (.int 3)), (2, i_ild 1), (3, i_psh (.int 0)), (4, i_clv 3 [(10, 161)]), (7, i_ald 0), (8, i_gei 63 [10]), (11, i_psh (.int 1)), (12, i_sub), (13, i_ist 2), (14, i_ald 0), (15, i_ger 1102 [10]), (18, i_ild 2), (19, i_ald 0), (20, i_psh (.int 5)), (21, i_clv 1 [(10, 162)]), (24, i_ias), (25, i_psh (.int 1)), (26, i_ist 3), (27, i_fal 27)]
def bX9_opensAll_27 : List (Nat × XI) := [(27, i_ild 3), (28, i_ald 0), (29, i_ild 1), (30, i_psh (.int 1)), (31, i_clv 2 [(10, 153)]), (34, i_icgt 86), (37, i_ald 0), (38, i_clv 0 [(10, 165)]), (41, i_ifne 45), (44, i_ret 0)]
def bX9_opensAll_45 : List (Nat × XI) := [(45, i_ald 0), (46, i_ild 1), (47, i_ild 3), (48, i_clv 2 [(10, 167)]), (51, i_ist 4), (53, i_ild 4), (55, i_iflt 65), (58, i_ald 0), (59, i_ild 4), (61, i_clv 1 [(10, 168)]), (64, i_ret 0)]
def bX9_opensAll_65 : List (Nat × XI) := [(65, i_ald 0), (66, i_psh (.int 5)), (67, i_clv 1 [(10, 170)]), (70, i_ald 0), (71, i_ger 1103 [10]), (74, i_ild 2), (75, i_du2), (76, i_lda 0), (77, i_psh (.int 1)), (78, i_add), (79, i_ias), (80, i_inc 3 1), (83, i_got 27)]
def bX9_opensAll_86 : List (Nat × XI) := [(86, i_ald 0), (87, i_ald 0), (88, i_ild 1), (89, i_psh (.int 7)), (91, i_clv 2 [(10, 153)]), (94, i_clv 1 [(10, 163)]), (97, i_ret 0)]
def rX9_opensAll : XM := (⟨"WaysAtlasModel", "opensAll", "(I)V"⟩, prog_36_method_83_code, 5, none, [], [(0, bX9_opensAll_0), (27, bX9_opensAll_27), (45, bX9_opensAll_45), (65, bX9_opensAll_65), (86, bX9_opensAll_86)], fun _ _ => none)
def bX9_comesToLoop_0 : List (Nat × XI) := [(0, i_ald 0), (1, i_gei 61 [10]), (4, i_ifeq 23), (7, i_ald 0), (8, i_gei 61 [10]), (11, i_psh (.int 3)), (12, i_icne 27), (15, i_ald 0), (16, i_gei 62 [10]), (19, i_psh (.int 1)), (20, i_icne 27), (23, i_fal 23)]
def bX9_comesToLoop_23 : List (Nat × XI) := [(23, i_psh (.int 1)), (24, i_got 28)]
def bX9_comesToLoop_27 : List (Nat × XI) := [(27, i_psh (.int 0)), (28, i_fal 28)]
def bX9_comesToLoop_28 : List (Nat × XI) := [(28, i_ist 2), (29, i_ild 2), (30, i_ifeq 57), (33, i_ald 0), (34, i_ger 1099 [10]), (37, i_ild 1), (38, i_du2), (39, i_lda 0), (40, i_psh (.int 1)), (41, i_sub), (42, i_ias), (43, i_ald 0), (44, i_ger 1099 [10]), (47, i_ild 1), (48, i_lda 0), (49, i_ifle 57), (52, i_ald 0), (53, i_clv 0 [(10, 181)]), (56, i_ret 0)]
def bX9_comesToLoop_57 : List (Nat × XI) := [(57, i_ald 0), (58, i_dup), (59, i_gei 63 [10]), (62, i_psh (.int 1)), (63, i_sub), (64, i_pui 63 [10]), (67, i_ild 2), (68, i_ifne 87), (71, i_ald 0), (72, i_gei 61 [10]), (75, i_psh (.int 2)), (76, i_icne 95), (79, i_ald 0), (80, i_gei 62 [10]), (83, i_psh (.int 1)), (84, i_icne 95), (87, i_fal 87)]
def bX9_comesToLoop_87 : List (Nat × XI) := [(87, i_ald 0), (88, i_psh (.int 0)), (89, i_pui 61 [10]), (92, i_got 121)]
def bX9_comesToLoop_95 : List (Nat × XI) := [(95, i_ald 0), (96, i_gei 61 [10]), (99, i_psh (.int 2)), (100, i_iceq 111), (103, i_ald 0), (104, i_gei 61 [10]), (107, i_psh (.int 3)), (108, i_icne 121), (111, i_fal 111)]
def bX9_comesToLoop_111 : List (Nat × XI) := [(111, i_ald 0), (112, i_dup), (113, i_gei 62 [10]), (116, i_psh (.int 1)), (117, i_sub), (118, i_pui 62 [10]), (121, i_fal 121)]
def bX9_comesToLoop_121 : List (Nat × XI) := [(121, i_ret 0)]
def rX9_comesToLoop : XM := (⟨"WaysAtlasModel", "comesToLoop", "(I)V"⟩, prog_36_method_90_code, 3, none, [], [(0, bX9_comesToLoop_0), (23, bX9_comesToLoop_23), (27, bX9_comesToLoop_27), (28, bX9_comesToLoop_28), (57, bX9_comesToLoop_57), (87, bX9_comesToLoop_87), (95, bX9_comesToLoop_95), (111, bX9_comesToLoop_111), (121, bX9_comesToLoop_121)], fun _ _ => none)
def bX9_comesToGuard_0 : List (Nat × XI) := [(0, i_ald 0), (1, i_ger 1098 [10]), (4, i_ild 1), (5, i_lda 0), (6, i_ist 2), (7, i_ald 0), (8, i_ger 1099 [10]), (11, i_ild 1), (12, i_lda 0), (13, i_psh (.int 3)), (14, i_icne 98), (17, i_ald 0), (18, i_gei 61 [10]), (21, i_ifne 28), (24, i_psh (.int 1)), (25, i_got 29)]
def bX9_comesToGuard_28 : List (Nat × XI) := [(28, i_psh (.int 0)), (29, i_fal 29)]
def bX9_comesToGuard_29 : List (Nat × XI) := [(29, i_ist 3), (30, i_ald 0), (31, i_ger 1086 [10]), (34, i_psh (.int 10)), (36, i_ald 0), (37, i_gei 58 [10]), (40, i_mul), (41, i_psh (.int 7)), (43, i_add), (44, i_du2), (45, i_lda 0), (46, i_ild 3), (47, i_ifne 64), (50, i_ald 0), (51, i_ger 1100 [10]), (54, i_ild 1), (55, i_lda 0), (56, i_psh (.int 4)), (57, i_icne 64), (60, i_psh (.int 1)), (61, i_got 65)]
def bX9_comesToGuard_64 : List (Nat × XI) := [(64, i_psh (.int 0)), (65, i_fal 65)]
def bX9_comesToGuard_65 : List (Nat × XI) := [(65, i_add), (66, i_ias), (67, i_ald 0), (68, i_dup), (69, i_gei 63 [10]), (72, i_psh (.int 1)), (73, i_sub), (74, i_pui 63 [10]), (77, i_ild 3), (78, i_ifeq 97), (81, i_ald 0), (82, i_ald 0), (83, i_ger 1100 [10]), (86, i_ild 1), (87, i_lda 0), (88, i_ald 0), (89, i_ger 1101 [10]), (92, i_ild 1), (93, i_lda 0), (94, i_clv 2 [(10, 178)]), (97, i_fal 97)]
def bX9_comesToGuard_97 : List (Nat × XI) := [(97, i_ret 0)]
def bX9_comesToGuard_98 : List (Nat × XI) := [(98, i_ald 0), (99, i_ger 1100 [10]), (102, i_ild 1), (103, i_ald 0), (104, i_gei 61 [10]), (107, i_ias), (108, i_ald 0), (109, i_ger 1101 [10]), (112, i_ild 1), (113, i_ald 0), (114, i_gei 62 [10]), (117, i_ias), (118, i_ald 0), (119, i_ger 1099 [10]), (122, i_ild 1), (123, i_lda 0), (124, i_ifne 221), (127, i_ald 0), (128, i_ild 1), (129, i_clv 1 [(10, 186)]), (132, i_ald 0), (133, i_gei 60 [10]), (136, i_iflt 140), (139, i_ret 0)]
def bX9_comesToGuard_140 : List (Nat × XI) := [(140, i_ald 0), (141, i_ger 1099 [10]), (144, i_ild 1), (145, i_psh (.int 1)), (146, i_ias), (147, i_ald 0), (148, i_ger 1100 [10]), (151, i_ild 1), (152, i_lda 0), (153, i_psh (.int 4)), (154, i_icne 185), (157, i_ald 0), (158, i_ild 2), (159, i_ald 0), (160, i_ger 1088 [10]), (163, i_psh (.int 420)), (166, i_ald 0), (167, i_gei 58 [10]), (170, i_mul), (171, i_ald 0), (172, i_ger 1101 [10]), (175, i_ild 1), (176, i_lda 0), (177, i_add), (178, i_lda 0), (179, i_clv 2 [(10, 188)]), (182, i_got 186)]
def bX9_comesToGuard_185 : List (Nat × XI) := [(185, i_psh (.int (-1))), (186, i_fal 186)]
def bX9_comesToGuard_186 : List (Nat × XI) := [(186, i_ist 3), (187, i_ild 3), (188, i_iflt 221), (191, i_ald 0), (192, i_ger 1099 [10]), (195, i_ild 1), (196, i_psh (.int 2)), (197, i_ias), (198, i_ald 0), (199, i_ger 1104 [10]), (202, i_ild 1), (203, i_ald 0), (204, i_ger 1101 [10]), (207, i_ild 1), (208, i_lda 0), (209, i_ias), (210, i_ald 0), (211, i_ald 0), (212, i_ger 1066 [10]), (215, i_ild 3), (216, i_lda 0), (217, i_clv 1 [(10, 163)]), (220, i_ret 0)]
def bX9_comesToGuard_221 : List (Nat × XI) := [(221, i_ald 0), (222, i_ild 1), (223, i_clv 1 [(10, 189)]), (226, i_ret 0)]
def rX9_comesToGuard : XM := (⟨"WaysAtlasModel", "comesToGuard", "(I)V"⟩, prog_36_method_89_code, 4, none, [], [(0, bX9_comesToGuard_0), (28, bX9_comesToGuard_28), (29, bX9_comesToGuard_29), (64, bX9_comesToGuard_64), (65, bX9_comesToGuard_65), (97, bX9_comesToGuard_97), (98, bX9_comesToGuard_98), (140, bX9_comesToGuard_140), (185, bX9_comesToGuard_185), (186, bX9_comesToGuard_186), (221, bX9_comesToGuard_221)], fun _ _ => none)
def bX9_closesAll_0 : List (Nat × XI) := [(0, i_ald 0), (1, i_ger 1098 [10]), (4, i_ild 1), (5, i_lda 0), (6, i_ist 2), (7, i_fal 7)]
def bX9_closesAll_7 : List (Nat × XI) := [(7, i_ald 0), (8, i_ger 1103 [10]), (11, i_ild 1), (12, i_lda 0), (13, i_ifle 157), (16, i_ald 0), (17, i_clv 0 [(10, 165)]), (20, i_ifne 24), (23, i_ret 0)]
def bX9_closesAll_24 : List (Nat × XI) := [(24, i_ald 0), (25, i_ger 1108 [10]), (28, i_ald 0), (29, i_gei 64 [10]), (32, i_psh (.int 1)), (33, i_sub), (34, i_ild 2), (35, i_ias), (36, i_ald 0), (37, i_ger 1103 [10]), (40, i_ild 1), (41, i_lda 0), (42, i_ist 3), (43, i_ald 0), (44, i_ger 1103 [10]), (47, i_ild 1), (48, i_du2), (49, i_lda 0), (50, i_psh (.int 1)), (51, i_sub), (52, i_ias), (53, i_ald 0), (54, i_ger 1095 [10]), (57, i_psh (.int 410)), (60, i_ald 0), (61, i_gei 58 [10]), (64, i_mul), (65, i_ald 0), (66, i_psh (.int 6)), (68, i_clv 1 [(10, 162)]), (71, i_add), (72, i_ald 0), (73, i_ger 1102 [10]), (76, i_ild 1), (77, i_lda 0), (78, i_ild 3), (79, i_add), (80, i_psh (.int 1)), (81, i_sub), (82, i_ias), (83, i_ald 0), (84, i_psh (.int 6)), (86, i_clv 1 [(10, 170)]), (89, i_ald 0), (90, i_ild 2), (91, i_psh (.int 3)), (92, i_ild 3), (93, i_add), (94, i_clv 2 [(10, 167)]), (97, i_ist 4), (99, i_ild 4), (101, i_iflt 154), (104, i_ald 0), (105, i_ild 4), (107, i_psh (.int (-9))), (109, i_clv 2 [(10, 169)]), (112, i_ist 5), (114, i_ald 0), (115, i_ger 1100 [10]), (118, i_ild 1), (119, i_lda 0), (120, i_psh (.int 4)), (121, i_icne 139), (124, i_ald 0), (125, i_ild 5), (127, i_ald 0), (128, i_ger 1101 [10]), (131, i_ild 1), (132, i_lda 0), (133, i_clv 2 [(10, 187)]), (136, i_got 154)]
def bX9_closesAll_139 : List (Nat × XI) := [(139, i_ald 0), (140, i_ger 1100 [10]), (143, i_ild 1), (144, i_psh (.int 4)), (145, i_ias), (146, i_ald 0), (147, i_ger 1101 [10]), (150, i_ild 1), (151, i_ild 5), (153, i_ias), (154, i_fal 154)]
def bX9_closesAll_154 : List (Nat × XI) := [(154, i_got 7)]
def bX9_closesAll_157 : List (Nat × XI) := [(157, i_ret 0)]
def rX9_closesAll : XM := (⟨"WaysAtlasModel", "closesAll", "(I)V"⟩, prog_36_method_86_code, 6, none, [], [(0, bX9_closesAll_0), (7, bX9_closesAll_7), (24, bX9_closesAll_24), (139, bX9_closesAll_139), (154, bX9_closesAll_154), (157, bX9_closesAll_157)], fun _ _ => none)
def bX9_suppresses_0 : List (Nat × XI) := [(0, i_psh (.int 420)), (3, i_ald 0), (4, i_gei 58 [10]), (7, i_mul), (8, i_ist 3), (9, i_ald 0), (10, i_ger 1090 [10]), (13, i_ild 3), (14, i_ild 2), (15, i_add), (16, i_lda 0), (17, i_psh (.int (-9))), (19, i_icne 32), (22, i_ald 0), (23, i_ger 1090 [10]), (26, i_ild 3), (27, i_ild 2), (28, i_add), (29, i_ild 1), (30, i_ias), (31, i_ret 0)]
def bX9_suppresses_32 : List (Nat × XI) := [(32, i_ald 0), (33, i_ger 1090 [10]), (36, i_ild 3), (37, i_ild 2), (38, i_add), (39, i_lda 0), (40, i_ist 4), (42, i_fal 42)]
def bX9_suppresses_42 : List (Nat × XI) := [(42, i_ald 0), (43, i_ger 1091 [10]), (46, i_ild 3), (47, i_ild 4), (49, i_add), (50, i_lda 0), (51, i_psh (.int (-9))), (53, i_iceq 70), (56, i_ald 0), (57, i_ger 1091 [10]), (60, i_ild 3), (61, i_ild 4), (63, i_add), (64, i_lda 0), (65, i_ist 4), (67, i_got 42)]
def bX9_suppresses_70 : List (Nat × XI) := [(70, i_ald 0), (71, i_ger 1091 [10]), (74, i_ild 3), (75, i_ild 4), (77, i_add), (78, i_ild 1), (79, i_ias), (80, i_ret 0)]
def rX9_suppresses : XM := (⟨"WaysAtlasModel", "suppresses", "(II)V"⟩, prog_36_method_85_code, 5, none, [], [(0, bX9_suppresses_0), (32, bX9_suppresses_32), (42, bX9_suppresses_42), (70, bX9_suppresses_70)], fun _ _ => none)
def bX9_catchFor_0 : List (Nat × XI) := [(0, i_psh (.int 0)), (1, i_ist 3), (2, i_fal 2)]
def bX9_catchFor_2 : List (Nat × XI) := [(2, i_ild 3), (3, i_ald 0), (4, i_ger 1067 [10]), (7, i_ald 0), (8, i_gei 44 [10]), (11, i_lda 0), (12, i_icge 62), (15, i_psh (.int 160)), (18, i_ald 0), (19, i_gei 44 [10]), (22, i_mul), (23, i_ild 3), (24, i_add), (25, i_ist 4), (27, i_ald 0), (28, i_ger 1064 [10]), (31, i_ild 4), (33, i_lda 0), (34, i_ild 1), (35, i_icne 56), (38, i_ald 0), (39, i_ald 0), (40, i_ger 1065 [10]), (43, i_ild 4), (45, i_lda 0), (46, i_ild 2), (47, i_clv 2 [(10, 156)]), (50, i_ifeq 56), (53, i_ild 4), (55, i_ret 1)]
def bX9_catchFor_56 : List (Nat × XI) := [(56, i_inc 3 1), (59, i_got 2)]
def bX9_catchFor_62 : List (Nat × XI) := [(62, i_psh (.int (-1))), (63, i_ret 1)]
def rX9_catchFor : XM := (⟨"WaysAtlasModel", "catchFor", "(II)I"⟩, prog_36_method_87_code, 5, (some .int), [], [(0, bX9_catchFor_0), (2, bX9_catchFor_2), (56, bX9_catchFor_56), (62, bX9_catchFor_62)], fun _ _ => none)
def bX9_finishes_0 : List (Nat × XI) := [(0, i_ald 0), (1, i_ald 0), (2, i_ger 1098 [10]), (5, i_ild 1), (6, i_lda 0), (7, i_psh (.int 9)), (9, i_clv 2 [(10, 153)]), (12, i_ist 2), (13, i_ild 2), (14, i_iflt 55), (17, i_ald 0), (18, i_ger 1099 [10]), (21, i_ild 1), (22, i_psh (.int 3)), (23, i_ias), (24, i_ald 0), (25, i_ger 1096 [10]), (28, i_psh (.int 80)), (30, i_ald 0), (31, i_gei 58 [10]), (34, i_mul), (35, i_ald 0), (36, i_ger 1098 [10]), (39, i_ild 1), (40, i_lda 0), (41, i_add), (42, i_du2), (43, i_lda 0), (44, i_psh (.int 1)), (45, i_add), (46, i_ias), (47, i_ald 0), (48, i_ild 2), (49, i_clv 1 [(10, 163)]), (52, i_got 81)]
def bX9_finishes_55 : List (Nat × XI) := [(55, i_ald 0), (56, i_dup), (57, i_gei 63 [10]), (60, i_psh (.int 1)), (61, i_sub), (62, i_pui 63 [10]), (65, i_ald 0), (66, i_ald 0), (67, i_ger 1100 [10]), (70, i_ild 1), (71, i_lda 0), (72, i_ald 0), (73, i_ger 1101 [10]), (76, i_ild 1), (77, i_lda 0), (78, i_clv 2 [(10, 178)]), (81, i_fal 81)]
def bX9_finishes_81 : List (Nat × XI) := [(81, i_ret 0)]
def rX9_finishes : XM := (⟨"WaysAtlasModel", "finishes", "(I)V"⟩, prog_36_method_88_code, 3, none, [], [(0, bX9_finishes_0), (55, bX9_finishes_55), (81, bX9_finishes_81)], fun _ _ => none)
def bX9_comesToMethod_0 : List (Nat × XI) := [(0, i_ald 0), (1, i_ger 1098 [10]), (4, i_ild 1), (5, i_lda 0), (6, i_ist 2), (7, i_ald 0), (8, i_gei 61 [10]), (11, i_psh (.int 1)), (12, i_icne 22), (15, i_ald 0), (16, i_gei 62 [10]), (19, i_got 23)]
def bX9_comesToMethod_22 : List (Nat × XI) := [(22, i_psh (.int 0)), (23, i_fal 23)]
def bX9_comesToMethod_23 : List (Nat × XI) := [(23, i_ist 3), (24, i_ald 0), (25, i_gei 61 [10]), (28, i_psh (.int 4)), (29, i_icne 36), (32, i_psh (.int 1)), (33, i_got 37)]
def bX9_comesToMethod_36 : List (Nat × XI) := [(36, i_psh (.int 0)), (37, i_fal 37)]
def bX9_comesToMethod_37 : List (Nat × XI) := [(37, i_ist 4), (39, i_ald 0), (40, i_dup), (41, i_gei 63 [10]), (44, i_psh (.int 1)), (45, i_sub), (46, i_pui 63 [10]), (49, i_ald 0), (50, i_dup), (51, i_gei 64 [10]), (54, i_psh (.int 1)), (55, i_sub), (56, i_pui 64 [10]), (59, i_ald 0), (60, i_gei 64 [10]), (63, i_ifne 135), (66, i_ald 0), (67, i_ild 4), (69, i_ifeq 76), (72, i_psh (.int 1)), (73, i_got 77)]
def bX9_comesToMethod_76 : List (Nat × XI) := [(76, i_psh (.int 0)), (77, i_fal 77)]
def bX9_comesToMethod_77 : List (Nat × XI) := [(77, i_pui 60 [10]), (80, i_ald 0), (81, i_ger 1086 [10]), (84, i_psh (.int 10)), (86, i_ald 0), (87, i_gei 58 [10]), (90, i_mul), (91, i_psh (.int 1)), (92, i_add), (93, i_ild 4), (95, i_ifeq 102), (98, i_psh (.int 0)), (99, i_got 103)]
def bX9_comesToMethod_102 : List (Nat × XI) := [(102, i_ild 3), (103, i_fal 103)]
def bX9_comesToMethod_103 : List (Nat × XI) := [(103, i_ias), (104, i_ald 0), (105, i_ger 1086 [10]), (108, i_psh (.int 10)), (110, i_ald 0), (111, i_gei 58 [10]), (114, i_mul), (115, i_psh (.int 2)), (116, i_add), (117, i_ild 4), (119, i_ifeq 129), (122, i_ald 0), (123, i_gei 62 [10]), (126, i_got 131)]
def bX9_comesToMethod_129 : List (Nat × XI) := [(129, i_psh (.int (-9))), (131, i_fal 131)]
def bX9_comesToMethod_131 : List (Nat × XI) := [(131, i_ias), (132, i_got 166)]
def bX9_comesToMethod_135 : List (Nat × XI) := [(135, i_ild 4), (137, i_ifne 166), (140, i_ild 2), (141, i_iflt 161), (144, i_ald 0), (145, i_ger 1105 [10]), (148, i_psh (.int 6)), (150, i_ald 0), (151, i_gei 64 [10]), (154, i_psh (.int 1)), (155, i_sub), (156, i_mul), (157, i_ild 2), (158, i_add), (159, i_ild 3), (160, i_ias), (161, i_fal 161)]
def bX9_comesToMethod_161 : List (Nat × XI) := [(161, i_ald 0), (162, i_psh (.int 0)), (163, i_pui 61 [10]), (166, i_fal 166)]
def bX9_comesToMethod_166 : List (Nat × XI) := [(166, i_ret 0)]
def rX9_comesToMethod : XM := (⟨"WaysAtlasModel", "comesToMethod", "(I)V"⟩, prog_36_method_91_code, 5, none, [], [(0, bX9_comesToMethod_0), (22, bX9_comesToMethod_22), (23, bX9_comesToMethod_23), (36, bX9_comesToMethod_36), (37, bX9_comesToMethod_37), (76, bX9_comesToMethod_76), (77, bX9_comesToMethod_77), (102, bX9_comesToMethod_102), (103, bX9_comesToMethod_103), (129, bX9_comesToMethod_129), (131, bX9_comesToMethod_131), (135, bX9_comesToMethod_135), (161, bX9_comesToMethod_161), (166, bX9_comesToMethod_166)], fun _ _ => none)
def bX9_ran_0 : List (Nat × XI) := [(0, i_ald 0), (1, i_ild 1), (2, i_clv 1 [(10, 192)]), (5, i_ifeq 32), (8, i_ild 2), (9, i_psh (.int 0)), (10, i_psh (.int 9)), (12, i_cls 99 3), (15, i_ifeq 32), (18, i_ald 0), (19, i_ger 1086 [10]), (22, i_psh (.int 10)), (24, i_ild 1), (25, i_mul), (26, i_ild 2), (27, i_add), (28, i_lda 0), (29, i_got 33)]
def bX9_ran_32 : List (Nat × XI) := [(32, i_psh (.int (-1))), (33, i_fal 33)]
def bX9_ran_33 : List (Nat × XI) := [(33, i_ret 1)]
def rX9_ran : XM := (⟨"WaysAtlasModel", "ran", "(II)I"⟩, prog_36_method_97_code, 3, (some .int), [], [(0, bX9_ran_0), (32, bX9_ran_32), (33, bX9_ran_33)], fun _ _ => none)
def bX9_isRun_0 : List (Nat × XI) := [(0, i_ild 1), (1, i_psh (.int 0)), (2, i_psh (.int 1)), (3, i_cls 99 3), (6, i_ifeq 22), (9, i_ald 0), (10, i_ger 1085 [10]), (13, i_ild 1), (14, i_lda 2), (15, i_ifeq 22), (18, i_psh (.int 1)), (19, i_got 23)]
def bX9_isRun_22 : List (Nat × XI) := [(22, i_psh (.int 0)), (23, i_fal 23)]
def bX9_isRun_23 : List (Nat × XI) := [(23, i_ret 4)]
def rX9_isRun : XM := (⟨"WaysAtlasModel", "isRun", "(I)Z"⟩, prog_36_method_96_code, 2, (some .boolean), [], [(0, bX9_isRun_0), (22, bX9_isRun_22), (23, bX9_isRun_23)], fun _ _ => none)
def bX9_mark_0 : List (Nat × XI) := [(0, i_ald 0), (1, i_ild 1), (2, i_clv 1 [(10, 192)]), (5, i_ifne 12), (8, i_psh (.int (-1))), (9, i_got 50)]
def bX9_mark_12 : List (Nat × XI) := [(12, i_ild 2), (13, i_psh (.int 0)), (14, i_ald 0), (15, i_ger 1086 [10]), (18, i_psh (.int 10)), (20, i_ild 1), (21, i_mul), (22, i_psh (.int 3)), (23, i_add), (24, i_lda 0), (25, i_psh (.int 1)), (26, i_sub), (27, i_cls 99 3), (30, i_ifeq 48), (33, i_ald 0), (34, i_ger 1087 [10]), (37, i_psh (.int 410)), (40, i_ild 1), (41, i_mul), (42, i_ild 2), (43, i_add), (44, i_lda 0), (45, i_got 50)]
def bX9_mark_48 : List (Nat × XI) := [(48, i_psh (.int (-9))), (50, i_fal 50)]
def bX9_mark_50 : List (Nat × XI) := [(50, i_ret 1)]
def rX9_mark : XM := (⟨"WaysAtlasModel", "mark", "(II)I"⟩, prog_36_method_98_code, 3, (some .int), [], [(0, bX9_mark_0), (12, bX9_mark_12), (48, bX9_mark_48), (50, bX9_mark_50)], fun _ _ => none)
def bX9_failure_0 : List (Nat × XI) := [(0, i_ald 0), (1, i_ild 1), (2, i_clv 1 [(10, 192)]), (5, i_ifeq 17), (8, i_ild 3), (9, i_psh (.int 0)), (10, i_psh (.int 5)), (11, i_cls 99 3), (14, i_ifne 19), (17, i_fal 17)]
def bX9_failure_17 : List (Nat × XI) := [(17, i_psh (.int (-1))), (18, i_ret 1)]
def bX9_failure_19 : List (Nat × XI) := [(19, i_ild 2), (20, i_psh (.int 0)), (21, i_ald 0), (22, i_ger 1086 [10]), (25, i_psh (.int 10)), (27, i_ild 1), (28, i_mul), (29, i_psh (.int 4)), (30, i_add), (31, i_lda 0), (32, i_psh (.int 1)), (33, i_sub), (34, i_cls 99 3), (37, i_ifne 43), (40, i_psh (.int (-9))), (42, i_ret 1)]
def bX9_failure_43 : List (Nat × XI) := [(43, i_psh (.int 420)), (46, i_ild 1), (47, i_mul), (48, i_ild 2), (49, i_add), (50, i_ist 4), (52, i_ild 3), (53, i_tsw 0 5 128 [88, 96, 104, 112, 120])]
def bX9_failure_88 : List (Nat × XI) := [(88, i_ald 0), (89, i_ger 1088 [10]), (92, i_ild 4), (94, i_lda 0), (95, i_ret 1)]
def bX9_failure_96 : List (Nat × XI) := [(96, i_ald 0), (97, i_ger 1089 [10]), (100, i_ild 4), (102, i_lda 0), (103, i_ret 1)]
def bX9_failure_104 : List (Nat × XI) := [(104, i_ald 0), (105, i_ger 1090 [10]), (108, i_ild 4), (110, i_lda 0), (111, i_ret 1)]
def bX9_failure_112 : List (Nat × XI) := [(112, i_ald 0), (113, i_ger 1091 [10]), (116, i_ild 4), (118, i_lda 0), (119, i_ret 1)]
def bX9_failure_120 : List (Nat × XI) := [(120, i_ald 0), (121, i_ger 1092 [10]), (124, i_ild 4), (126, i_lda 0), (127, i_ret 1)]
def bX9_failure_128 : List (Nat × XI) := [(128, i_ald 0), (129, i_ger 1093 [10]), (132, i_ild 4), (134, i_lda 0), (135, i_ret 1)]
def rX9_failure : XM := (⟨"WaysAtlasModel", "failure", "(III)I"⟩, prog_36_method_99_code, 5, (some .int), [], [(0, bX9_failure_0), (17, bX9_failure_17), (19, bX9_failure_19), (43, bX9_failure_43), (88, bX9_failure_88), (96, bX9_failure_96), (104, bX9_failure_104), (112, bX9_failure_112), (120, bX9_failure_120), (128, bX9_failure_128)], fun _ _ => none)
def bX9_trace_0 : List (Nat × XI) := [(0, i_ald 0), (1, i_ild 1), (2, i_clv 1 [(10, 192)]), (5, i_ifne 10), (8, i_psh (.int (-1))), (9, i_ret 1)]
def bX9_trace_10 : List (Nat × XI) := [(10, i_ild 2), (11, i_psh (.int 0)), (12, i_ald 0), (13, i_ger 1086 [10]), (16, i_psh (.int 10)), (18, i_ild 1), (19, i_mul), (20, i_psh (.int 4)), (21, i_add), (22, i_lda 0), (23, i_psh (.int 1)), (24, i_sub), (25, i_cls 99 3), (28, i_ifeq 73), (31, i_ild 3), (32, i_psh (.int 0)), (33, i_ald 0), (34, i_ger 1093 [10]), (37, i_psh (.int 420)), (40, i_ild 1), (41, i_mul), (42, i_ild 2), (43, i_add), (44, i_lda 0), (45, i_psh (.int 1)), (46, i_sub), (47, i_cls 99 3), (50, i_ifeq 73), (53, i_ald 0), (54, i_ger 1094 [10]), (57, i_psh (.int 5040)), (60, i_ild 1), (61, i_mul), (62, i_psh (.int 12)), (64, i_ild 2), (65, i_mul), (66, i_add), (67, i_ild 3), (68, i_add), (69, i_lda 0), (70, i_got 75)]
def bX9_trace_73 : List (Nat × XI) := [(73, i_psh (.int (-9))), (75, i_fal 75)]
def bX9_trace_75 : List (Nat × XI) := [(75, i_ret 1)]
def rX9_trace : XM := (⟨"WaysAtlasModel", "trace", "(III)I"⟩, prog_36_method_100_code, 4, (some .int), [], [(0, bX9_trace_0), (10, bX9_trace_10), (73, bX9_trace_73), (75, bX9_trace_75)], fun _ _ => none)
def bX9_closed_0 : List (Nat × XI) := [(0, i_ald 0), (1, i_ild 1), (2, i_clv 1 [(10, 192)]), (5, i_ifne 12), (8, i_psh (.int (-1))), (9, i_got 51)]
def bX9_closed_12 : List (Nat × XI) := [(12, i_ild 2), (13, i_psh (.int 0)), (14, i_ald 0), (15, i_ger 1086 [10]), (18, i_psh (.int 10)), (20, i_ild 1), (21, i_mul), (22, i_psh (.int 6)), (24, i_add), (25, i_lda 0), (26, i_psh (.int 1)), (27, i_sub), (28, i_cls 99 3), (31, i_ifeq 49), (34, i_ald 0), (35, i_ger 1095 [10]), (38, i_psh (.int 410)), (41, i_ild 1), (42, i_mul), (43, i_ild 2), (44, i_add), (45, i_lda 0), (46, i_got 51)]
def bX9_closed_49 : List (Nat × XI) := [(49, i_psh (.int (-9))), (51, i_fal 51)]
def bX9_closed_51 : List (Nat × XI) := [(51, i_ret 1)]
def rX9_closed : XM := (⟨"WaysAtlasModel", "closed", "(II)I"⟩, prog_36_method_101_code, 3, (some .int), [], [(0, bX9_closed_0), (12, bX9_closed_12), (49, bX9_closed_49), (51, bX9_closed_51)], fun _ _ => none)
def bX9_entered_0 : List (Nat × XI) := [(0, i_ald 0), (1, i_ild 1), (2, i_clv 1 [(10, 192)]), (5, i_ifeq 40), (8, i_ald 0), (9, i_ild 2), (10, i_clv 1 [(10, 151)]), (13, i_ifeq 40), (16, i_ald 0), (17, i_ild 2), (18, i_psh (.int 9)), (20, i_clv 2 [(10, 153)]), (23, i_iflt 40), (26, i_ald 0), (27, i_ger 1096 [10]), (30, i_psh (.int 80)), (32, i_ild 1), (33, i_mul), (34, i_ild 2), (35, i_add), (36, i_lda 0), (37, i_got 41)]
def bX9_entered_40 : List (Nat × XI) := [(40, i_psh (.int (-1))), (41, i_fal 41)]
def bX9_entered_41 : List (Nat × XI) := [(41, i_ret 1)]
def rX9_entered : XM := (⟨"WaysAtlasModel", "entered", "(II)I"⟩, prog_36_method_102_code, 3, (some .int), [], [(0, bX9_entered_0), (40, bX9_entered_40), (41, bX9_entered_41)], fun _ _ => none)
def bX9_ways_0 : List (Nat × XI) := [(0, i_ald 0), (1, i_ild 1), (2, i_clv 1 [(10, 158)]), (5, i_ifne 10), (8, i_psh (.int (-1))), (9, i_ret 1)]
def bX9_ways_10 : List (Nat × XI) := [(10, i_ald 0), (11, i_psh (.int 2)), (12, i_pui 58 [10]), (15, i_ald 0), (16, i_psh (.int 1)), (17, i_pui 66 [10]), (20, i_ald 0), (21, i_psh (.int 0)), (22, i_pui 70 [10]), (25, i_ald 0), (26, i_psh (.int 0)), (27, i_pui 73 [10]), (30, i_ald 0), (31, i_ild 1), (32, i_ild 2), (33, i_ild 3), (34, i_psh (.int 400)), (37, i_clv 4 [(10, 159)]), (40, i_ist 4), (42, i_ald 0), (43, i_clv 0 [(10, 199)]), (46, i_ald 0), (47, i_psh (.int 2)), (48, i_pui 66 [10]), (51, i_psh (.int 0)), (52, i_ist 5), (54, i_fal 54)]
def bX9_ways_54 : List (Nat × XI) := [(54, i_ild 5), (56, i_ald 0), (57, i_gei 70 [10]), (60, i_icge 118), (63, i_ald 0), (64, i_ald 0), (65, i_ger 1112 [10]), (68, i_ild 5), (70, i_lda 0), (71, i_pui 67 [10]), (74, i_ald 0), (75, i_ald 0), (76, i_ger 1113 [10]), (79, i_ild 5), (81, i_lda 0), (82, i_pui 68 [10]), (85, i_ald 0), (86, i_ald 0), (87, i_ger 1114 [10]), (90, i_ild 5), (92, i_lda 0), (93, i_pui 69 [10]), (96, i_ald 0), (97, i_ild 1), (98, i_ild 2), (99, i_ild 3), (100, i_psh (.int 400)), (103, i_clv 4 [(10, 159)]), (106, i_ist 4), (108, i_ald 0), (109, i_clv 0 [(10, 199)]), (112, i_inc 5 1), (115, i_got 54)]
def bX9_ways_118 : List (Nat × XI) := [(118, i_ald 0), (119, i_gei 73 [10]), (122, i_ret 1)]
def rX9_ways : XM := (⟨"WaysAtlasModel", "ways", "(III)I"⟩, prog_36_method_104_code, 6, (some .int), [], [(0, bX9_ways_0), (10, bX9_ways_10), (54, bX9_ways_54), (118, bX9_ways_118)], fun _ _ => none)
def bX9_notesWay_0 : List (Nat × XI) := [(0, i_psh (.int 4)), (1, i_ald 0), (2, i_gei 73 [10]), (5, i_mul), (6, i_ist 1), (7, i_ald 0), (8, i_ger 1116 [10]), (11, i_ild 1), (12, i_ald 0), (13, i_psh (.int 0)), (14, i_clv 1 [(10, 162)]), (17, i_ias), (18, i_ald 0), (19, i_ger 1116 [10]), (22, i_ild 1), (23, i_psh (.int 1)), (24, i_add), (25, i_ald 0), (26, i_psh (.int 1)), (27, i_clv 1 [(10, 162)]), (30, i_ias), (31, i_ald 0), (32, i_ger 1116 [10]), (35, i_ild 1), (36, i_psh (.int 2)), (37, i_add), (38, i_ald 0), (39, i_psh (.int 2)), (40, i_clv 1 [(10, 162)]), (43, i_psh (.int (-9))), (45, i_icne 53), (48, i_psh (.int (-9))), (50, i_got 72)]
def bX9_notesWay_53 : List (Nat × XI) := [(53, i_ald 0), (54, i_ger 1088 [10]), (57, i_psh (.int 420)), (60, i_ald 0), (61, i_gei 58 [10]), (64, i_mul), (65, i_ald 0), (66, i_psh (.int 2)), (67, i_clv 1 [(10, 162)]), (70, i_add), (71, i_lda 0), (72, i_fal 72)]
def bX9_notesWay_72 : List (Nat × XI) := [(72, i_ias), (73, i_ald 0), (74, i_ger 1116 [10]), (77, i_ild 1), (78, i_psh (.int 3)), (79, i_add), (80, i_ald 0), (81, i_psh (.int 3)), (82, i_clv 1 [(10, 162)]), (85, i_ifne 93), (88, i_psh (.int (-9))), (90, i_got 114)]
def bX9_notesWay_93 : List (Nat × XI) := [(93, i_ald 0), (94, i_ger 1087 [10]), (97, i_psh (.int 410)), (100, i_ald 0), (101, i_gei 58 [10]), (104, i_mul), (105, i_ald 0), (106, i_psh (.int 3)), (107, i_clv 1 [(10, 162)]), (110, i_add), (111, i_psh (.int 1)), (112, i_sub), (113, i_lda 0), (114, i_fal 114)]
def bX9_notesWay_114 : List (Nat × XI) := [(114, i_ias), (115, i_psh (.int 1)), (116, i_ist 2), (117, i_psh (.int 0)), (118, i_ist 3), (119, i_fal 119)]
def bX9_notesWay_119 : List (Nat × XI) := [(119, i_ild 3), (120, i_ald 0), (121, i_gei 73 [10]), (124, i_icge 201), (127, i_psh (.int 1)), (128, i_ist 4), (130, i_psh (.int 0)), (131, i_ist 5), (133, i_fal 133)]
def bX9_notesWay_133 : List (Nat × XI) := [(133, i_ild 5), (135, i_psh (.int 4)), (136, i_icge 180), (139, i_ild 4), (141, i_ifeq 171), (144, i_ald 0), (145, i_ger 1116 [10]), (148, i_psh (.int 4)), (149, i_ild 3), (150, i_mul), (151, i_ild 5), (153, i_add), (154, i_lda 0), (155, i_ald 0), (156, i_ger 1116 [10]), (159, i_ild 1), (160, i_ild 5), (162, i_add), (163, i_lda 0), (164, i_icne 171), (167, i_psh (.int 1)), (168, i_got 172)]
def bX9_notesWay_171 : List (Nat × XI) := [(171, i_psh (.int 0)), (172, i_fal 172)]
def bX9_notesWay_172 : List (Nat × XI) := [(172, i_ist 4), (174, i_inc 5 1), (177, i_got 133)]
def bX9_notesWay_180 : List (Nat × XI) := [(180, i_ild 2), (181, i_ifeq 193), (184, i_ild 4), (186, i_ifne 193), (189, i_psh (.int 1)), (190, i_got 194)]
def bX9_notesWay_193 : List (Nat × XI) := [(193, i_psh (.int 0)), (194, i_fal 194)]
def bX9_notesWay_194 : List (Nat × XI) := [(194, i_ist 2), (195, i_inc 3 1), (198, i_got 119)]
def bX9_notesWay_201 : List (Nat × XI) := [(201, i_ald 0), (202, i_dup), (203, i_gei 73 [10]), (206, i_ild 2), (207, i_ifeq 214), (210, i_psh (.int 1)), (211, i_got 215)]
def bX9_notesWay_214 : List (Nat × XI) := [(214, i_psh (.int 0)), (215, i_fal 215)]
def bX9_notesWay_215 : List (Nat × XI) := [(215, i_add), (216, i_pui 73 [10]), (219, i_ret 0)]
def rX9_notesWay : XM := (⟨"WaysAtlasModel", "notesWay", "()V"⟩, prog_36_method_103_code, 6, none, [], [(0, bX9_notesWay_0), (53, bX9_notesWay_53), (72, bX9_notesWay_72), (93, bX9_notesWay_93), (114, bX9_notesWay_114), (119, bX9_notesWay_119), (133, bX9_notesWay_133), (171, bX9_notesWay_171), (172, bX9_notesWay_172), (180, bX9_notesWay_180), (193, bX9_notesWay_193), (194, bX9_notesWay_194), (201, bX9_notesWay_201), (214, bX9_notesWay_214), (215, bX9_notesWay_215)], fun _ _ => none)
def bX9_same_0 : List (Nat × XI) := [(0, i_ald 0), (1, i_ild 1), (2, i_clv 1 [(10, 158)]), (5, i_ifeq 12), (8, i_psh (.int 1)), (9, i_got 13)]
def bX9_same_12 : List (Nat × XI) := [(12, i_psh (.int (-1))), (13, i_fal 13)]
def bX9_same_13 : List (Nat × XI) := [(13, i_ret 1)]
def rX9_same : XM := (⟨"WaysAtlasModel", "same", "(III)I"⟩, prog_36_method_105_code, 4, (some .int), [], [(0, bX9_same_0), (12, bX9_same_12), (13, bX9_same_13)], fun _ _ => none)
def bX10_init_0 : List (Nat × XI) := [(0, i_ald 0), (1, i_sv 10), (3, i_psh .null), (4, i_psh (.int 0)), (5, i_psh (.int 0)), (6, i_cli 292 4), (9, i_ald 0), (10, i_ild 1), (11, i_pui 74 [11]), (14, i_ald 0), (15, i_ild 2), (16, i_pui 75 [11]), (19, i_ret 0)]
def rX10_init : XM := (⟨"WaysAtlas$Fault", "<init>", "(II)V"⟩, prog_4_method_1_code, 3, none, [], [(0, bX10_init_0)], fun _ _ => none)
def bX11_init_0 : List (Nat × XI) := [(0, i_ald 0), (1, i_obj), (4, i_ald 0), (5, i_ild 1), (6, i_pui 76 [12]), (9, i_ret 0)]
def rX11_init : XM := (⟨"WaysAtlas$Method", "<init>", "(I)V"⟩, prog_12_method_1_code, 2, none, [], [(0, bX11_init_0)], fun _ _ => none)
def bX12_init_0 : List (Nat × XI) := [(0, i_ald 0), (1, i_obj), (4, i_ret 0)]
def rX12_init : XM := (⟨"WaysAtlas$Node", "<init>", "()V"⟩, prog_14_method_1_code, 1, none, [], [(0, bX12_init_0)], fun _ _ => none)
def bX13_init_0 : List (Nat × XI) := [(0, i_ald 0), (1, i_cli 203 0), (4, i_ald 0), (5, i_ild 1), (6, i_pui 78 [14]), (9, i_ald 0), (10, i_ald 2), (11, i_pur 1118 [14]), (14, i_ald 0), (15, i_ald 3), (16, i_pur 1119 [14]), (19, i_ret 0)]
def rX13_init : XM := (⟨"WaysAtlas$Sign", "<init>", "(ILWaysAtlas$Node;LWaysAtlas$Node;)V"⟩, prog_28_method_1_code, 4, none, [], [(0, bX13_init_0)], fun _ _ => none)
def bX13_value_0 : List (Nat × XI) := [(0, i_ald 0), (1, i_ger 1118 [14]), (4, i_inn 11), (7, i_psh (.int 0)), (8, i_got 20)]
def bX13_value_11 : List (Nat × XI) := [(11, i_ald 0), (12, i_ger 1118 [14]), (15, i_ald 1), (16, i_ald 2), (17, i_clv 2 [(14, 205), (15, 207), (16, 209), (17, 211)]), (20, i_fal 20)]
def bX13_value_20 : List (Nat × XI) := [(20, i_ist 3), (21, i_ald 0), (22, i_ger 1119 [14]), (25, i_ald 1), (26, i_ald 2), (27, i_clv 2 [(14, 205), (15, 207), (16, 209), (17, 211)]), (30, i_ist 4), (32, i_ald 0), (33, i_gei 78 [14]), (36, i_psh (.int 47)), (38, i_iceq 50), (41, i_ald 0), (42, i_gei 78 [14]), (45, i_psh (.int 37)), (47, i_icne 61), (50, i_fal 50)]
def bX13_value_50 : List (Nat × XI) := [(50, i_ild 4), (52, i_ifne 61), (55, i_ald 1), (56, i_psh (.int 2)), (57, i_clv 1 [(6, 82)]), (60, i_thr)]
def bX13_value_61 : List (Nat × XI) := [(61, i_ald 0), (62, i_gei 78 [14]), (65, i_tsw 42 6 124 [114, 104, 124, 109, 124, 119])]
def bX13_value_104 : List (Nat × XI) := [(104, i_ild 3), (105, i_ild 4), (107, i_add), (108, i_ret 1)]
def bX13_value_109 : List (Nat × XI) := [(109, i_ild 3), (110, i_ild 4), (112, i_sub), (113, i_ret 1)]
def bX13_value_114 : List (Nat × XI) := [(114, i_ild 3), (115, i_ild 4), (117, i_mul), (118, i_ret 1)]
def bX13_value_119 : List (Nat × XI) := [(119, i_ild 3), (120, i_ild 4), (122, i_div), (123, i_ret 1)]
def bX13_value_124 : List (Nat × XI) := [(124, i_ild 3), (125, i_ild 4), (127, i_rem), (128, i_ret 1)]
def rX13_value : XM := (⟨"WaysAtlas$Sign", "value", "(LWaysAtlas$Run;LWaysAtlas$Frame;)I"⟩, prog_28_method_2_code, 5, (some .int), [], [(0, bX13_value_0), (11, bX13_value_11), (20, bX13_value_20), (50, bX13_value_50), (61, bX13_value_61), (104, bX13_value_104), (109, bX13_value_109), (114, bX13_value_114), (119, bX13_value_119), (124, bX13_value_124)], fun _ _ => none)
def bX14_init_0 : List (Nat × XI) := [(0, i_ald 0), (1, i_cli 203 0), (4, i_ald 0), (5, i_ild 1), (6, i_pui 79 [15]), (9, i_ret 0)]
def rX14_init : XM := (⟨"WaysAtlas$Number", "<init>", "(I)V"⟩, prog_15_method_1_code, 2, none, [], [(0, bX14_init_0)], fun _ _ => none)
def bX14_value_0 : List (Nat × XI) := [(0, i_ald 0), (1, i_gei 79 [15]), (4, i_ret 1)]
def rX14_value : XM := (⟨"WaysAtlas$Number", "value", "(LWaysAtlas$Run;LWaysAtlas$Frame;)I"⟩, prog_15_method_2_code, 3, (some .int), [], [(0, bX14_value_0)], fun _ _ => none)
def bX15_init_0 : List (Nat × XI) := [(0, i_ald 0), (1, i_cli 203 0), (4, i_ald 0), (5, i_ild 1), (6, i_pui 80 [16]), (9, i_ret 0)]
def rX15_init : XM := (⟨"WaysAtlas$Var", "<init>", "(I)V"⟩, prog_33_method_1_code, 2, none, [], [(0, bX15_init_0)], fun _ _ => none)
def bX15_value_0 : List (Nat × XI) := [(0, i_ald 2), (1, i_ger 1053 [9]), (4, i_ald 0), (5, i_gei 80 [16]), (8, i_lda 0), (9, i_ret 1)]
def rX15_value : XM := (⟨"WaysAtlas$Var", "value", "(LWaysAtlas$Run;LWaysAtlas$Frame;)I"⟩, prog_33_method_2_code, 3, (some .int), [], [(0, bX15_value_0)], fun _ _ => none)
def bX16_init_0 : List (Nat × XI) := [(0, i_ald 0), (1, i_cli 203 0), (4, i_ald 0), (5, i_ild 1), (6, i_pui 81 [17]), (9, i_ald 0), (10, i_ald 2), (11, i_pur 1120 [17]), (14, i_ret 0)]
def rX16_init : XM := (⟨"WaysAtlas$Place", "<init>", "(ILWaysAtlas$Node;)V"⟩, prog_16_method_1_code, 3, none, [], [(0, bX16_init_0)], fun _ _ => none)
def bX16_value_0 : List (Nat × XI) := [(0, i_ald 0), (1, i_ger 1120 [17]), (4, i_inn 42), (7, i_ald 2), (8, i_ger 1054 [9]), (11, i_ald 0), (12, i_gei 81 [17]), (15, i_lda 0), (16, i_psh (.int (-9))), (18, i_icne 27), (21, i_ald 1), (22, i_psh (.int 4)), (23, i_clv 1 [(6, 82)]), (26, i_thr)]
def bX16_value_27 : List (Nat × XI) := [(27, i_ald 1), (28, i_ger 1044 [6]), (31, i_ald 2), (32, i_ger 1054 [9]), (35, i_ald 0), (36, i_gei 81 [17]), (39, i_lda 0), (40, i_lda 0), (41, i_ret 1)]
def bX16_value_42 : List (Nat × XI) := [(42, i_ald 1), (43, i_ger 1045 [6]), (46, i_ald 0), (47, i_ald 1), (48, i_ald 2), (49, i_ald 0), (50, i_ger 1120 [17]), (53, i_ald 1), (54, i_ald 2), (55, i_clv 2 [(14, 205), (15, 207), (16, 209), (17, 211)]), (58, i_clv 3 [(17, 212)]), (61, i_lda 0), (62, i_ret 1)]
def rX16_value : XM := (⟨"WaysAtlas$Place", "value", "(LWaysAtlas$Run;LWaysAtlas$Frame;)I"⟩, prog_16_method_2_code, 3, (some .int), [], [(0, bX16_value_0), (27, bX16_value_27), (42, bX16_value_42)], fun _ _ => none)
def bX16_cell_0 : List (Nat × XI) := [(0, i_ald 2), (1, i_ger 1054 [9]), (4, i_ald 0), (5, i_gei 81 [17]), (8, i_lda 0), (9, i_ist 4), (11, i_ild 4), (13, i_psh (.int (-9))), (15, i_icne 24), (18, i_ald 1), (19, i_psh (.int 4)), (20, i_clv 1 [(6, 82)]), (23, i_thr)]
def bX16_cell_24 : List (Nat × XI) := [(24, i_ild 3), (25, i_psh (.int 0)), (26, i_ald 1), (27, i_ger 1044 [6]), (30, i_ild 4), (32, i_lda 0), (33, i_psh (.int 1)), (34, i_sub), (35, i_cls 3 3), (38, i_ifne 47), (41, i_ald 1), (42, i_psh (.int 3)), (43, i_clv 1 [(6, 82)]), (46, i_thr)]
def bX16_cell_47 : List (Nat × XI) := [(47, i_psh (.int 8)), (49, i_ild 4), (51, i_mul), (52, i_ild 3), (53, i_add), (54, i_ret 1)]
def rX16_cell : XM := (⟨"WaysAtlas$Place", "cell", "(LWaysAtlas$Run;LWaysAtlas$Frame;I)I"⟩, prog_16_method_3_code, 5, (some .int), [], [(0, bX16_cell_0), (24, bX16_cell_24), (47, bX16_cell_47)], fun _ _ => none)
def bX17_init_0 : List (Nat × XI) := [(0, i_ald 0), (1, i_obj), (4, i_ald 0), (5, i_ild 1), (6, i_pui 82 [19, 21, 22, 23, 24, 25, 26, 27, 28, 29, 30, 31, 32]), (9, i_ret 0)]
def rX17_init : XM := (⟨"WaysAtlas$Statement", "<init>", "(I)V"⟩, prog_30_method_1_code, 2, none, [], [(0, bX17_init_0)], fun _ _ => none)
def bX17_isMark_0 : List (Nat × XI) := [(0, i_psh (.int 0)), (1, i_ret 4)]
def rX17_isMark : XM := (⟨"WaysAtlas$Statement", "isMark", "()Z"⟩, prog_30_method_3_code, 1, (some .boolean), [], [(0, bX17_isMark_0)], fun _ _ => none)
def bX17_resources_0 : List (Nat × XI) := [(0, i_psh (.int 0)), (1, i_ret 1)]
def rX17_resources : XM := (⟨"WaysAtlas$Statement", "resources", "()I"⟩, prog_30_method_2_code, 1, (some .int), [], [(0, bX17_resources_0)], fun _ _ => none)
def bX17_hasFinish_0 : List (Nat × XI) := [(0, i_psh (.int 0)), (1, i_ret 4)]
def rX17_hasFinish : XM := (⟨"WaysAtlas$Statement", "hasFinish", "()Z"⟩, prog_30_method_4_code, 1, (some .boolean), [], [(0, bX17_hasFinish_0)], fun _ _ => none)
def bX18_init_0 : List (Nat × XI) := [(0, i_ald 0), (1, i_ild 1), (2, i_cli 213 1), (5, i_ald 0), (6, i_ild 2), (7, i_pui 83 [19]), (10, i_ald 0), (11, i_ild 3), (12, i_pui 84 [19]), (15, i_ald 0), (16, i_ald 4), (18, i_pur 1121 [19]), (21, i_ald 0), (22, i_ald 5), (24, i_pur 1122 [19]), (27, i_ret 0)]
def rX18_init : XM := (⟨"WaysAtlas$Call", "<init>", "(IIILWaysAtlas$Node;LWaysAtlas$Node;)V"⟩, prog_3_method_1_code, 6, none, [], [(0, bX18_init_0)], fun _ _ => none)
def bX18_tells_0 : List (Nat × XI) := [(0, i_ald 1), (1, i_psh (.int 2)), (2, i_ald 0), (3, i_gei 82 [19, 21, 22, 23, 24, 25, 26, 27, 28, 29, 30, 31, 32]), (6, i_psh (.int 0)), (7, i_clv 3 [(34, 276)]), (10, i_pop), (11, i_ret 0)]
def rX18_tells : XM := (⟨"WaysAtlas$Call", "tells", "(LWaysAtlas$Lower;)V"⟩, prog_3_method_4_code, 2, none, [], [(0, bX18_tells_0)], fun _ _ => none)
def bX18_walk_0 : List (Nat × XI) := [(0, i_ald 0), (1, i_ald 1), (2, i_ald 2), (3, i_clv 2 [(19, 220)]), (6, i_ast 3), (7, i_ald 1), (8, i_ger 1029 [6]), (11, i_ald 1), (12, i_ald 3), (13, i_clv 2 [(4, 69)]), (16, i_ist 4), (18, i_ald 0), (19, i_gei 83 [19]), (22, i_psh (.int (-9))), (24, i_iceq 38), (27, i_ald 2), (28, i_ger 1053 [9]), (31, i_ald 0), (32, i_gei 83 [19]), (35, i_ild 4), (37, i_ias), (38, i_fal 38)]
def bX18_walk_38 : List (Nat × XI) := [(38, i_psh (.int 0)), (39, i_ret 1)]
def rX18_walk : XM := (⟨"WaysAtlas$Call", "walk", "(LWaysAtlas$Run;LWaysAtlas$Frame;)I"⟩, prog_3_method_3_code, 5, (some .int), [], [(0, bX18_walk_0), (38, bX18_walk_38)], fun _ _ => none)
def bX18_enters_0 : List (Nat × XI) := [(0, i_ald 0), (1, i_ger 1121 [19]), (4, i_ald 1), (5, i_ald 2), (6, i_clv 2 [(14, 205), (15, 207), (16, 209), (17, 211)]), (9, i_ist 3), (10, i_ald 0), (11, i_ger 1122 [19]), (14, i_ald 1), (15, i_ald 2), (16, i_clv 2 [(14, 205), (15, 207), (16, 209), (17, 211)]), (19, i_ist 4), (21, i_ald 1), (22, i_ald 1), (23, i_ger 1029 [6]), (26, i_ger 1020 [4]), (29, i_ald 0), (30, i_gei 84 [19]), (33, i_lda 6), (34, i_ild 3), (35, i_ild 4), (37, i_clv 3 [(6, 81)]), (40, i_ret 3)]
def rX18_enters : XM := (⟨"WaysAtlas$Call", "enters", "(LWaysAtlas$Run;LWaysAtlas$Frame;)LWaysAtlas$Frame;"⟩, prog_3_method_2_code, 5, (some (.object "WaysAtlas$Frame")), [], [(0, bX18_enters_0)], fun _ _ => none)
def bX19_init_0 : List (Nat × XI) := [(0, i_ald 0), (1, i_ild 1), (2, i_cli 213 1), (5, i_ret 0)]
def rX19_init : XM := (⟨"WaysAtlas$Plain", "<init>", "(I)V"⟩, prog_17_method_1_code, 2, none, [], [(0, bX19_init_0)], fun _ _ => none)
def bX19_tells_0 : List (Nat × XI) := [(0, i_ald 1), (1, i_psh (.int 1)), (2, i_ald 0), (3, i_gei 82 [19, 21, 22, 23, 24, 25, 26, 27, 28, 29, 30, 31, 32]), (6, i_psh (.int 0)), (7, i_clv 3 [(34, 276)]), (10, i_pop), (11, i_ret 0)]
def rX19_tells : XM := (⟨"WaysAtlas$Plain", "tells", "(LWaysAtlas$Lower;)V"⟩, prog_17_method_4_code, 2, none, [], [(0, bX19_tells_0)], fun _ _ => none)
def bX19_walk_0 : List (Nat × XI) := [(0, i_ald 0), (1, i_ald 1), (2, i_ald 2), (3, i_clv 2 [(21, 225), (22, 227), (23, 229), (24, 231), (25, 234), (30, 252)]), (6, i_psh (.int 0)), (7, i_ret 1)]
def rX19_walk : XM := (⟨"WaysAtlas$Plain", "walk", "(LWaysAtlas$Run;LWaysAtlas$Frame;)I"⟩, prog_17_method_3_code, 3, (some .int), [], [(0, bX19_walk_0)], fun _ _ => none)
def bX20_init_0 : List (Nat × XI) := [(0, i_ald 0), (1, i_ild 1), (2, i_cli 221 1), (5, i_ald 0), (6, i_ild 2), (7, i_pui 85 [21]), (10, i_ald 0), (11, i_ald 3), (12, i_pur 1123 [21]), (15, i_ret 0)]
def rX20_init : XM := (⟨"WaysAtlas$SetVar", "<init>", "(IILWaysAtlas$Node;)V"⟩, prog_27_method_1_code, 4, none, [], [(0, bX20_init_0)], fun _ _ => none)
def bX20_does_0 : List (Nat × XI) := [(0, i_ald 2), (1, i_ger 1053 [9]), (4, i_ald 0), (5, i_gei 85 [21]), (8, i_ald 0), (9, i_ger 1123 [21]), (12, i_ald 1), (13, i_ald 2), (14, i_clv 2 [(14, 205), (15, 207), (16, 209), (17, 211)]), (17, i_ias), (18, i_ret 0)]
def rX20_does : XM := (⟨"WaysAtlas$SetVar", "does", "(LWaysAtlas$Run;LWaysAtlas$Frame;)V"⟩, prog_27_method_2_code, 3, none, [], [(0, bX20_does_0)], fun _ _ => none)
def bX21_init_0 : List (Nat × XI) := [(0, i_ald 0), (1, i_ild 1), (2, i_cli 221 1), (5, i_ald 0), (6, i_ald 2), (7, i_pur 1124 [22]), (10, i_ald 0), (11, i_ald 3), (12, i_pur 1125 [22]), (15, i_ret 0)]
def rX21_init : XM := (⟨"WaysAtlas$PutRow", "<init>", "(ILWaysAtlas$Place;LWaysAtlas$Node;)V"⟩, prog_20_method_1_code, 4, none, [], [(0, bX21_init_0)], fun _ _ => none)
def bX21_does_0 : List (Nat × XI) := [(0, i_ald 0), (1, i_ger 1124 [22]), (4, i_ger 1120 [17]), (7, i_ald 1), (8, i_ald 2), (9, i_clv 2 [(14, 205), (15, 207), (16, 209), (17, 211)]), (12, i_ist 3), (13, i_ald 0), (14, i_ger 1125 [22]), (17, i_ald 1), (18, i_ald 2), (19, i_clv 2 [(14, 205), (15, 207), (16, 209), (17, 211)]), (22, i_ist 4), (24, i_ald 1), (25, i_ger 1045 [6]), (28, i_ald 0), (29, i_ger 1124 [22]), (32, i_ald 1), (33, i_ald 2), (34, i_ild 3), (35, i_clv 3 [(17, 212)]), (38, i_ild 4), (40, i_ias), (41, i_ret 0)]
def rX21_does : XM := (⟨"WaysAtlas$PutRow", "does", "(LWaysAtlas$Run;LWaysAtlas$Frame;)V"⟩, prog_20_method_2_code, 5, none, [], [(0, bX21_does_0)], fun _ _ => none)
def bX22_init_0 : List (Nat × XI) := [(0, i_ald 0), (1, i_ild 1), (2, i_cli 221 1), (5, i_ald 0), (6, i_ild 2), (7, i_pui 86 [23]), (10, i_ald 0), (11, i_ald 3), (12, i_pur 1126 [23]), (15, i_ret 0)]
def rX22_init : XM := (⟨"WaysAtlas$NewRow", "<init>", "(IILWaysAtlas$Node;)V"⟩, prog_13_method_1_code, 4, none, [], [(0, bX22_init_0)], fun _ _ => none)
def bX22_does_0 : List (Nat × XI) := [(0, i_ald 0), (1, i_ger 1126 [23]), (4, i_ald 1), (5, i_ald 2), (6, i_clv 2 [(14, 205), (15, 207), (16, 209), (17, 211)]), (9, i_ist 3), (10, i_ild 3), (11, i_psh (.int 0)), (12, i_psh (.int 8)), (14, i_cls 3 3), (17, i_ifne 26), (20, i_ald 1), (21, i_psh (.int 5)), (22, i_clv 1 [(6, 82)]), (25, i_thr)]
def bX22_does_26 : List (Nat × XI) := [(26, i_ald 1), (27, i_gei 27 [6]), (30, i_ist 4), (32, i_ald 1), (33, i_dup), (34, i_gei 27 [6]), (37, i_psh (.int 1)), (38, i_add), (39, i_pui 27 [6]), (42, i_ald 1), (43, i_ger 1044 [6]), (46, i_ild 4), (48, i_ild 3), (49, i_ias), (50, i_psh (.int 0)), (51, i_ist 5), (53, i_fal 53)]
def bX22_does_53 : List (Nat × XI) := [(53, i_ild 5), (55, i_psh (.int 8)), (57, i_icge 80), (60, i_ald 1), (61, i_ger 1045 [6]), (64, i_psh (.int 8)), (66, i_ild 4), (68, i_mul), (69, i_ild 5), (71, i_add), (72, i_psh (.int 0)), (73, i_ias), (74, i_inc 5 1), (77, i_got 53)]
def bX22_does_80 : List (Nat × XI) := [(80, i_ald 2), (81, i_ger 1054 [9]), (84, i_ald 0), (85, i_gei 86 [23]), (88, i_ild 4), (90, i_ias), (91, i_ret 0)]
def rX22_does : XM := (⟨"WaysAtlas$NewRow", "does", "(LWaysAtlas$Run;LWaysAtlas$Frame;)V"⟩, prog_13_method_2_code, 6, none, [], [(0, bX22_does_0), (26, bX22_does_26), (53, bX22_does_53), (80, bX22_does_80)], fun _ _ => none)
def bX23_init_0 : List (Nat × XI) := [(0, i_ald 0), (1, i_ild 1), (2, i_cli 221 1), (5, i_ald 0), (6, i_ild 2), (7, i_pui 87 [24]), (10, i_ald 0), (11, i_ild 3), (12, i_pui 88 [24]), (15, i_ret 0)]
def rX23_init : XM := (⟨"WaysAtlas$SameRow", "<init>", "(III)V"⟩, prog_24_method_1_code, 4, none, [], [(0, bX23_init_0)], fun _ _ => none)
def bX23_does_0 : List (Nat × XI) := [(0, i_ald 2), (1, i_ger 1054 [9]), (4, i_ald 0), (5, i_gei 87 [24]), (8, i_ald 0), (9, i_gei 88 [24]), (12, i_psh (.int (-9))), (14, i_icne 22), (17, i_psh (.int (-9))), (19, i_got 31)]
def bX23_does_22 : List (Nat × XI) := [(22, i_ald 2), (23, i_ger 1054 [9]), (26, i_ald 0), (27, i_gei 88 [24]), (30, i_lda 0), (31, i_fal 31)]
def bX23_does_31 : List (Nat × XI) := [(31, i_ias), (32, i_ret 0)]
def rX23_does : XM := (⟨"WaysAtlas$SameRow", "does", "(LWaysAtlas$Run;LWaysAtlas$Frame;)V"⟩, prog_24_method_2_code, 3, none, [], [(0, bX23_does_0), (22, bX23_does_22), (31, bX23_does_31)], fun _ _ => none)
def bX24_init_0 : List (Nat × XI) := [(0, i_ald 0), (1, i_ild 1), (2, i_cli 221 1), (5, i_ald 0), (6, i_ild 2), (7, i_pui 89 [25]), (10, i_ret 0)]
def rX24_init : XM := (⟨"WaysAtlas$Mark", "<init>", "(II)V"⟩, prog_11_method_1_code, 3, none, [], [(0, bX24_init_0)], fun _ _ => none)
def bX24_isMark_0 : List (Nat × XI) := [(0, i_psh (.int 1)), (1, i_ret 4)]
def rX24_isMark : XM := (⟨"WaysAtlas$Mark", "isMark", "()Z"⟩, prog_11_method_2_code, 1, (some .boolean), [], [(0, bX24_isMark_0)], fun _ _ => none)
def bX24_does_0 : List (Nat × XI) := [(0, i_ald 1), (1, i_ald 0), (2, i_gei 82 [19, 21, 22, 23, 24, 25, 26, 27, 28, 29, 30, 31, 32]), (5, i_ald 0), (6, i_gei 89 [25]), (9, i_clv 2 [(6, 90)]), (12, i_ret 0)]
def rX24_does : XM := (⟨"WaysAtlas$Mark", "does", "(LWaysAtlas$Run;LWaysAtlas$Frame;)V"⟩, prog_11_method_3_code, 3, none, [], [(0, bX24_does_0)], fun _ _ => none)
def bX25_init_0 : List (Nat × XI) := [(0, i_ald 0), (1, i_ild 1), (2, i_cli 213 1), (5, i_ald 0), (6, i_ald 2), (7, i_pur 1127 [26]), (10, i_ret 0)]
def rX25_init : XM := (⟨"WaysAtlas$Return", "<init>", "(ILWaysAtlas$Node;)V"⟩, prog_22_method_1_code, 3, none, [], [(0, bX25_init_0)], fun _ _ => none)
def bX25_tells_0 : List (Nat × XI) := [(0, i_ald 1), (1, i_psh (.int 3)), (2, i_ald 0), (3, i_gei 82 [19, 21, 22, 23, 24, 25, 26, 27, 28, 29, 30, 31, 32]), (6, i_psh (.int 0)), (7, i_clv 3 [(34, 276)]), (10, i_pop), (11, i_ald 1), (12, i_psh (.int 1)), (13, i_clv 1 [(34, 288)]), (16, i_ret 0)]
def rX25_tells : XM := (⟨"WaysAtlas$Return", "tells", "(LWaysAtlas$Lower;)V"⟩, prog_22_method_4_code, 2, none, [], [(0, bX25_tells_0)], fun _ _ => none)
def bX25_walk_0 : List (Nat × XI) := [(0, i_ald 0), (1, i_ald 1), (2, i_ald 2), (3, i_clv 2 [(26, 238)]), (6, i_psh (.int 1)), (7, i_ret 1)]
def rX25_walk : XM := (⟨"WaysAtlas$Return", "walk", "(LWaysAtlas$Run;LWaysAtlas$Frame;)I"⟩, prog_22_method_3_code, 3, (some .int), [], [(0, bX25_walk_0)], fun _ _ => none)
def bX25_does_0 : List (Nat × XI) := [(0, i_ald 2), (1, i_ald 0), (2, i_ger 1127 [26]), (5, i_ald 1), (6, i_ald 2), (7, i_clv 2 [(14, 205), (15, 207), (16, 209), (17, 211)]), (10, i_pui 34 [9]), (13, i_ret 0)]
def rX25_does : XM := (⟨"WaysAtlas$Return", "does", "(LWaysAtlas$Run;LWaysAtlas$Frame;)V"⟩, prog_22_method_2_code, 3, none, [], [(0, bX25_does_0)], fun _ _ => none)
def bX26_init_0 : List (Nat × XI) := [(0, i_ald 0), (1, i_ild 1), (2, i_cli 213 1), (5, i_ald 0), (6, i_ald 2), (7, i_pur 1128 [27]), (10, i_ald 0), (11, i_ild 3), (12, i_pui 90 [27]), (15, i_ald 0), (16, i_ald 4), (18, i_pur 1129 [27]), (21, i_ret 0)]
def rX26_init : XM := (⟨"WaysAtlas$If", "<init>", "(ILWaysAtlas$Node;ILWaysAtlas$Node;)V"⟩, prog_7_method_1_code, 5, none, [], [(0, bX26_init_0)], fun _ _ => none)
def bX26_tells_0 : List (Nat × XI) := [(0, i_ald 1), (1, i_psh (.int 4)), (2, i_ald 0), (3, i_gei 82 [19, 21, 22, 23, 24, 25, 26, 27, 28, 29, 30, 31, 32]), (6, i_psh (.int 0)), (7, i_clv 3 [(34, 276)]), (10, i_ist 2), (11, i_ald 1), (12, i_ald 0), (13, i_ger 1130 [27]), (16, i_clv 1 [(34, 275)]), (19, i_ald 1), (20, i_psh (.int 5)), (21, i_psh (.int 0)), (22, i_psh (.int 0)), (23, i_clv 3 [(34, 276)]), (26, i_ist 3), (27, i_ald 1), (28, i_ild 2), (29, i_ald 1), (30, i_gei 100 [34]), (33, i_clv 2 [(34, 284)]), (36, i_ald 1), (37, i_ald 0), (38, i_ger 1131 [27]), (41, i_clv 1 [(34, 275)]), (44, i_ald 1), (45, i_ild 3), (46, i_ald 1), (47, i_gei 100 [34]), (50, i_clv 2 [(34, 284)]), (53, i_ret 0)]
def rX26_tells : XM := (⟨"WaysAtlas$If", "tells", "(LWaysAtlas$Lower;)V"⟩, prog_7_method_4_code, 4, none, [], [(0, bX26_tells_0)], fun _ _ => none)
def bX26_walk_0 : List (Nat × XI) := [(0, i_ald 0), (1, i_ald 1), (2, i_ald 2), (3, i_clv 2 [(27, 242)]), (6, i_ifeq 16), (9, i_ald 0), (10, i_ger 1130 [27]), (13, i_got 20)]
def bX26_walk_16 : List (Nat × XI) := [(16, i_ald 0), (17, i_ger 1131 [27]), (20, i_fal 20)]
def bX26_walk_20 : List (Nat × XI) := [(20, i_ald 1), (21, i_ald 2), (22, i_cls 14 3), (25, i_ret 1)]
def rX26_walk : XM := (⟨"WaysAtlas$If", "walk", "(LWaysAtlas$Run;LWaysAtlas$Frame;)I"⟩, prog_7_method_3_code, 3, (some .int), [], [(0, bX26_walk_0), (16, bX26_walk_16), (20, bX26_walk_20)], fun _ _ => none)
def bX26_holds_0 : List (Nat × XI) := [(0, i_ald 0), (1, i_ger 1128 [27]), (4, i_ald 1), (5, i_ald 2), (6, i_clv 2 [(14, 205), (15, 207), (16, 209), (17, 211)]), (9, i_ist 3), (10, i_ald 0), (11, i_ger 1129 [27]), (14, i_ald 1), (15, i_ald 2), (16, i_clv 2 [(14, 205), (15, 207), (16, 209), (17, 211)]), (19, i_ist 4), (21, i_ald 0), (22, i_gei 90 [27]), (25, i_psh (.int 61)), (27, i_icne 44), (30, i_ild 3), (31, i_ild 4), (33, i_icne 40), (36, i_psh (.int 1)), (37, i_got 78)]
def bX26_holds_40 : List (Nat × XI) := [(40, i_psh (.int 0)), (41, i_got 78)]
def bX26_holds_44 : List (Nat × XI) := [(44, i_ald 0), (45, i_gei 90 [27]), (48, i_psh (.int 60)), (50, i_icne 67), (53, i_ild 3), (54, i_ild 4), (56, i_icge 63), (59, i_psh (.int 1)), (60, i_got 78)]
def bX26_holds_63 : List (Nat × XI) := [(63, i_psh (.int 0)), (64, i_got 78)]
def bX26_holds_67 : List (Nat × XI) := [(67, i_ild 3), (68, i_ild 4), (70, i_icle 77), (73, i_psh (.int 1)), (74, i_got 78)]
def bX26_holds_77 : List (Nat × XI) := [(77, i_psh (.int 0)), (78, i_fal 78)]
def bX26_holds_78 : List (Nat × XI) := [(78, i_ret 4)]
def rX26_holds : XM := (⟨"WaysAtlas$If", "holds", "(LWaysAtlas$Run;LWaysAtlas$Frame;)Z"⟩, prog_7_method_2_code, 5, (some .boolean), [], [(0, bX26_holds_0), (40, bX26_holds_40), (44, bX26_holds_44), (63, bX26_holds_63), (67, bX26_holds_67), (77, bX26_holds_77), (78, bX26_holds_78)], fun _ _ => none)
def bX27_init_0 : List (Nat × XI) := [(0, i_ald 0), (1, i_ild 1), (2, i_cli 213 1), (5, i_ald 0), (6, i_ald 2), (7, i_pur 1132 [28]), (10, i_ret 0)]
def rX27_init : XM := (⟨"WaysAtlas$Loop", "<init>", "(ILWaysAtlas$Node;)V"⟩, prog_9_method_1_code, 3, none, [], [(0, bX27_init_0)], fun _ _ => none)
def bX27_tells_0 : List (Nat × XI) := [(0, i_ald 1), (1, i_psh (.int 6)), (3, i_ald 0), (4, i_gei 82 [19, 21, 22, 23, 24, 25, 26, 27, 28, 29, 30, 31, 32]), (7, i_ald 0), (8, i_clv 0 [(28, 245)]), (11, i_clv 3 [(34, 276)]), (14, i_pop), (15, i_ald 1), (16, i_gei 100 [34]), (19, i_ist 2), (20, i_ald 1), (21, i_psh (.int 7)), (23, i_ald 0), (24, i_gei 82 [19, 21, 22, 23, 24, 25, 26, 27, 28, 29, 30, 31, 32]), (27, i_psh (.int 0)), (28, i_clv 3 [(34, 276)]), (31, i_ist 3), (32, i_ald 1), (33, i_psh (.int 0)), (34, i_ald 0), (35, i_clv 2 [(34, 280)]), (38, i_ast 4), (40, i_ald 4), (42, i_ild 2), (43, i_pui 99 [33]), (46, i_ald 1), (47, i_ald 0), (48, i_ger 1133 [28]), (51, i_clv 1 [(34, 275)]), (54, i_ald 1), (55, i_clv 0 [(34, 281)]), (58, i_ald 1), (59, i_psh (.int 5)), (60, i_psh (.int 0)), (61, i_ild 2), (62, i_clv 3 [(34, 276)]), (65, i_ist 5), (67, i_ald 1), (68, i_ild 3), (69, i_ald 1), (70, i_gei 100 [34]), (73, i_clv 2 [(34, 284)]), (76, i_ald 4), (78, i_ald 1), (79, i_ald 1), (80, i_gei 100 [34]), (83, i_clv 2 [(33, 269)]), (86, i_ret 0)]
def rX27_tells : XM := (⟨"WaysAtlas$Loop", "tells", "(LWaysAtlas$Lower;)V"⟩, prog_9_method_5_code, 6, none, [], [(0, bX27_tells_0)], fun _ _ => none)
def bX27_slot_0 : List (Nat × XI) := [(0, i_psh (.int 8)), (2, i_ald 0), (3, i_gei 82 [19, 21, 22, 23, 24, 25, 26, 27, 28, 29, 30, 31, 32]), (6, i_mul), (7, i_ret 1)]
def rX27_slot : XM := (⟨"WaysAtlas$Loop", "slot", "()I"⟩, prog_9_method_4_code, 1, (some .int), [], [(0, bX27_slot_0)], fun _ _ => none)
def bX27_walk_0 : List (Nat × XI) := [(0, i_ald 0), (1, i_ald 1), (2, i_ald 2), (3, i_clv 2 [(28, 247)]), (6, i_ist 3), (7, i_psh (.int 0)), (8, i_ist 4), (10, i_fal 10)]
def bX27_walk_10 : List (Nat × XI) := [(10, i_ild 4), (12, i_ild 3), (13, i_icge 77), (16, i_ald 1), (17, i_clv 0 [(6, 85)]), (20, i_ald 0), (21, i_ger 1133 [28]), (24, i_ald 1), (25, i_ald 2), (26, i_cls 14 3), (29, i_ist 5), (31, i_ild 5), (33, i_ifeq 71), (36, i_ild 5), (38, i_psh (.int 201)), (41, i_iceq 71), (44, i_ild 5), (46, i_psh (.int 101)), (48, i_icne 55), (51, i_psh (.int 0)), (52, i_got 70)]
def bX27_walk_55 : List (Nat × XI) := [(55, i_ild 5), (57, i_psh (.int 1)), (58, i_icle 68), (61, i_ild 5), (63, i_psh (.int 1)), (64, i_sub), (65, i_got 70)]
def bX27_walk_68 : List (Nat × XI) := [(68, i_ild 5), (70, i_fal 70)]
def bX27_walk_70 : List (Nat × XI) := [(70, i_ret 1)]
def bX27_walk_71 : List (Nat × XI) := [(71, i_inc 4 1), (74, i_got 10)]
def bX27_walk_77 : List (Nat × XI) := [(77, i_psh (.int 0)), (78, i_ret 1)]
def rX27_walk : XM := (⟨"WaysAtlas$Loop", "walk", "(LWaysAtlas$Run;LWaysAtlas$Frame;)I"⟩, prog_9_method_3_code, 6, (some .int), [], [(0, bX27_walk_0), (10, bX27_walk_10), (55, bX27_walk_55), (68, bX27_walk_68), (70, bX27_walk_70), (71, bX27_walk_71), (77, bX27_walk_77)], fun _ _ => none)
def bX27_turns_0 : List (Nat × XI) := [(0, i_ald 0), (1, i_ger 1132 [28]), (4, i_ald 1), (5, i_ald 2), (6, i_clv 2 [(14, 205), (15, 207), (16, 209), (17, 211)]), (9, i_ret 1)]
def rX27_turns : XM := (⟨"WaysAtlas$Loop", "turns", "(LWaysAtlas$Run;LWaysAtlas$Frame;)I"⟩, prog_9_method_2_code, 3, (some .int), [], [(0, bX27_turns_0)], fun _ _ => none)
def bX28_init_0 : List (Nat × XI) := [(0, i_ald 0), (1, i_ild 1), (2, i_cli 213 1), (5, i_ald 0), (6, i_ild 2), (7, i_pui 91 [29]), (10, i_ret 0)]
def rX28_init : XM := (⟨"WaysAtlas$Leave", "<init>", "(II)V"⟩, prog_8_method_1_code, 3, none, [], [(0, bX28_init_0)], fun _ _ => none)
def bX28_tells_0 : List (Nat × XI) := [(0, i_ald 1), (1, i_ald 0), (2, i_gei 91 [29]), (5, i_clv 1 [(34, 288)]), (8, i_ret 0)]
def rX28_tells : XM := (⟨"WaysAtlas$Leave", "tells", "(LWaysAtlas$Lower;)V"⟩, prog_8_method_3_code, 2, none, [], [(0, bX28_tells_0)], fun _ _ => none)
def bX28_walk_0 : List (Nat × XI) := [(0, i_ald 0), (1, i_gei 91 [29]), (4, i_ret 1)]
def rX28_walk : XM := (⟨"WaysAtlas$Leave", "walk", "(LWaysAtlas$Run;LWaysAtlas$Frame;)I"⟩, prog_8_method_2_code, 3, (some .int), [], [(0, bX28_walk_0)], fun _ _ => none)
def bX29_init_0 : List (Nat × XI) := [(0, i_ald 0), (1, i_ild 1), (2, i_cli 221 1), (5, i_ald 0), (6, i_ild 2), (7, i_pui 92 [30]), (10, i_ret 0)]
def rX29_init : XM := (⟨"WaysAtlas$Throw", "<init>", "(II)V"⟩, prog_31_method_1_code, 3, none, [], [(0, bX29_init_0)], fun _ _ => none)
def bX29_does_0 : List (Nat × XI) := [(0, i_ald 1), (1, i_ald 0), (2, i_gei 92 [30]), (5, i_clv 1 [(6, 82)]), (8, i_thr)]
def rX29_does : XM := (⟨"WaysAtlas$Throw", "does", "(LWaysAtlas$Run;LWaysAtlas$Frame;)V"⟩, prog_31_method_2_code, 3, none, [], [(0, bX29_does_0)], fun _ _ => none)
def bX30_init_0 : List (Nat × XI) := [(0, i_ald 0), (1, i_ild 1), (2, i_cli 213 1), (5, i_ald 0), (6, i_ild 2), (7, i_pui 93 [31]), (10, i_ald 0), (11, i_ald 3), (12, i_pur 1134 [31]), (15, i_ret 0)]
def rX30_init : XM := (⟨"WaysAtlas$Again", "<init>", "(IILWaysAtlas$Guard;)V"⟩, prog_2_method_1_code, 4, none, [], [(0, bX30_init_0)], fun _ _ => none)
def bX30_tells_0 : List (Nat × XI) := [(0, i_ald 1), (1, i_psh (.int 8)), (3, i_ald 0), (4, i_gei 82 [19, 21, 22, 23, 24, 25, 26, 27, 28, 29, 30, 31, 32]), (7, i_psh (.int 0)), (8, i_clv 3 [(34, 276)]), (11, i_pop), (12, i_ret 0)]
def rX30_tells : XM := (⟨"WaysAtlas$Again", "tells", "(LWaysAtlas$Lower;)V"⟩, prog_2_method_4_code, 2, none, [], [(0, bX30_tells_0)], fun _ _ => none)
def bX30_walk_0 : List (Nat × XI) := [(0, i_ald 0), (1, i_ald 1), (2, i_ald 2), (3, i_clv 2 [(31, 256)]), (6, i_psh (.int 0)), (7, i_ret 1)]
def rX30_walk : XM := (⟨"WaysAtlas$Again", "walk", "(LWaysAtlas$Run;LWaysAtlas$Frame;)I"⟩, prog_2_method_3_code, 3, (some .int), [], [(0, bX30_walk_0)], fun _ _ => none)
def bX30_does_0 : List (Nat × XI) := [(0, i_ald 2), (1, i_ger 1055 [9]), (4, i_ald 0), (5, i_ger 1134 [31]), (8, i_psh (.int 0)), (9, i_clv 1 [(32, 261)]), (12, i_lda 0), (13, i_ist 3), (14, i_ald 1), (15, i_ger 1046 [6]), (18, i_ald 0), (19, i_gei 93 [31]), (22, i_psh (.int (-9))), (24, i_icne 31), (27, i_ild 3), (28, i_got 40)]
def bX30_does_31 : List (Nat × XI) := [(31, i_ald 1), (32, i_ald 0), (33, i_gei 93 [31]), (36, i_ild 3), (37, i_clv 2 [(6, 83)]), (40, i_fal 40)]
def bX30_does_40 : List (Nat × XI) := [(40, i_clv 1 [(7, 93)]), (43, i_thr)]
def rX30_does : XM := (⟨"WaysAtlas$Again", "does", "(LWaysAtlas$Run;LWaysAtlas$Frame;)V"⟩, prog_2_method_2_code, 4, none, [], [(0, bX30_does_0), (31, bX30_does_31), (40, bX30_does_40)], fun _ _ => none)
def bX31_init_0 : List (Nat × XI) := [(0, i_ald 0), (1, i_ild 1), (2, i_cli 213 1), (5, i_ald 0), (6, i_psh (.int 2)), (7, i_nwa 0), (9, i_pur 1136 [32]), (12, i_ald 0), (13, i_psh (.int 2)), (14, i_nwa 5), (17, i_pur 1137 [32]), (20, i_ald 0), (21, i_ild 2), (22, i_pui 94 [32]), (25, i_ret 0)]
def rX31_init : XM := (⟨"WaysAtlas$Guard", "<init>", "(II)V"⟩, prog_6_method_1_code, 3, none, [], [(0, bX31_init_0)], fun _ _ => none)
def bX31_adds_0 : List (Nat × XI) := [(0, i_ald 0), (1, i_gei 95 [32]), (4, i_ald 0), (5, i_ger 1136 [32]), (8, i_len), (9, i_icne 57), (12, i_ald 0), (13, i_ald 0), (14, i_ger 1136 [32]), (17, i_ald 0), (18, i_gei 95 [32]), (21, i_psh (.int 1)), (22, i_add), (23, i_cls 267 2), (26, i_pur 1136 [32]), (29, i_ald 0), (30, i_ger 1136 [32]), (33, i_len), (34, i_nwa 5), (37, i_ast 3), (38, i_ald 0), (39, i_ger 1137 [32]), (42, i_psh (.int 0)), (43, i_ald 3), (44, i_psh (.int 0)), (45, i_ald 0), (46, i_gei 95 [32]), (49, i_cpq 5 [104]), (52, i_ald 0), (53, i_ald 3), (54, i_pur 1137 [32]), (57, i_fal 57)]
def bX31_adds_57 : List (Nat × XI) := [(57, i_ald 0), (58, i_ger 1136 [32]), (61, i_ald 0), (62, i_gei 95 [32]), (65, i_ild 1), (66, i_ias), (67, i_ald 0), (68, i_ger 1137 [32]), (71, i_ald 0), (72, i_gei 95 [32]), (75, i_ald 2), (76, i_aaA), (77, i_ald 0), (78, i_dup), (79, i_gei 95 [32]), (82, i_psh (.int 1)), (83, i_add), (84, i_pui 95 [32]), (87, i_ret 0)]
def rX31_adds : XM := (⟨"WaysAtlas$Guard", "adds", "(I[LWaysAtlas$Statement;)V"⟩, prog_6_method_3_code, 4, none, [], [(0, bX31_adds_0), (57, bX31_adds_57)], fun _ _ => none)
def bX31_tells_0 : List (Nat × XI) := [(0, i_ald 1), (1, i_ald 0), (2, i_clv 1 [(34, 277)]), (5, i_ret 0)]
def rX31_tells : XM := (⟨"WaysAtlas$Guard", "tells", "(LWaysAtlas$Lower;)V"⟩, prog_6_method_10_code, 2, none, [], [(0, bX31_tells_0)], fun _ _ => none)
def bX31_resources_0 : List (Nat × XI) := [(0, i_ald 0), (1, i_gei 94 [32]), (4, i_ret 1)]
def rX31_resources : XM := (⟨"WaysAtlas$Guard", "resources", "()I"⟩, prog_6_method_4_code, 1, (some .int), [], [(0, bX31_resources_0)], fun _ _ => none)
def bX31_slot_0 : List (Nat × XI) := [(0, i_psh (.int 8)), (2, i_ald 0), (3, i_gei 82 [19, 21, 22, 23, 24, 25, 26, 27, 28, 29, 30, 31, 32]), (6, i_mul), (7, i_ild 1), (8, i_add), (9, i_ret 1)]
def rX31_slot : XM := (⟨"WaysAtlas$Guard", "slot", "(I)I"⟩, prog_6_method_2_code, 2, (some .int), [], [(0, bX31_slot_0)], fun _ _ => none)
def bX31_walk_0 : List (Nat × XI) := [(0, i_ald 0), (1, i_ger 1138 [32]), (4, i_inn 14), (7, i_ald 0), (8, i_ald 1), (9, i_ald 2), (10, i_clv 2 [(32, 263)]), (13, i_ret 1)]
def bX31_walk_14 : List (Nat × XI) := [(14, i_psh (.int (-9))), (16, i_ist 3), (17, i_psh (.int 0)), (18, i_ist 4), (20, i_ald 0), (21, i_ald 1), (22, i_ald 2), (23, i_clv 2 [(32, 263)]), (26, i_ist 4), (28, i_got 39)]
def bX31_walk_31 : List (Nat × XI) := [(31, i_ast 5), (33, i_ald 5), (35, i_gei 33 [7]), (38, i_ist 3), (39, i_fal 39)]
def bX31_walk_39 : List (Nat × XI) := [(39, i_ald 2), (40, i_gei 34 [9]), (43, i_ist 5), (45, i_ald 1), (46, i_ger 1041 [6]), (49, i_ald 0), (50, i_gei 82 [19, 21, 22, 23, 24, 25, 26, 27, 28, 29, 30, 31, 32]), (53, i_du2), (54, i_lda 0), (55, i_psh (.int 1)), (56, i_add), (57, i_ias), (58, i_psh (.int 0)), (59, i_ist 6), (61, i_ald 0), (62, i_ger 1138 [32]), (65, i_ald 1), (66, i_ald 2), (67, i_cls 14 3), (70, i_ist 6), (72, i_got 100)]
def bX31_walk_75 : List (Nat × XI) := [(75, i_ast 7), (77, i_ald 1), (78, i_dup), (79, i_gei 25 [6]), (82, i_ild 3), (83, i_psh (.int (-9))), (85, i_icne 92), (88, i_psh (.int 0)), (89, i_got 93)]
def bX31_walk_92 : List (Nat × XI) := [(92, i_psh (.int 1)), (93, i_fal 93)]
def bX31_walk_93 : List (Nat × XI) := [(93, i_add), (94, i_pui 25 [6]), (97, i_ald 7), (99, i_thr)]
def bX31_walk_100 : List (Nat × XI) := [(100, i_ild 6), (102, i_ifeq 128), (105, i_ald 1), (106, i_dup), (107, i_gei 25 [6]), (110, i_ild 3), (111, i_psh (.int (-9))), (113, i_icne 120), (116, i_psh (.int 0)), (117, i_got 121)]
def bX31_walk_120 : List (Nat × XI) := [(120, i_psh (.int 1)), (121, i_fal 121)]
def bX31_walk_121 : List (Nat × XI) := [(121, i_add), (122, i_pui 25 [6]), (125, i_ild 6), (127, i_ret 1)]
def bX31_walk_128 : List (Nat × XI) := [(128, i_ild 3), (129, i_psh (.int (-9))), (131, i_iceq 143), (134, i_ald 1), (135, i_ger 1046 [6]), (138, i_ild 3), (139, i_clv 1 [(7, 93)]), (142, i_thr)]
def bX31_walk_143 : List (Nat × XI) := [(143, i_ald 2), (144, i_ild 5), (146, i_pui 34 [9]), (149, i_ild 4), (151, i_ret 1)]
def hX31_walk (pc kd : Nat) : Option Nat := if 20 ≤ pc ∧ pc < 28 then (if kd = 7 then some 31 else if 61 ≤ pc ∧ pc < 72 then (if kd = 7 then some 75 else none) else none) else if 61 ≤ pc ∧ pc < 72 then (if kd = 7 then some 75 else none) else none
def rX31_walk : XM := (⟨"WaysAtlas$Guard", "walk", "(LWaysAtlas$Run;LWaysAtlas$Frame;)I"⟩, prog_6_method_9_code, 8, (some .int), [(20, 28, 31, 81), (61, 72, 75, 81)], [(0, bX31_walk_0), (14, bX31_walk_14), (31, bX31_walk_31), (39, bX31_walk_39), (75, bX31_walk_75), (92, bX31_walk_92), (93, bX31_walk_93), (100, bX31_walk_100), (120, bX31_walk_120), (121, bX31_walk_121), (128, bX31_walk_128), (143, bX31_walk_143)], hX31_walk)
def bX31_caught_0 : List (Nat × XI) := [(0, i_ald 0), (1, i_gei 94 [32]), (4, i_ifle 16), (7, i_ald 0), (8, i_ald 1), (9, i_ald 2), (10, i_clv 2 [(32, 264)]), (13, i_got 25)]
def bX31_caught_16 : List (Nat × XI) := [(16, i_ald 0), (17, i_ger 1135 [32]), (20, i_ald 1), (21, i_ald 2), (22, i_cls 14 3), (25, i_fal 25)]
def bX31_caught_25 : List (Nat × XI) := [(25, i_ret 1)]
def bX31_caught_26 : List (Nat × XI) := [(26, i_ast 3), (27, i_ald 0), (28, i_ald 1), (29, i_ald 1), (30, i_ger 1033 [6]), (33, i_ald 3), (34, i_gei 33 [7]), (37, i_lda 0), (38, i_clv 2 [(32, 265)]), (41, i_ist 4), (43, i_ild 4), (45, i_psh (.int (-9))), (47, i_icne 52), (50, i_ald 3), (51, i_thr)]
def bX31_caught_52 : List (Nat × XI) := [(52, i_ald 2), (53, i_ger 1055 [9]), (56, i_ald 0), (57, i_psh (.int 0)), (58, i_clv 1 [(32, 261)]), (61, i_ald 3), (62, i_gei 33 [7]), (65, i_ias), (66, i_ald 0), (67, i_ger 1137 [32]), (70, i_ild 4), (72, i_lda 5), (73, i_ald 1), (74, i_ald 2), (75, i_cls 14 3), (78, i_ret 1)]
def hX31_caught (pc kd : Nat) : Option Nat := if 0 ≤ pc ∧ pc < 25 then (if kd = 7 then some 26 else none) else none
def rX31_caught : XM := (⟨"WaysAtlas$Guard", "caught", "(LWaysAtlas$Run;LWaysAtlas$Frame;)I"⟩, prog_6_method_8_code, 5, (some .int), [(0, 25, 26, 81)], [(0, bX31_caught_0), (16, bX31_caught_16), (25, bX31_caught_25), (26, bX31_caught_26), (52, bX31_caught_52)], hX31_caught)
def bX31_inner_0 : List (Nat × XI) := [(0, i_ald 0), (1, i_psh (.int 4)), (2, i_clv 1 [(32, 261)]), (5, i_ist 3), (6, i_ald 1), (7, i_ald 0), (8, i_gei 82 [19, 21, 22, 23, 24, 25, 26, 27, 28, 29, 30, 31, 32]), (11, i_ald 0), (12, i_gei 94 [32]), (15, i_ald 2), (16, i_ger 1055 [9]), (19, i_ild 3), (20, i_clv 4 [(6, 86)]), (23, i_ist 4), (25, i_ald 1), (26, i_gei 31 [6]), (29, i_ist 5), (31, i_psh (.int 0)), (32, i_ist 6), (34, i_ild 5), (36, i_psh (.int (-9))), (38, i_icne 64), (41, i_ald 0), (42, i_ger 1135 [32]), (45, i_ald 1), (46, i_ald 2), (47, i_cls 14 3), (50, i_ist 6), (52, i_got 64)]
def bX31_inner_55 : List (Nat × XI) := [(55, i_ast 7), (57, i_ald 7), (59, i_gei 33 [7]), (62, i_ist 5), (64, i_fal 64)]
def bX31_inner_64 : List (Nat × XI) := [(64, i_ald 2), (65, i_ald 0), (66, i_gei 82 [19, 21, 22, 23, 24, 25, 26, 27, 28, 29, 30, 31, 32]), (69, i_pui 35 [9]), (72, i_ald 1), (73, i_ald 0), (74, i_gei 82 [19, 21, 22, 23, 24, 25, 26, 27, 28, 29, 30, 31, 32]), (77, i_ild 4), (79, i_ald 2), (80, i_ger 1055 [9]), (83, i_ild 3), (84, i_ild 5), (86, i_clv 5 [(6, 88)]), (89, i_ist 5), (91, i_ild 5), (93, i_psh (.int (-9))), (95, i_iceq 108), (98, i_ald 1), (99, i_ger 1046 [6]), (102, i_ild 5), (104, i_clv 1 [(7, 93)]), (107, i_thr)]
def bX31_inner_108 : List (Nat × XI) := [(108, i_ild 6), (110, i_ret 1)]
def hX31_inner (pc kd : Nat) : Option Nat := if 41 ≤ pc ∧ pc < 52 then (if kd = 7 then some 55 else none) else none
def rX31_inner : XM := (⟨"WaysAtlas$Guard", "inner", "(LWaysAtlas$Run;LWaysAtlas$Frame;)I"⟩, prog_6_method_7_code, 8, (some .int), [(41, 52, 55, 81)], [(0, bX31_inner_0), (55, bX31_inner_55), (64, bX31_inner_64), (108, bX31_inner_108)], hX31_inner)
def bX31_catchOf_0 : List (Nat × XI) := [(0, i_psh (.int 0)), (1, i_ist 3), (2, i_fal 2)]
def bX31_catchOf_2 : List (Nat × XI) := [(2, i_ild 3), (3, i_ald 0), (4, i_gei 95 [32]), (7, i_icge 35), (10, i_ald 1), (11, i_ger 1029 [6]), (14, i_ild 2), (15, i_ald 0), (16, i_ger 1136 [32]), (19, i_ild 3), (20, i_lda 0), (21, i_clv 2 [(4, 70)]), (24, i_ifeq 29), (27, i_ild 3), (28, i_ret 1)]
def bX31_catchOf_29 : List (Nat × XI) := [(29, i_inc 3 1), (32, i_got 2)]
def bX31_catchOf_35 : List (Nat × XI) := [(35, i_psh (.int (-9))), (37, i_ret 1)]
def rX31_catchOf : XM := (⟨"WaysAtlas$Guard", "catchOf", "(LWaysAtlas$Run;I)I"⟩, prog_6_method_6_code, 4, (some .int), [], [(0, bX31_catchOf_0), (2, bX31_catchOf_2), (29, bX31_catchOf_29), (35, bX31_catchOf_35)], fun _ _ => none)
def bX31_hasFinish_0 : List (Nat × XI) := [(0, i_ald 0), (1, i_ger 1138 [32]), (4, i_ifn 11), (7, i_psh (.int 1)), (8, i_got 12)]
def bX31_hasFinish_11 : List (Nat × XI) := [(11, i_psh (.int 0)), (12, i_fal 12)]
def bX31_hasFinish_12 : List (Nat × XI) := [(12, i_ret 4)]
def rX31_hasFinish : XM := (⟨"WaysAtlas$Guard", "hasFinish", "()Z"⟩, prog_6_method_5_code, 1, (some .boolean), [], [(0, bX31_hasFinish_0), (11, bX31_hasFinish_11), (12, bX31_hasFinish_12)], fun _ _ => none)
def bX32_wide_0 : List (Nat × XI) := [(0, i_ild 1), (1, i_ald 0), (2, i_len), (3, i_icgt 8), (6, i_ald 0), (7, i_ret 3)]
def bX32_wide_8 : List (Nat × XI) := [(8, i_psh (.int 2)), (9, i_ild 1), (10, i_mul), (11, i_nwa 0), (13, i_ast 2), (14, i_ald 0), (15, i_psh (.int 0)), (16, i_ald 2), (17, i_psh (.int 0)), (18, i_ald 0), (19, i_len), (20, i_cpi), (23, i_ald 2), (24, i_ret 3)]
def rX32_wide : XM := (⟨"WaysAtlas$Scope", "wide", "([II)[I"⟩, prog_26_method_2_code, 3, (some (.array .int)), [], [(0, bX32_wide_0), (8, bX32_wide_8)], fun _ _ => none)
def bX32_init_0 : List (Nat × XI) := [(0, i_ald 0), (1, i_obj), (4, i_ald 0), (5, i_psh (.int 8)), (7, i_nwa 0), (9, i_pur 1141 [33]), (12, i_ald 0), (13, i_psh (.int 4)), (14, i_nwa 0), (16, i_pur 1142 [33]), (19, i_ald 0), (20, i_ild 1), (21, i_pui 96 [33]), (24, i_ald 0), (25, i_ald 2), (26, i_pur 1139 [33]), (29, i_ald 0), (30, i_ald 3), (31, i_pur 1140 [33]), (34, i_ret 0)]
def rX32_init : XM := (⟨"WaysAtlas$Scope", "<init>", "(ILWaysAtlas$Statement;LWaysAtlas$Scope;)V"⟩, prog_26_method_1_code, 4, none, [], [(0, bX32_init_0)], fun _ _ => none)
def bX32_lands_0 : List (Nat × XI) := [(0, i_psh (.int 0)), (1, i_ist 3), (2, i_fal 2)]
def bX32_lands_2 : List (Nat × XI) := [(2, i_ild 3), (3, i_ald 0), (4, i_gei 98 [33]), (7, i_icge 27), (10, i_ald 1), (11, i_ald 0), (12, i_ger 1142 [33]), (15, i_ild 3), (16, i_lda 0), (17, i_ild 2), (18, i_clv 2 [(34, 284)]), (21, i_inc 3 1), (24, i_got 2)]
def bX32_lands_27 : List (Nat × XI) := [(27, i_ret 0)]
def rX32_lands : XM := (⟨"WaysAtlas$Scope", "lands", "(LWaysAtlas$Lower;I)V"⟩, prog_26_method_4_code, 4, none, [], [(0, bX32_lands_0), (2, bX32_lands_2), (27, bX32_lands_27)], fun _ _ => none)
def bX32_adds_0 : List (Nat × XI) := [(0, i_ald 0), (1, i_ald 0), (2, i_ger 1142 [33]), (5, i_ald 0), (6, i_gei 98 [33]), (9, i_psh (.int 1)), (10, i_add), (11, i_cls 267 2), (14, i_pur 1142 [33]), (17, i_ald 0), (18, i_ger 1142 [33]), (21, i_ald 0), (22, i_gei 98 [33]), (25, i_ild 1), (26, i_ias), (27, i_ald 0), (28, i_dup), (29, i_gei 98 [33]), (32, i_psh (.int 1)), (33, i_add), (34, i_pui 98 [33]), (37, i_ret 0)]
def rX32_adds : XM := (⟨"WaysAtlas$Scope", "adds", "(I)V"⟩, prog_26_method_3_code, 2, none, [], [(0, bX32_adds_0)], fun _ _ => none)
def bX32_gap_0 : List (Nat × XI) := [(0, i_ald 0), (1, i_ald 0), (2, i_ger 1141 [33]), (5, i_ald 0), (6, i_gei 97 [33]), (9, i_psh (.int 2)), (10, i_add), (11, i_cls 267 2), (14, i_pur 1141 [33]), (17, i_ald 0), (18, i_ger 1141 [33]), (21, i_ald 0), (22, i_gei 97 [33]), (25, i_ild 1), (26, i_ias), (27, i_ald 0), (28, i_ger 1141 [33]), (31, i_ald 0), (32, i_gei 97 [33]), (35, i_psh (.int 1)), (36, i_add), (37, i_ild 2), (38, i_ias), (39, i_ald 0), (40, i_dup), (41, i_gei 97 [33]), (44, i_psh (.int 2)), (45, i_add), (46, i_pui 97 [33]), (49, i_ret 0)]
def rX32_gap : XM := (⟨"WaysAtlas$Scope", "gap", "(II)V"⟩, prog_26_method_5_code, 3, none, [], [(0, bX32_gap_0)], fun _ _ => none)
def bX33_init_0 : List (Nat × XI) := [(0, i_ald 0), (1, i_obj), (4, i_ald 0), (5, i_psh (.int 600)), (8, i_nwa 0), (10, i_pur 1143 [34]), (13, i_ald 0), (14, i_psh (.int 200)), (17, i_nwa 0), (19, i_pur 1144 [34]), (22, i_ald 0), (23, i_ild 1), (24, i_puz 102 [34]), (27, i_ret 0)]
def rX33_init : XM := (⟨"WaysAtlas$Lower", "<init>", "(Z)V"⟩, prog_10_method_1_code, 2, none, [], [(0, bX33_init_0)], fun _ _ => none)
def bX33_isTooLong_0 : List (Nat × XI) := [(0, i_ald 0), (1, i_gei 102 [34]), (4, i_ifne 21), (7, i_ald 0), (8, i_gei 100 [34]), (11, i_psh (.int 2000)), (14, i_icle 21), (17, i_psh (.int 1)), (18, i_got 22)]
def bX33_isTooLong_21 : List (Nat × XI) := [(21, i_psh (.int 0)), (22, i_fal 22)]
def bX33_isTooLong_22 : List (Nat × XI) := [(22, i_ret 4)]
def rX33_isTooLong : XM := (⟨"WaysAtlas$Lower", "isTooLong", "()Z"⟩, prog_10_method_6_code, 1, (some .boolean), [], [(0, bX33_isTooLong_0), (21, bX33_isTooLong_21), (22, bX33_isTooLong_22)], fun _ _ => none)
def bX33_method_0 : List (Nat × XI) := [(0, i_ald 1), (1, i_ald 0), (2, i_gei 100 [34]), (5, i_pui 77 [12]), (8, i_ald 0), (9, i_psh .null), (10, i_pur 1145 [34]), (13, i_ald 0), (14, i_ald 1), (15, i_ger 1117 [12]), (18, i_clv 1 [(34, 275)]), (21, i_ald 0), (22, i_psh (.int 21)), (24, i_psh (.int 0)), (25, i_psh (.int 0)), (26, i_clv 3 [(34, 276)]), (29, i_pop), (30, i_ald 0), (31, i_psh (.int 22)), (33, i_psh (.int 0)), (34, i_psh (.int 0)), (35, i_clv 3 [(34, 276)]), (38, i_pop), (39, i_ret 0)]
def rX33_method : XM := (⟨"WaysAtlas$Lower", "method", "(LWaysAtlas$Method;)V"⟩, prog_10_method_18_code, 2, none, [], [(0, bX33_method_0)], fun _ _ => none)
def bX33_block_0 : List (Nat × XI) := [(0, i_psh (.int 0)), (1, i_ist 2), (2, i_fal 2)]
def bX33_block_2 : List (Nat × XI) := [(2, i_ild 2), (3, i_ald 1), (4, i_len), (5, i_icge 45), (8, i_ald 0), (9, i_clv 0 [(34, 273)]), (12, i_ifne 45), (15, i_ald 0), (16, i_psh (.int 0)), (17, i_ald 1), (18, i_ild 2), (19, i_lda 4), (20, i_gei 82 [19, 21, 22, 23, 24, 25, 26, 27, 28, 29, 30, 31, 32]), (23, i_psh (.int 0)), (24, i_clv 3 [(34, 276)]), (27, i_pop), (28, i_ald 1), (29, i_ild 2), (30, i_lda 4), (31, i_ast 3), (32, i_ald 3), (33, i_ald 0), (34, i_clv 1 [(19, 218), (21, 222), (22, 222), (23, 222), (24, 222), (25, 222), (26, 236), (27, 240), (28, 244), (29, 249), (30, 222), (31, 254), (32, 259)]), (39, i_inc 2 1), (42, i_got 2)]
def bX33_block_45 : List (Nat × XI) := [(45, i_ret 0)]
def rX33_block : XM := (⟨"WaysAtlas$Lower", "block", "([LWaysAtlas$Statement;)V"⟩, prog_10_method_7_code, 4, none, [], [(0, bX33_block_0), (2, bX33_block_2), (45, bX33_block_45)], fun _ _ => none)
def bX33_add_0 : List (Nat × XI) := [(0, i_ald 0), (1, i_ald 0), (2, i_ger 1143 [34]), (5, i_psh (.int 3)), (6, i_ald 0), (7, i_gei 100 [34]), (10, i_mul), (11, i_psh (.int 3)), (12, i_add), (13, i_cls 267 2), (16, i_pur 1143 [34]), (19, i_ald 0), (20, i_ger 1143 [34]), (23, i_psh (.int 3)), (24, i_ald 0), (25, i_gei 100 [34]), (28, i_mul), (29, i_ild 1), (30, i_ias), (31, i_ald 0), (32, i_ger 1143 [34]), (35, i_psh (.int 3)), (36, i_ald 0), (37, i_gei 100 [34]), (40, i_mul), (41, i_psh (.int 1)), (42, i_add), (43, i_ild 2), (44, i_ias), (45, i_ald 0), (46, i_ger 1143 [34]), (49, i_psh (.int 3)), (50, i_ald 0), (51, i_gei 100 [34]), (54, i_mul), (55, i_psh (.int 2)), (56, i_add), (57, i_ild 3), (58, i_ias), (59, i_ald 0), (60, i_dup), (61, i_gei 100 [34]), (64, i_psh (.int 1)), (65, i_add), (66, i_pui 100 [34]), (69, i_ald 0), (70, i_gei 100 [34]), (73, i_psh (.int 1)), (74, i_sub), (75, i_ret 1)]
def rX33_add : XM := (⟨"WaysAtlas$Lower", "add", "(III)I"⟩, prog_10_method_2_code, 4, (some .int), [], [(0, bX33_add_0)], fun _ _ => none)
def bX33_guard_0 : List (Nat × XI) := [(0, i_ald 1), (1, i_ger 1138 [32]), (4, i_inn 13), (7, i_ald 0), (8, i_ald 1), (9, i_clv 1 [(34, 278)]), (12, i_ret 0)]
def bX33_guard_13 : List (Nat × XI) := [(13, i_ald 0), (14, i_gei 100 [34]), (17, i_ist 2), (18, i_ald 0), (19, i_psh (.int 3)), (20, i_ald 1), (21, i_clv 2 [(34, 280)]), (24, i_ast 3), (25, i_ald 0), (26, i_ald 1), (27, i_clv 1 [(34, 278)]), (30, i_ald 0), (31, i_clv 0 [(34, 281)]), (34, i_ald 0), (35, i_gei 100 [34]), (38, i_ist 4), (40, i_ald 0), (41, i_gei 102 [34]), (44, i_ifeq 59), (47, i_ald 0), (48, i_ald 1), (49, i_ald 3), (50, i_ild 2), (51, i_ild 4), (53, i_clv 4 [(34, 285)]), (56, i_got 68)]
def bX33_guard_59 : List (Nat × XI) := [(59, i_ald 0), (60, i_ald 1), (61, i_ald 3), (62, i_ild 2), (63, i_ild 4), (65, i_clv 4 [(34, 287)]), (68, i_fal 68)]
def bX33_guard_68 : List (Nat × XI) := [(68, i_ret 0)]
def rX33_guard : XM := (⟨"WaysAtlas$Lower", "guard", "(LWaysAtlas$Guard;)V"⟩, prog_10_method_14_code, 5, none, [], [(0, bX33_guard_0), (13, bX33_guard_13), (59, bX33_guard_59), (68, bX33_guard_68)], fun _ _ => none)
def bX33_caught_0 : List (Nat × XI) := [(0, i_ald 1), (1, i_gei 95 [32]), (4, i_ifne 13), (7, i_ald 0), (8, i_ald 1), (9, i_clv 1 [(34, 279)]), (12, i_ret 0)]
def bX33_caught_13 : List (Nat × XI) := [(13, i_ald 0), (14, i_gei 100 [34]), (17, i_ist 2), (18, i_ald 0), (19, i_psh (.int 2)), (20, i_ald 1), (21, i_clv 2 [(34, 280)]), (24, i_ast 3), (25, i_ald 0), (26, i_ald 1), (27, i_clv 1 [(34, 279)]), (30, i_ald 0), (31, i_clv 0 [(34, 281)]), (34, i_ald 0), (35, i_gei 100 [34]), (38, i_ist 4), (40, i_ald 1), (41, i_gei 95 [32]), (44, i_psh (.int 1)), (45, i_add), (46, i_nwa 0), (48, i_ast 5), (50, i_ald 5), (52, i_psh (.int 0)), (53, i_ald 0), (54, i_psh (.int 5)), (55, i_psh (.int 0)), (56, i_psh (.int 0)), (57, i_clv 3 [(34, 276)]), (60, i_ias), (61, i_psh (.int 0)), (62, i_ist 6), (64, i_fal 64)]
def bX33_caught_64 : List (Nat × XI) := [(64, i_ild 6), (66, i_ald 1), (67, i_gei 95 [32]), (70, i_icge 128), (73, i_ald 0), (74, i_ald 3), (75, i_ild 2), (76, i_ild 4), (78, i_ald 0), (79, i_gei 100 [34]), (82, i_ald 1), (83, i_ger 1136 [32]), (86, i_ild 6), (88, i_lda 0), (89, i_ald 1), (90, i_psh (.int 0)), (91, i_clv 1 [(32, 261)]), (94, i_clv 6 [(34, 282)]), (97, i_ald 0), (98, i_ald 1), (99, i_ger 1137 [32]), (102, i_ild 6), (104, i_lda 5), (105, i_clv 1 [(34, 275)]), (108, i_ald 5), (110, i_ild 6), (112, i_psh (.int 1)), (113, i_add), (114, i_ald 0), (115, i_psh (.int 5)), (116, i_psh (.int 0)), (117, i_psh (.int 0)), (118, i_clv 3 [(34, 276)]), (121, i_ias), (122, i_inc 6 1), (125, i_got 64)]
def bX33_caught_128 : List (Nat × XI) := [(128, i_psh (.int 0)), (129, i_ist 6), (131, i_fal 131)]
def bX33_caught_131 : List (Nat × XI) := [(131, i_ild 6), (133, i_ald 1), (134, i_gei 95 [32]), (137, i_icgt 159), (140, i_ald 0), (141, i_ald 5), (143, i_ild 6), (145, i_lda 0), (146, i_ald 0), (147, i_gei 100 [34]), (150, i_clv 2 [(34, 284)]), (153, i_inc 6 1), (156, i_got 131)]
def bX33_caught_159 : List (Nat × XI) := [(159, i_ret 0)]
def rX33_caught : XM := (⟨"WaysAtlas$Lower", "caught", "(LWaysAtlas$Guard;)V"⟩, prog_10_method_13_code, 7, none, [], [(0, bX33_caught_0), (13, bX33_caught_13), (64, bX33_caught_64), (128, bX33_caught_128), (131, bX33_caught_131), (159, bX33_caught_159)], fun _ _ => none)
def bX33_inner_0 : List (Nat × XI) := [(0, i_ald 1), (1, i_clv 0 [(32, 260)]), (4, i_ifne 16), (7, i_ald 0), (8, i_ald 1), (9, i_ger 1135 [32]), (12, i_clv 1 [(34, 275)]), (15, i_ret 0)]
def bX33_inner_16 : List (Nat × XI) := [(16, i_ald 0), (17, i_psh (.int 9)), (19, i_ald 1), (20, i_gei 82 [19, 21, 22, 23, 24, 25, 26, 27, 28, 29, 30, 31, 32]), (23, i_psh (.int 0)), (24, i_clv 3 [(34, 276)]), (27, i_pop), (28, i_ald 0), (29, i_gei 100 [34]), (32, i_ist 2), (33, i_ald 0), (34, i_psh (.int 1)), (35, i_ald 1), (36, i_clv 2 [(34, 280)]), (39, i_ast 3), (40, i_ald 0), (41, i_ald 1), (42, i_ger 1135 [32]), (45, i_clv 1 [(34, 275)]), (48, i_ald 0), (49, i_clv 0 [(34, 281)]), (52, i_ald 0), (53, i_gei 100 [34]), (56, i_ist 4), (58, i_ald 0), (59, i_psh (.int 10)), (61, i_ald 1), (62, i_gei 82 [19, 21, 22, 23, 24, 25, 26, 27, 28, 29, 30, 31, 32]), (65, i_psh (.int 0)), (66, i_clv 3 [(34, 276)]), (69, i_pop), (70, i_ald 0), (71, i_psh (.int 5)), (72, i_psh (.int 0)), (73, i_psh (.int 0)), (74, i_clv 3 [(34, 276)]), (77, i_ist 5), (79, i_ald 0), (80, i_ald 3), (81, i_ild 2), (82, i_ild 4), (84, i_ald 0), (85, i_gei 100 [34]), (88, i_psh (.int (-9))), (90, i_ald 1), (91, i_psh (.int 7)), (93, i_clv 1 [(32, 261)]), (96, i_clv 6 [(34, 282)]), (99, i_ald 0), (100, i_psh (.int 11)), (102, i_ald 1), (103, i_gei 82 [19, 21, 22, 23, 24, 25, 26, 27, 28, 29, 30, 31, 32]), (106, i_ald 1), (107, i_psh (.int 7)), (109, i_clv 1 [(32, 261)]), (112, i_clv 3 [(34, 276)]), (115, i_pop), (116, i_ald 0), (117, i_ild 5), (119, i_ald 0), (120, i_gei 100 [34]), (123, i_clv 2 [(34, 284)]), (126, i_ret 0)]
def rX33_inner : XM := (⟨"WaysAtlas$Lower", "inner", "(LWaysAtlas$Guard;)V"⟩, prog_10_method_12_code, 6, none, [], [(0, bX33_inner_0), (16, bX33_inner_16)], fun _ _ => none)
def bX33_enters_0 : List (Nat × XI) := [(0, i_ald 0), (1, i_new 32 8), (4, i_dup), (5, i_ild 1), (6, i_ald 2), (7, i_ald 0), (8, i_ger 1145 [34]), (11, i_cli 268 3), (14, i_pur 1145 [34]), (17, i_ald 0), (18, i_ger 1145 [34]), (21, i_ret 3)]
def rX33_enters : XM := (⟨"WaysAtlas$Lower", "enters", "(ILWaysAtlas$Statement;)LWaysAtlas$Scope;"⟩, prog_10_method_4_code, 3, (some (.object "WaysAtlas$Scope")), [], [(0, bX33_enters_0)], fun _ _ => none)
def bX33_exits_0 : List (Nat × XI) := [(0, i_ald 0), (1, i_ald 0), (2, i_ger 1145 [34]), (5, i_ger 1140 [33]), (8, i_pur 1145 [34]), (11, i_ret 0)]
def rX33_exits : XM := (⟨"WaysAtlas$Lower", "exits", "()V"⟩, prog_10_method_5_code, 1, none, [], [(0, bX33_exits_0)], fun _ _ => none)
def bX33_rows_0 : List (Nat × XI) := [(0, i_ild 2), (1, i_ist 7), (3, i_psh (.int 0)), (4, i_ist 8), (6, i_fal 6)]
def bX33_rows_6 : List (Nat × XI) := [(6, i_ild 8), (8, i_ald 1), (9, i_gei 97 [33]), (12, i_icge 51), (15, i_ald 0), (16, i_ild 7), (18, i_ald 1), (19, i_ger 1141 [33]), (22, i_ild 8), (24, i_lda 0), (25, i_ild 4), (27, i_ild 5), (29, i_ild 6), (31, i_clv 5 [(34, 283)]), (34, i_ald 1), (35, i_ger 1141 [33]), (38, i_ild 8), (40, i_psh (.int 1)), (41, i_add), (42, i_lda 0), (43, i_ist 7), (45, i_inc 8 2), (48, i_got 6)]
def bX33_rows_51 : List (Nat × XI) := [(51, i_ald 0), (52, i_ild 7), (54, i_ild 3), (55, i_ild 4), (57, i_ild 5), (59, i_ild 6), (61, i_clv 5 [(34, 283)]), (64, i_ret 0)]
def rX33_rows : XM := (⟨"WaysAtlas$Lower", "rows", "(LWaysAtlas$Scope;IIIII)V"⟩, prog_10_method_9_code, 9, none, [], [(0, bX33_rows_0), (6, bX33_rows_6), (51, bX33_rows_51)], fun _ _ => none)
def bX33_row_0 : List (Nat × XI) := [(0, i_ild 1), (1, i_ild 2), (2, i_icge 104), (5, i_ald 0), (6, i_ald 0), (7, i_ger 1144 [34]), (10, i_psh (.int 5)), (11, i_ald 0), (12, i_gei 101 [34]), (15, i_mul), (16, i_psh (.int 5)), (17, i_add), (18, i_cls 267 2), (21, i_pur 1144 [34]), (24, i_ald 0), (25, i_ger 1144 [34]), (28, i_psh (.int 5)), (29, i_ald 0), (30, i_gei 101 [34]), (33, i_mul), (34, i_ild 1), (35, i_ias), (36, i_ald 0), (37, i_ger 1144 [34]), (40, i_psh (.int 5)), (41, i_ald 0), (42, i_gei 101 [34]), (45, i_mul), (46, i_psh (.int 1)), (47, i_add), (48, i_ild 2), (49, i_ias), (50, i_ald 0), (51, i_ger 1144 [34]), (54, i_psh (.int 5)), (55, i_ald 0), (56, i_gei 101 [34]), (59, i_mul), (60, i_psh (.int 2)), (61, i_add), (62, i_ild 3), (63, i_ias), (64, i_ald 0), (65, i_ger 1144 [34]), (68, i_psh (.int 5)), (69, i_ald 0), (70, i_gei 101 [34]), (73, i_mul), (74, i_psh (.int 3)), (75, i_add), (76, i_ild 4), (78, i_ias), (79, i_ald 0), (80, i_ger 1144 [34]), (83, i_psh (.int 5)), (84, i_ald 0), (85, i_gei 101 [34]), (88, i_mul), (89, i_psh (.int 4)), (90, i_add), (91, i_ild 5), (93, i_ias), (94, i_ald 0), (95, i_dup), (96, i_gei 101 [34]), (99, i_psh (.int 1)), (100, i_add), (101, i_pui 101 [34]), (104, i_fal 104)]
def bX33_row_104 : List (Nat × XI) := [(104, i_ret 0)]
def rX33_row : XM := (⟨"WaysAtlas$Lower", "row", "(IIIII)V"⟩, prog_10_method_8_code, 6, none, [], [(0, bX33_row_0), (104, bX33_row_104)], fun _ _ => none)
def bX33_lands_0 : List (Nat × XI) := [(0, i_ald 0), (1, i_ger 1143 [34]), (4, i_psh (.int 3)), (5, i_ild 1), (6, i_mul), (7, i_psh (.int 2)), (8, i_add), (9, i_ild 2), (10, i_ias), (11, i_ret 0)]
def rX33_lands : XM := (⟨"WaysAtlas$Lower", "lands", "(II)V"⟩, prog_10_method_3_code, 3, none, [], [(0, bX33_lands_0)], fun _ _ => none)
def bX33_shared_0 : List (Nat × XI) := [(0, i_ald 0), (1, i_psh (.int 18)), (3, i_psh (.int 0)), (4, i_ald 1), (5, i_psh (.int 1)), (6, i_clv 1 [(32, 261)]), (9, i_clv 3 [(34, 276)]), (12, i_pop), (13, i_ald 0), (14, i_psh (.int 19)), (16, i_ald 1), (17, i_psh (.int 3)), (18, i_clv 1 [(32, 261)]), (21, i_psh (.int 0)), (22, i_clv 3 [(34, 276)]), (25, i_ist 5), (27, i_ald 0), (28, i_psh (.int 5)), (29, i_psh (.int 0)), (30, i_psh (.int 0)), (31, i_clv 3 [(34, 276)]), (34, i_ist 6), (36, i_ald 0), (37, i_ald 2), (38, i_ild 3), (39, i_ild 4), (41, i_ald 0), (42, i_gei 100 [34]), (45, i_psh (.int (-9))), (47, i_ald 1), (48, i_psh (.int 1)), (49, i_clv 1 [(32, 261)]), (52, i_clv 6 [(34, 282)]), (55, i_ald 0), (56, i_psh (.int 19)), (58, i_ald 1), (59, i_psh (.int 3)), (60, i_clv 1 [(32, 261)]), (63, i_psh (.int 0)), (64, i_clv 3 [(34, 276)]), (67, i_ist 7), (69, i_ald 0), (70, i_ild 6), (72, i_ald 0), (73, i_gei 100 [34]), (76, i_clv 2 [(34, 284)]), (79, i_ald 2), (80, i_ald 0), (81, i_ald 0), (82, i_gei 100 [34]), (85, i_clv 2 [(33, 269)]), (88, i_ald 0), (89, i_psh (.int 12)), (91, i_ald 1), (92, i_gei 82 [19, 21, 22, 23, 24, 25, 26, 27, 28, 29, 30, 31, 32]), (95, i_psh (.int 0)), (96, i_clv 3 [(34, 276)]), (99, i_pop), (100, i_ald 0), (101, i_ald 1), (102, i_psh (.int 5)), (103, i_clv 2 [(34, 286)]), (106, i_ald 0), (107, i_psh (.int 20)), (109, i_psh (.int 0)), (110, i_ald 1), (111, i_psh (.int 3)), (112, i_clv 1 [(32, 261)]), (115, i_clv 3 [(34, 276)]), (118, i_pop), (119, i_ald 0), (120, i_ild 7), (122, i_ald 0), (123, i_gei 100 [34]), (126, i_clv 2 [(34, 284)]), (129, i_ald 0), (130, i_psh (.int 15)), (132, i_psh (.int 0)), (133, i_ald 1), (134, i_psh (.int 1)), (135, i_clv 1 [(32, 261)]), (138, i_clv 3 [(34, 276)]), (141, i_pop), (142, i_ald 0), (143, i_ild 5), (145, i_ald 0), (146, i_gei 100 [34]), (149, i_clv 2 [(34, 284)]), (152, i_ret 0)]
def rX33_shared : XM := (⟨"WaysAtlas$Lower", "shared", "(LWaysAtlas$Guard;LWaysAtlas$Scope;II)V"⟩, prog_10_method_17_code, 8, none, [], [(0, bX33_shared_0)], fun _ _ => none)
def bX33_pending_0 : List (Nat × XI) := [(0, i_ald 0), (1, i_gei 100 [34]), (4, i_ist 3), (5, i_ald 0), (6, i_ild 2), (7, i_ald 1), (8, i_clv 2 [(34, 280)]), (11, i_ast 4), (13, i_ald 0), (14, i_ald 1), (15, i_ger 1138 [32]), (18, i_clv 1 [(34, 275)]), (21, i_ald 0), (22, i_clv 0 [(34, 281)]), (25, i_ald 0), (26, i_gei 100 [34]), (29, i_ist 5), (31, i_ald 0), (32, i_psh (.int 5)), (33, i_psh (.int 0)), (34, i_psh (.int 0)), (35, i_clv 3 [(34, 276)]), (38, i_ist 6), (40, i_ald 0), (41, i_ald 4), (43, i_ild 3), (44, i_ild 5), (46, i_ald 0), (47, i_gei 100 [34]), (50, i_psh (.int (-9))), (52, i_ald 1), (53, i_psh (.int 7)), (55, i_clv 1 [(32, 261)]), (58, i_clv 6 [(34, 282)]), (61, i_ald 0), (62, i_ild 2), (63, i_psh (.int 4)), (64, i_icne 72), (67, i_psh (.int 16)), (69, i_got 74)]
def bX33_pending_72 : List (Nat × XI) := [(72, i_psh (.int 17)), (74, i_fal 74)]
def bX33_pending_74 : List (Nat × XI) := [(74, i_psh (.int 0)), (75, i_ald 1), (76, i_psh (.int 1)), (77, i_clv 1 [(32, 261)]), (80, i_clv 3 [(34, 276)]), (83, i_pop), (84, i_ald 0), (85, i_psh (.int 15)), (87, i_psh (.int 0)), (88, i_ald 1), (89, i_psh (.int 7)), (91, i_clv 1 [(32, 261)]), (94, i_clv 3 [(34, 276)]), (97, i_pop), (98, i_ald 0), (99, i_ild 6), (101, i_ald 0), (102, i_gei 100 [34]), (105, i_clv 2 [(34, 284)]), (108, i_ret 0)]
def rX33_pending : XM := (⟨"WaysAtlas$Lower", "pending", "(LWaysAtlas$Guard;I)V"⟩, prog_10_method_16_code, 7, none, [], [(0, bX33_pending_0), (72, bX33_pending_72), (74, bX33_pending_74)], fun _ _ => none)
def bX33_copied_0 : List (Nat × XI) := [(0, i_ald 0), (1, i_psh (.int 12)), (3, i_ald 1), (4, i_gei 82 [19, 21, 22, 23, 24, 25, 26, 27, 28, 29, 30, 31, 32]), (7, i_psh (.int 0)), (8, i_clv 3 [(34, 276)]), (11, i_pop), (12, i_ald 0), (13, i_ald 1), (14, i_ger 1138 [32]), (17, i_clv 1 [(34, 275)]), (20, i_ald 0), (21, i_psh (.int 5)), (22, i_psh (.int 0)), (23, i_psh (.int 0)), (24, i_clv 3 [(34, 276)]), (27, i_ist 5), (29, i_ald 0), (30, i_ald 2), (31, i_ild 3), (32, i_ild 4), (34, i_ald 0), (35, i_gei 100 [34]), (38, i_psh (.int (-9))), (40, i_ald 1), (41, i_psh (.int 1)), (42, i_clv 1 [(32, 261)]), (45, i_clv 6 [(34, 282)]), (48, i_ald 0), (49, i_psh (.int 12)), (51, i_ald 1), (52, i_gei 82 [19, 21, 22, 23, 24, 25, 26, 27, 28, 29, 30, 31, 32]), (55, i_psh (.int 0)), (56, i_clv 3 [(34, 276)]), (59, i_pop), (60, i_ald 0), (61, i_ald 1), (62, i_psh (.int 4)), (63, i_clv 2 [(34, 286)]), (66, i_ald 0), (67, i_psh (.int 15)), (69, i_psh (.int 0)), (70, i_ald 1), (71, i_psh (.int 1)), (72, i_clv 1 [(32, 261)]), (75, i_clv 3 [(34, 276)]), (78, i_pop), (79, i_ald 0), (80, i_ild 5), (82, i_ald 0), (83, i_gei 100 [34]), (86, i_clv 2 [(34, 284)]), (89, i_ret 0)]
def rX33_copied : XM := (⟨"WaysAtlas$Lower", "copied", "(LWaysAtlas$Guard;LWaysAtlas$Scope;II)V"⟩, prog_10_method_15_code, 6, none, [], [(0, bX33_copied_0)], fun _ _ => none)
def bX33_leaves_0 : List (Nat × XI) := [(0, i_ald 0), (1, i_ger 1145 [34]), (4, i_ast 2), (5, i_ild 1), (6, i_psh (.int 200)), (9, i_iclt 20), (12, i_ild 1), (13, i_psh (.int 200)), (16, i_sub), (17, i_got 35)]
def bX33_leaves_20 : List (Nat × XI) := [(20, i_ild 1), (21, i_psh (.int 100)), (23, i_iclt 33), (26, i_ild 1), (27, i_psh (.int 100)), (29, i_sub), (30, i_got 35)]
def bX33_leaves_33 : List (Nat × XI) := [(33, i_psh (.int 80)), (35, i_fal 35)]
def bX33_leaves_35 : List (Nat × XI) := [(35, i_ist 3), (36, i_ald 0), (37, i_ger 1145 [34]), (40, i_ast 4), (42, i_psh (.int 40)), (44, i_nwa 0), (46, i_ast 5), (48, i_psh (.int 0)), (49, i_ist 6), (51, i_fal 51)]
def bX33_leaves_51 : List (Nat × XI) := [(51, i_ald 4), (53, i_ifn 123), (56, i_ald 4), (58, i_gei 96 [33]), (61, i_ifne 69), (64, i_ild 3), (65, i_psh (.int 1)), (66, i_iceq 123), (69, i_fal 69)]
def bX33_leaves_69 : List (Nat × XI) := [(69, i_ild 3), (70, i_ald 4), (72, i_gei 96 [33]), (75, i_ifne 82), (78, i_psh (.int 1)), (79, i_got 83)]
def bX33_leaves_82 : List (Nat × XI) := [(82, i_psh (.int 0)), (83, i_fal 83)]
def bX33_leaves_83 : List (Nat × XI) := [(83, i_sub), (84, i_ist 3), (85, i_ald 5), (87, i_ild 6), (89, i_ald 0), (90, i_gei 100 [34]), (93, i_ias), (94, i_inc 6 1), (97, i_ald 0), (98, i_ald 4), (100, i_ger 1140 [33]), (103, i_pur 1145 [34]), (106, i_ald 0), (107, i_ald 4), (109, i_ild 1), (110, i_clv 2 [(34, 289)]), (113, i_ald 4), (115, i_ger 1140 [33]), (118, i_ast 4), (120, i_got 51)]
def bX33_leaves_123 : List (Nat × XI) := [(123, i_ild 1), (124, i_psh (.int 1)), (125, i_icne 140), (128, i_ald 0), (129, i_psh (.int 22)), (131, i_psh (.int 0)), (132, i_psh (.int 0)), (133, i_clv 3 [(34, 276)]), (136, i_pop), (137, i_got 174)]
def bX33_leaves_140 : List (Nat × XI) := [(140, i_ild 1), (141, i_psh (.int 200)), (144, i_iclt 162), (147, i_ald 0), (148, i_psh (.int 5)), (149, i_psh (.int 0)), (150, i_ald 4), (152, i_gei 99 [33]), (155, i_clv 3 [(34, 276)]), (158, i_pop), (159, i_got 174)]
def bX33_leaves_162 : List (Nat × XI) := [(162, i_ald 4), (164, i_ald 0), (165, i_psh (.int 5)), (166, i_psh (.int 0)), (167, i_psh (.int 0)), (168, i_clv 3 [(34, 276)]), (171, i_clv 1 [(33, 270)]), (174, i_fal 174)]
def bX33_leaves_174 : List (Nat × XI) := [(174, i_ald 2), (175, i_ast 7), (177, i_psh (.int 0)), (178, i_ist 8), (180, i_fal 180)]
def bX33_leaves_180 : List (Nat × XI) := [(180, i_ild 8), (182, i_ild 6), (184, i_icge 214), (187, i_ald 7), (189, i_ald 5), (191, i_ild 8), (193, i_lda 0), (194, i_ald 0), (195, i_gei 100 [34]), (198, i_clv 2 [(33, 271)]), (201, i_ald 7), (203, i_ger 1140 [33]), (206, i_ast 7), (208, i_inc 8 1), (211, i_got 180)]
def bX33_leaves_214 : List (Nat × XI) := [(214, i_ald 0), (215, i_ald 2), (216, i_pur 1145 [34]), (219, i_ret 0)]
def rX33_leaves : XM := (⟨"WaysAtlas$Lower", "leaves", "(I)V"⟩, prog_10_method_10_code, 9, none, [], [(0, bX33_leaves_0), (20, bX33_leaves_20), (33, bX33_leaves_33), (35, bX33_leaves_35), (51, bX33_leaves_51), (69, bX33_leaves_69), (82, bX33_leaves_82), (83, bX33_leaves_83), (123, bX33_leaves_123), (140, bX33_leaves_140), (162, bX33_leaves_162), (174, bX33_leaves_174), (180, bX33_leaves_180), (214, bX33_leaves_214)], fun _ _ => none)
def bX33_passes_0 : List (Nat × XI) := [(0, i_ald 1), (1, i_ger 1139 [33]), (4, i_inn 11), (7, i_psh (.int 0)), (8, i_got 18)]
def bX33_passes_11 : List (Nat × XI) := [(11, i_ald 1), (12, i_ger 1139 [33]), (15, i_gei 82 [19, 21, 22, 23, 24, 25, 26, 27, 28, 29, 30, 31, 32]), (18, i_fal 18)]
def bX33_passes_18 : List (Nat × XI) := [(18, i_ist 3), (19, i_ald 1), (20, i_gei 96 [33]), (23, i_psh (.int 1)), (24, i_icne 39), (27, i_ald 0), (28, i_psh (.int 10)), (30, i_ild 3), (31, i_psh (.int 0)), (32, i_clv 3 [(34, 276)]), (35, i_pop), (36, i_got 222)]
def bX33_passes_39 : List (Nat × XI) := [(39, i_ald 1), (40, i_gei 96 [33]), (43, i_psh (.int 4)), (44, i_icne 59), (47, i_ald 0), (48, i_psh (.int 16)), (50, i_psh (.int 0)), (51, i_psh (.int 0)), (52, i_clv 3 [(34, 276)]), (55, i_pop), (56, i_got 222)]
def bX33_passes_59 : List (Nat × XI) := [(59, i_ald 1), (60, i_gei 96 [33]), (63, i_psh (.int 5)), (64, i_icne 89), (67, i_ald 0), (68, i_psh (.int 17)), (70, i_psh (.int 0)), (71, i_ald 1), (72, i_ger 1139 [33]), (75, i_cst [32]), (78, i_psh (.int 1)), (79, i_clv 1 [(32, 261)]), (82, i_clv 3 [(34, 276)]), (85, i_pop), (86, i_got 222)]
def bX33_passes_89 : List (Nat × XI) := [(89, i_ald 1), (90, i_gei 96 [33]), (93, i_psh (.int 3)), (94, i_icne 222), (97, i_ald 1), (98, i_ger 1139 [33]), (101, i_cst [32]), (104, i_ast 4), (106, i_ild 2), (107, i_psh (.int 1)), (108, i_icne 125), (111, i_ald 0), (112, i_psh (.int 13)), (114, i_psh (.int 0)), (115, i_ald 4), (117, i_psh (.int 2)), (118, i_clv 1 [(32, 261)]), (121, i_clv 3 [(34, 276)]), (124, i_pop), (125, i_fal 125)]
def bX33_passes_125 : List (Nat × XI) := [(125, i_ald 0), (126, i_gei 102 [34]), (129, i_ifeq 185), (132, i_ald 0), (133, i_psh (.int 18)), (135, i_psh (.int 0)), (136, i_ald 4), (138, i_psh (.int 1)), (139, i_clv 1 [(32, 261)]), (142, i_clv 3 [(34, 276)]), (145, i_pop), (146, i_ald 0), (147, i_psh (.int 19)), (149, i_ald 4), (151, i_psh (.int 3)), (152, i_clv 1 [(32, 261)]), (155, i_psh (.int 0)), (156, i_clv 3 [(34, 276)]), (159, i_ist 5), (161, i_ald 1), (162, i_ald 0), (163, i_psh (.int 5)), (164, i_psh (.int 0)), (165, i_psh (.int 0)), (166, i_clv 3 [(34, 276)]), (169, i_clv 1 [(33, 270)]), (172, i_ald 0), (173, i_ild 5), (175, i_ald 0), (176, i_gei 100 [34]), (179, i_clv 2 [(34, 284)]), (182, i_got 203)]
def bX33_passes_185 : List (Nat × XI) := [(185, i_ald 0), (186, i_psh (.int 12)), (188, i_ild 3), (189, i_psh (.int 0)), (190, i_clv 3 [(34, 276)]), (193, i_pop), (194, i_ald 0), (195, i_ald 4), (197, i_ger 1138 [32]), (200, i_clv 1 [(34, 275)]), (203, i_fal 203)]
def bX33_passes_203 : List (Nat × XI) := [(203, i_ild 2), (204, i_psh (.int 1)), (205, i_icne 222), (208, i_ald 0), (209, i_psh (.int 14)), (211, i_psh (.int 0)), (212, i_ald 4), (214, i_psh (.int 2)), (215, i_clv 1 [(32, 261)]), (218, i_clv 3 [(34, 276)]), (221, i_pop), (222, i_fal 222)]
def bX33_passes_222 : List (Nat × XI) := [(222, i_ret 0)]
def rX33_passes : XM := (⟨"WaysAtlas$Lower", "passes", "(LWaysAtlas$Scope;I)V"⟩, prog_10_method_11_code, 6, none, [], [(0, bX33_passes_0), (11, bX33_passes_11), (18, bX33_passes_18), (39, bX33_passes_39), (59, bX33_passes_59), (89, bX33_passes_89), (125, bX33_passes_125), (185, bX33_passes_185), (203, bX33_passes_203), (222, bX33_passes_222)], fun _ _ => none)
def bJ0_init_0 : List (Nat × XI) := [(0, i_ald 0), (1, i_obj), (4, i_ald 0), (5, i_ald 0), (6, i_pur 1048 [7, 8, 11]), (9, i_ald 0), (10, i_sv 1), (13, i_pur 1049 [7, 8, 11]), (16, i_ald 0), (17, i_sv 2), (20, i_pur 1050 [7, 8, 11]), (23, i_ald 0), (24, i_bad), (27, i_pop), (28, i_ret 0)]
def rJ0_init : XM := (⟨"java/lang/Throwable", "<init>", "()V"⟩, prog_43_method_1_code, 1, none, [], [(0, bJ0_init_0)], fun _ _ => none)
def bJ0_init_2_0 : List (Nat × XI) := [(0, i_ald 0), (1, i_obj), (4, i_ald 0), (5, i_ald 0), (6, i_pur 1048 [7, 8, 11]), (9, i_ald 0), (10, i_sv 1), (13, i_pur 1049 [7, 8, 11]), (16, i_ald 0), (17, i_sv 2), (20, i_pur 1050 [7, 8, 11]), (23, i_ild 4), (25, i_ifeq 36), (28, i_ald 0), (29, i_bad), (32, i_pop), (33, i_got 41)]
def bJ0_init_2_36 : List (Nat × XI) := [(36, i_ald 0), (37, i_psh .null), (38, i_pur 1049 [7, 8, 11]), (41, i_fal 41)]
def bJ0_init_2_41 : List (Nat × XI) := [(41, i_ald 0), (42, i_ald 1), (43, i_pur 1051 [7, 8, 11]), (46, i_ald 0), (47, i_ald 2), (48, i_pur 1048 [7, 8, 11]), (51, i_ild 3), (52, i_ifne 60), (55, i_ald 0), (56, i_psh .null), (57, i_pur 1050 [7, 8, 11]), (60, i_fal 60)]
def bJ0_init_2_60 : List (Nat × XI) := [(60, i_ret 0)]
def rJ0_init_2 : XM := (⟨"java/lang/Throwable", "<init>", "(Ljava/lang/String;Ljava/lang/Throwable;ZZ)V"⟩, prog_43_method_5_code, 5, none, [], [(0, bJ0_init_2_0), (36, bJ0_init_2_36), (41, bJ0_init_2_41), (60, bJ0_init_2_60)], fun _ _ => none)
def bJ1_init_0 : List (Nat × XI) := [(0, i_ald 0), (1, i_ald 1), (2, i_ald 2), (3, i_ild 3), (4, i_ild 4), (6, i_cli 291 4), (9, i_ret 0)]
def rJ1_init : XM := (⟨"java/lang/Exception", "<init>", "(Ljava/lang/String;Ljava/lang/Throwable;ZZ)V"⟩, prog_37_method_5_code, 5, none, [], [(0, bJ1_init_0)], fun _ _ => none)
def bJ6_min_0 : List (Nat × XI) := [(0, i_ild 0), (1, i_ild 1), (2, i_icgt 9), (5, i_ild 0), (6, i_got 10)]
def bJ6_min_9 : List (Nat × XI) := [(9, i_ild 1), (10, i_fal 10)]
def bJ6_min_10 : List (Nat × XI) := [(10, i_ret 1)]
def rJ6_min : XM := (⟨"java/lang/Math", "min", "(II)I"⟩, prog_38_method_69_code, 2, (some .int), [], [(0, bJ6_min_0), (9, bJ6_min_9), (10, bJ6_min_10)], fun _ _ => none)
def bJ6_max_0 : List (Nat × XI) := [(0, i_ild 0), (1, i_ild 1), (2, i_iclt 9), (5, i_ild 0), (6, i_got 10)]
def bJ6_max_9 : List (Nat × XI) := [(9, i_ild 1), (10, i_fal 10)]
def bJ6_max_10 : List (Nat × XI) := [(10, i_ret 1)]
def rJ6_max : XM := (⟨"java/lang/Math", "max", "(II)I"⟩, prog_38_method_65_code, 2, (some .int), [], [(0, bJ6_max_0), (9, bJ6_max_9), (10, bJ6_max_10)], fun _ _ => none)
def bL_law_0 : List (Nat × XI) := [(0, i_new 0 10), (3, i_dup), (4, i_cli 0 0), (7, i_ast 1), (8, i_new 9 96), (11, i_dup), (12, i_cli 97 0), (15, i_ast 2), (16, i_psh (.int 0)), (17, i_ist 3), (18, i_fal 18)]
def bL_law_18 : List (Nat × XI) := [(18, i_ild 3), (19, i_ald 0), (20, i_len), (21, i_psh (.int 6)), (23, i_sub), (24, i_icgt 738), (27, i_ald 0), (28, i_ild 3), (29, i_lda 0), (30, i_psh (.int 15)), (32, i_and), (33, i_tsw 0 16 732 [112, 175, 214, 227, 250, 303, 316, 395, 428, 461, 504, 547, 580, 613, 646, 689])]
def bL_law_112 : List (Nat × XI) := [(112, i_ald 1), (113, i_ald 0), (114, i_ild 3), (115, i_psh (.int 1)), (116, i_add), (117, i_lda 0), (118, i_i2l), (119, i_psh (.int 32)), (121, i_lshl), (122, i_ald 0), (123, i_ild 3), (124, i_psh (.int 2)), (125, i_add), (126, i_lda 0), (127, i_i2l), (128, i_psh (.long 4294967295)), (131, i_land), (132, i_lor), (133, i_ald 0), (134, i_ild 3), (135, i_psh (.int 3)), (136, i_add), (137, i_lda 0), (138, i_clv 2 [(1, 2)]), (141, i_ald 2), (142, i_ald 0), (143, i_ild 3), (144, i_psh (.int 1)), (145, i_add), (146, i_lda 0), (147, i_i2l), (148, i_psh (.int 32)), (150, i_lshl), (151, i_ald 0), (152, i_ild 3), (153, i_psh (.int 2)), (154, i_add), (155, i_lda 0), (156, i_i2l), (157, i_psh (.long 4294967295)), (160, i_land), (161, i_lor), (162, i_ald 0), (163, i_ild 3), (164, i_psh (.int 3)), (165, i_add), (166, i_lda 0), (167, i_clv 2 [(10, 98)]), (170, i_iceq 732), (173, i_psh (.int 0)), (174, i_ret 4)]
def bL_law_175 : List (Nat × XI) := [(175, i_ald 1), (176, i_ald 0), (177, i_ild 3), (178, i_psh (.int 1)), (179, i_add), (180, i_lda 0), (181, i_ifeq 188), (184, i_psh (.int 1)), (185, i_got 189)]
def bL_law_188 : List (Nat × XI) := [(188, i_psh (.int 0)), (189, i_fal 189)]
def bL_law_189 : List (Nat × XI) := [(189, i_clv 1 [(1, 4)]), (192, i_ald 2), (193, i_ald 0), (194, i_ild 3), (195, i_psh (.int 1)), (196, i_add), (197, i_lda 0), (198, i_ifeq 205), (201, i_psh (.int 1)), (202, i_got 206)]
def bL_law_205 : List (Nat × XI) := [(205, i_psh (.int 0)), (206, i_fal 206)]
def bL_law_206 : List (Nat × XI) := [(206, i_clv 1 [(10, 100)]), (209, i_iceq 732), (212, i_psh (.int 0)), (213, i_ret 4)]
def bL_law_214 : List (Nat × XI) := [(214, i_ald 1), (215, i_clv 0 [(1, 6)]), (218, i_ald 2), (219, i_clv 0 [(10, 148)]), (222, i_iceq 732), (225, i_psh (.int 0)), (226, i_ret 4)]
def bL_law_227 : List (Nat × XI) := [(227, i_ald 1), (228, i_ald 0), (229, i_ild 3), (230, i_psh (.int 1)), (231, i_add), (232, i_lda 0), (233, i_clv 1 [(1, 7)]), (236, i_ald 2), (237, i_ald 0), (238, i_ild 3), (239, i_psh (.int 1)), (240, i_add), (241, i_lda 0), (242, i_clv 1 [(10, 149)]), (245, i_iceq 732), (248, i_psh (.int 0)), (249, i_ret 4)]
def bL_law_250 : List (Nat × XI) := [(250, i_ald 1), (251, i_ald 0), (252, i_ild 3), (253, i_psh (.int 1)), (254, i_add), (255, i_lda 0), (256, i_ald 0), (257, i_ild 3), (258, i_psh (.int 2)), (259, i_add), (260, i_lda 0), (261, i_ald 0), (262, i_ild 3), (263, i_psh (.int 3)), (264, i_add), (265, i_lda 0), (266, i_ald 0), (267, i_ild 3), (268, i_psh (.int 4)), (269, i_add), (270, i_lda 0), (271, i_clv 4 [(1, 8)]), (274, i_ald 2), (275, i_ald 0), (276, i_ild 3), (277, i_psh (.int 1)), (278, i_add), (279, i_lda 0), (280, i_ald 0), (281, i_ild 3), (282, i_psh (.int 2)), (283, i_add), (284, i_lda 0), (285, i_ald 0), (286, i_ild 3), (287, i_psh (.int 3)), (288, i_add), (289, i_lda 0), (290, i_ald 0), (291, i_ild 3), (292, i_psh (.int 4)), (293, i_add), (294, i_lda 0), (295, i_clv 4 [(10, 150)]), (298, i_iceq 732), (301, i_psh (.int 0)), (302, i_ret 4)]
def bL_law_303 : List (Nat × XI) := [(303, i_ald 1), (304, i_clv 0 [(1, 10)]), (307, i_ald 2), (308, i_clv 0 [(10, 154)]), (311, i_iceq 732), (314, i_psh (.int 0)), (315, i_ret 4)]
def bL_law_316 : List (Nat × XI) := [(316, i_ald 1), (317, i_ald 0), (318, i_ild 3), (319, i_psh (.int 1)), (320, i_add), (321, i_lda 0), (322, i_ifeq 329), (325, i_psh (.int 1)), (326, i_got 330)]
def bL_law_329 : List (Nat × XI) := [(329, i_psh (.int 0)), (330, i_fal 330)]
def bL_law_330 : List (Nat × XI) := [(330, i_ald 0), (331, i_ild 3), (332, i_psh (.int 2)), (333, i_add), (334, i_lda 0), (335, i_ald 0), (336, i_ild 3), (337, i_psh (.int 3)), (338, i_add), (339, i_lda 0), (340, i_ald 0), (341, i_ild 3), (342, i_psh (.int 4)), (343, i_add), (344, i_lda 0), (345, i_ald 0), (346, i_ild 3), (347, i_psh (.int 5)), (348, i_add), (349, i_lda 0), (350, i_clv 5 [(1, 11)]), (353, i_ald 2), (354, i_ald 0), (355, i_ild 3), (356, i_psh (.int 1)), (357, i_add), (358, i_lda 0), (359, i_ifeq 366), (362, i_psh (.int 1)), (363, i_got 367)]
def bL_law_366 : List (Nat × XI) := [(366, i_psh (.int 0)), (367, i_fal 367)]
def bL_law_367 : List (Nat × XI) := [(367, i_ald 0), (368, i_ild 3), (369, i_psh (.int 2)), (370, i_add), (371, i_lda 0), (372, i_ald 0), (373, i_ild 3), (374, i_psh (.int 3)), (375, i_add), (376, i_lda 0), (377, i_ald 0), (378, i_ild 3), (379, i_psh (.int 4)), (380, i_add), (381, i_lda 0), (382, i_ald 0), (383, i_ild 3), (384, i_psh (.int 5)), (385, i_add), (386, i_lda 0), (387, i_clv 5 [(10, 157)]), (390, i_iceq 732), (393, i_psh (.int 0)), (394, i_ret 4)]
def bL_law_395 : List (Nat × XI) := [(395, i_ald 1), (396, i_ald 0), (397, i_ild 3), (398, i_psh (.int 1)), (399, i_add), (400, i_lda 0), (401, i_ald 0), (402, i_ild 3), (403, i_psh (.int 2)), (404, i_add), (405, i_lda 0), (406, i_clv 2 [(1, 15)]), (409, i_ald 2), (410, i_ald 0), (411, i_ild 3), (412, i_psh (.int 1)), (413, i_add), (414, i_lda 0), (415, i_ald 0), (416, i_ild 3), (417, i_psh (.int 2)), (418, i_add), (419, i_lda 0), (420, i_clv 2 [(10, 191)]), (423, i_iceq 732), (426, i_psh (.int 0)), (427, i_ret 4)]
def bL_law_428 : List (Nat × XI) := [(428, i_ald 1), (429, i_ald 0), (430, i_ild 3), (431, i_psh (.int 1)), (432, i_add), (433, i_lda 0), (434, i_ald 0), (435, i_ild 3), (436, i_psh (.int 2)), (437, i_add), (438, i_lda 0), (439, i_clv 2 [(1, 18)]), (442, i_ald 2), (443, i_ald 0), (444, i_ild 3), (445, i_psh (.int 1)), (446, i_add), (447, i_lda 0), (448, i_ald 0), (449, i_ild 3), (450, i_psh (.int 2)), (451, i_add), (452, i_lda 0), (453, i_clv 2 [(10, 193)]), (456, i_iceq 732), (459, i_psh (.int 0)), (460, i_ret 4)]
def bL_law_461 : List (Nat × XI) := [(461, i_ald 1), (462, i_ald 0), (463, i_ild 3), (464, i_psh (.int 1)), (465, i_add), (466, i_lda 0), (467, i_ald 0), (468, i_ild 3), (469, i_psh (.int 2)), (470, i_add), (471, i_lda 0), (472, i_ald 0), (473, i_ild 3), (474, i_psh (.int 3)), (475, i_add), (476, i_lda 0), (477, i_clv 3 [(1, 19)]), (480, i_ald 2), (481, i_ald 0), (482, i_ild 3), (483, i_psh (.int 1)), (484, i_add), (485, i_lda 0), (486, i_ald 0), (487, i_ild 3), (488, i_psh (.int 2)), (489, i_add), (490, i_lda 0), (491, i_ald 0), (492, i_ild 3), (493, i_psh (.int 3)), (494, i_add), (495, i_lda 0), (496, i_clv 3 [(10, 194)]), (499, i_iceq 732), (502, i_psh (.int 0)), (503, i_ret 4)]
def bL_law_504 : List (Nat × XI) := [(504, i_ald 1), (505, i_ald 0), (506, i_ild 3), (507, i_psh (.int 1)), (508, i_add), (509, i_lda 0), (510, i_ald 0), (511, i_ild 3), (512, i_psh (.int 2)), (513, i_add), (514, i_lda 0), (515, i_ald 0), (516, i_ild 3), (517, i_psh (.int 3)), (518, i_add), (519, i_lda 0), (520, i_clv 3 [(1, 21)]), (523, i_ald 2), (524, i_ald 0), (525, i_ild 3), (526, i_psh (.int 1)), (527, i_add), (528, i_lda 0), (529, i_ald 0), (530, i_ild 3), (531, i_psh (.int 2)), (532, i_add), (533, i_lda 0), (534, i_ald 0), (535, i_ild 3), (536, i_psh (.int 3)), (537, i_add), (538, i_lda 0), (539, i_clv 3 [(10, 195)]), (542, i_iceq 732), (545, i_psh (.int 0)), (546, i_ret 4)]
def bL_law_547 : List (Nat × XI) := [(547, i_ald 1), (548, i_ald 0), (549, i_ild 3), (550, i_psh (.int 1)), (551, i_add), (552, i_lda 0), (553, i_ald 0), (554, i_ild 3), (555, i_psh (.int 2)), (556, i_add), (557, i_lda 0), (558, i_clv 2 [(1, 22)]), (561, i_ald 2), (562, i_ald 0), (563, i_ild 3), (564, i_psh (.int 1)), (565, i_add), (566, i_lda 0), (567, i_ald 0), (568, i_ild 3), (569, i_psh (.int 2)), (570, i_add), (571, i_lda 0), (572, i_clv 2 [(10, 196)]), (575, i_iceq 732), (578, i_psh (.int 0)), (579, i_ret 4)]
def bL_law_580 : List (Nat × XI) := [(580, i_ald 1), (581, i_ald 0), (582, i_ild 3), (583, i_psh (.int 1)), (584, i_add), (585, i_lda 0), (586, i_ald 0), (587, i_ild 3), (588, i_psh (.int 2)), (589, i_add), (590, i_lda 0), (591, i_clv 2 [(1, 23)]), (594, i_ald 2), (595, i_ald 0), (596, i_ild 3), (597, i_psh (.int 1)), (598, i_add), (599, i_lda 0), (600, i_ald 0), (601, i_ild 3), (602, i_psh (.int 2)), (603, i_add), (604, i_lda 0), (605, i_clv 2 [(10, 197)]), (608, i_iceq 732), (611, i_psh (.int 0)), (612, i_ret 4)]
def bL_law_613 : List (Nat × XI) := [(613, i_ald 1), (614, i_ald 0), (615, i_ild 3), (616, i_psh (.int 1)), (617, i_add), (618, i_lda 0), (619, i_ald 0), (620, i_ild 3), (621, i_psh (.int 2)), (622, i_add), (623, i_lda 0), (624, i_clv 2 [(1, 24)]), (627, i_ald 2), (628, i_ald 0), (629, i_ild 3), (630, i_psh (.int 1)), (631, i_add), (632, i_lda 0), (633, i_ald 0), (634, i_ild 3), (635, i_psh (.int 2)), (636, i_add), (637, i_lda 0), (638, i_clv 2 [(10, 155)]), (641, i_iceq 732), (644, i_psh (.int 0)), (645, i_ret 4)]
def bL_law_646 : List (Nat × XI) := [(646, i_ald 1), (647, i_ald 0), (648, i_ild 3), (649, i_psh (.int 1)), (650, i_add), (651, i_lda 0), (652, i_ald 0), (653, i_ild 3), (654, i_psh (.int 2)), (655, i_add), (656, i_lda 0), (657, i_ald 0), (658, i_ild 3), (659, i_psh (.int 3)), (660, i_add), (661, i_lda 0), (662, i_clv 3 [(1, 25)]), (665, i_ald 2), (666, i_ald 0), (667, i_ild 3), (668, i_psh (.int 1)), (669, i_add), (670, i_lda 0), (671, i_ald 0), (672, i_ild 3), (673, i_psh (.int 2)), (674, i_add), (675, i_lda 0), (676, i_ald 0), (677, i_ild 3), (678, i_psh (.int 3)), (679, i_add), (680, i_lda 0), (681, i_clv 3 [(10, 198)]), (684, i_iceq 732), (687, i_psh (.int 0)), (688, i_ret 4)]
def bL_law_689 : List (Nat × XI) := [(689, i_ald 1), (690, i_ald 0), (691, i_ild 3), (692, i_psh (.int 1)), (693, i_add), (694, i_lda 0), (695, i_ald 0), (696, i_ild 3), (697, i_psh (.int 2)), (698, i_add), (699, i_lda 0), (700, i_ald 0), (701, i_ild 3), (702, i_psh (.int 3)), (703, i_add), (704, i_lda 0), (705, i_clv 3 [(1, 29)]), (708, i_ald 2), (709, i_ald 0), (710, i_ild 3), (711, i_psh (.int 1)), (712, i_add), (713, i_lda 0), (714, i_ald 0), (715, i_ild 3), (716, i_psh (.int 2)), (717, i_add), (718, i_lda 0), (719, i_ald 0), (720, i_ild 3), (721, i_psh (.int 3)), (722, i_add), (723, i_lda 0), (724, i_clv 3 [(10, 200)]), (727, i_iceq 732), (730, i_psh (.int 0)), (731, i_ret 4)]
def bL_law_732 : List (Nat × XI) := [(732, i_inc 3 6), (735, i_got 18)]
def bL_law_738 : List (Nat × XI) := [(738, i_psh (.int 1)), (739, i_ret 4)]
def rL_law : XM := (⟨"WaysAtlasLaw", "law", "([I)Z"⟩, code, 4, (some .boolean), [], [(0, bL_law_0), (18, bL_law_18), (112, bL_law_112), (175, bL_law_175), (188, bL_law_188), (189, bL_law_189), (205, bL_law_205), (206, bL_law_206), (214, bL_law_214), (227, bL_law_227), (250, bL_law_250), (303, bL_law_303), (316, bL_law_316), (329, bL_law_329), (330, bL_law_330), (366, bL_law_366), (367, bL_law_367), (395, bL_law_395), (428, bL_law_428), (461, bL_law_461), (504, bL_law_504), (547, bL_law_547), (580, bL_law_580), (613, bL_law_613), (646, bL_law_646), (689, bL_law_689), (732, bL_law_732), (738, bL_law_738)], fun _ _ => none)
def xms0 : XM := (⟨"", "", ""⟩, code, 0, none, [], [], fun _ _ => none)
def xmsL : List XM := [rX0_init, rX0_renews, rX0_say, rX0_isIn, rX0_compile, rX0_lowered, rX0_fault, rX0_count, rX0_plan, rX0_isStatement, rX0_clear, rX0_run, rX0_isMethod, rX0_goes, rX0_walks, rX0_ran, rX0_runOf, rX0_told, rX0_mark, rX0_failure, rX0_ofFailure, rX0_trace, rX0_closed, rX0_entered, rX0_handler, rX0_ways, rX0_adds, rX0_isThere, rX0_kindOf, rX0_same, rX1_init, rX1_cut, rX1_byteAt, rX1_add, rX1_isLetter, rX1_word, rX1_isDigit, rX1_digits, rX1_is, rX2_init, rX2_read, rX2_isWord, rX2_kind, rX2_room, rX2_place, rX2_word, rX2_need, rX2_kindName, rX2_take, rX2_lacks, rX2_method, rX2_statements, rX2_begins, rX2_statement, rX2_ofVar, rX2_name, rX2_call, rX2_sum, rX2_term, rX2_factor, rX2_enter, rX2_ofRow, rX2_has, rX2_ofWord, rX2_branch, rX2_block, rX2_guard, rX3_init, rX3_walk, rX3_walks, rX3_isUnder, rX3_run, rX3_goes, rX3_does, rX3_gives, rX3_ways, rX3_unwinds, rX4_init, rX4_kindAt, rX5_init, rX5_begin, rX5_enters, rX5_fails, rX5_makes, rX5_top, rX5_step, rX5_opens, rX5_passes, rX5_closes, rX5_suppresses, rX5_marks, rX5_lastMark, rX6_init, rX6_with, rX7_init, rX8_init, rX8_begin, rX9_init, rX9_say, rX9_in, rX9_compile, rX9_reads, rX9_advance, rX9_isLetter, rX9_byteAt, rX9_wordOrName, rX9_isDigit, rX9_digits, rX9_isSignByte, rX9_outside, rX9_isWord, rX9_fails, rX9_cannot, rX9_takeKind, rX9_isName, rX9_check, rX9_takeSign, rX9_isSign, rX9_opens, rX9_closes, rX9_put, rX9_ofCatch, rX9_statement, rX9_canBegin, rX9_ofVar, rX9_comes, rX9_call, rX9_takeMethod, rX9_sumOf, rX9_sum, rX9_beginsFactor, rX9_mayGoDeeper, rX9_waitsFor, rX9_takeNumber, rX9_emits, rX9_takeRow, rX9_goesOn, rX9_endFactor, rX9_top, rX9_endSum, rX9_endProduct, rX9_ofRow, rX9_ofIf, rX9_loopNumber, rX9_around, rX9_again, rX9_ofWith, rX9_looks, rX9_fault, rX9_count, rX9_plan, rX9_isStatement, rX9_hasPart, rX9_get, rX9_clear, rX9_handler, rX9_isAbove, rX9_run, rX9_isMethod, rX9_runs, rX9_beginsMethod, rX9_pushes, rX9_tell, rX9_entersBlock, rX9_goesOnce, rX9_takesStep, rX9_does, rX9_passes, rX9_fail, rX9_makes, rX9_more, rX9_eval, rX9_row, rX9_evalRow, rX9_sign, rX9_calls, rX9_newRow, rX9_setsRow, rX9_signals, rX9_asks, rX9_loops, rX9_turns, rX9_taken, rX9_opensAll, rX9_comesToLoop, rX9_comesToGuard, rX9_closesAll, rX9_suppresses, rX9_catchFor, rX9_finishes, rX9_comesToMethod, rX9_ran, rX9_isRun, rX9_mark, rX9_failure, rX9_trace, rX9_closed, rX9_entered, rX9_ways, rX9_notesWay, rX9_same, rX10_init, rX11_init, rX12_init, rX13_init, rX13_value, rX14_init, rX14_value, rX15_init, rX15_value, rX16_init, rX16_value, rX16_cell, rX17_init, rX17_isMark, rX17_resources, rX17_hasFinish, rX18_init, rX18_tells, rX18_walk, rX18_enters, rX19_init, rX19_tells, rX19_walk, rX20_init, rX20_does, rX21_init, rX21_does, rX22_init, rX22_does, rX23_init, rX23_does, rX24_init, rX24_isMark, rX24_does, rX25_init, rX25_tells, rX25_walk, rX25_does, rX26_init, rX26_tells, rX26_walk, rX26_holds, rX27_init, rX27_tells, rX27_slot, rX27_walk, rX27_turns, rX28_init, rX28_tells, rX28_walk, rX29_init, rX29_does, rX30_init, rX30_tells, rX30_walk, rX30_does, rX31_init, rX31_adds, rX31_tells, rX31_resources, rX31_slot, rX31_walk, rX31_caught, rX31_inner, rX31_catchOf, rX31_hasFinish, rX32_wide, rX32_init, rX32_lands, rX32_adds, rX32_gap, rX33_init, rX33_isTooLong, rX33_method, rX33_block, rX33_add, rX33_guard, rX33_caught, rX33_inner, rX33_enters, rX33_exits, rX33_rows, rX33_row, rX33_lands, rX33_shared, rX33_pending, rX33_copied, rX33_leaves, rX33_passes, rJ0_init, rJ0_init_2, rJ1_init, rJ6_min, rJ6_max, rL_law]
def xms (k : Nat) : XM := xmsL.getD k xms0
theorem xm0 : xms 0 = rX0_init := rfl
theorem xm1 : xms 1 = rX0_renews := rfl
theorem xm2 : xms 2 = rX0_say := rfl
theorem xm3 : xms 3 = rX0_isIn := rfl
theorem xm4 : xms 4 = rX0_compile := rfl
theorem xm5 : xms 5 = rX0_lowered := rfl
theorem xm6 : xms 6 = rX0_fault := rfl
theorem xm7 : xms 7 = rX0_count := rfl
theorem xm8 : xms 8 = rX0_plan := rfl
theorem xm9 : xms 9 = rX0_isStatement := rfl
theorem xm10 : xms 10 = rX0_clear := rfl
theorem xm11 : xms 11 = rX0_run := rfl
theorem xm12 : xms 12 = rX0_isMethod := rfl
theorem xm13 : xms 13 = rX0_goes := rfl
theorem xm14 : xms 14 = rX0_walks := rfl
theorem xm15 : xms 15 = rX0_ran := rfl
theorem xm16 : xms 16 = rX0_runOf := rfl
theorem xm17 : xms 17 = rX0_told := rfl
theorem xm18 : xms 18 = rX0_mark := rfl
theorem xm19 : xms 19 = rX0_failure := rfl
theorem xm20 : xms 20 = rX0_ofFailure := rfl
theorem xm21 : xms 21 = rX0_trace := rfl
theorem xm22 : xms 22 = rX0_closed := rfl
theorem xm23 : xms 23 = rX0_entered := rfl
theorem xm24 : xms 24 = rX0_handler := rfl
theorem xm25 : xms 25 = rX0_ways := rfl
theorem xm26 : xms 26 = rX0_adds := rfl
theorem xm27 : xms 27 = rX0_isThere := rfl
theorem xm28 : xms 28 = rX0_kindOf := rfl
theorem xm29 : xms 29 = rX0_same := rfl
theorem xm30 : xms 30 = rX1_init := rfl
theorem xm31 : xms 31 = rX1_cut := rfl
theorem xm32 : xms 32 = rX1_byteAt := rfl
theorem xm33 : xms 33 = rX1_add := rfl
theorem xm34 : xms 34 = rX1_isLetter := rfl
theorem xm35 : xms 35 = rX1_word := rfl
theorem xm36 : xms 36 = rX1_isDigit := rfl
theorem xm37 : xms 37 = rX1_digits := rfl
theorem xm38 : xms 38 = rX1_is := rfl
theorem xm39 : xms 39 = rX2_init := rfl
theorem xm40 : xms 40 = rX2_read := rfl
theorem xm41 : xms 41 = rX2_isWord := rfl
theorem xm42 : xms 42 = rX2_kind := rfl
theorem xm43 : xms 43 = rX2_room := rfl
theorem xm44 : xms 44 = rX2_place := rfl
theorem xm45 : xms 45 = rX2_word := rfl
theorem xm46 : xms 46 = rX2_need := rfl
theorem xm47 : xms 47 = rX2_kindName := rfl
theorem xm48 : xms 48 = rX2_take := rfl
theorem xm49 : xms 49 = rX2_lacks := rfl
theorem xm50 : xms 50 = rX2_method := rfl
theorem xm51 : xms 51 = rX2_statements := rfl
theorem xm52 : xms 52 = rX2_begins := rfl
theorem xm53 : xms 53 = rX2_statement := rfl
theorem xm54 : xms 54 = rX2_ofVar := rfl
theorem xm55 : xms 55 = rX2_name := rfl
theorem xm56 : xms 56 = rX2_call := rfl
theorem xm57 : xms 57 = rX2_sum := rfl
theorem xm58 : xms 58 = rX2_term := rfl
theorem xm59 : xms 59 = rX2_factor := rfl
theorem xm60 : xms 60 = rX2_enter := rfl
theorem xm61 : xms 61 = rX2_ofRow := rfl
theorem xm62 : xms 62 = rX2_has := rfl
theorem xm63 : xms 63 = rX2_ofWord := rfl
theorem xm64 : xms 64 = rX2_branch := rfl
theorem xm65 : xms 65 = rX2_block := rfl
theorem xm66 : xms 66 = rX2_guard := rfl
theorem xm67 : xms 67 = rX3_init := rfl
theorem xm68 : xms 68 = rX3_walk := rfl
theorem xm69 : xms 69 = rX3_walks := rfl
theorem xm70 : xms 70 = rX3_isUnder := rfl
theorem xm71 : xms 71 = rX3_run := rfl
theorem xm72 : xms 72 = rX3_goes := rfl
theorem xm73 : xms 73 = rX3_does := rfl
theorem xm74 : xms 74 = rX3_gives := rfl
theorem xm75 : xms 75 = rX3_ways := rfl
theorem xm76 : xms 76 = rX3_unwinds := rfl
theorem xm77 : xms 77 = rX4_init := rfl
theorem xm78 : xms 78 = rX4_kindAt := rfl
theorem xm79 : xms 79 = rX5_init := rfl
theorem xm80 : xms 80 = rX5_begin := rfl
theorem xm81 : xms 81 = rX5_enters := rfl
theorem xm82 : xms 82 = rX5_fails := rfl
theorem xm83 : xms 83 = rX5_makes := rfl
theorem xm84 : xms 84 = rX5_top := rfl
theorem xm85 : xms 85 = rX5_step := rfl
theorem xm86 : xms 86 = rX5_opens := rfl
theorem xm87 : xms 87 = rX5_passes := rfl
theorem xm88 : xms 88 = rX5_closes := rfl
theorem xm89 : xms 89 = rX5_suppresses := rfl
theorem xm90 : xms 90 = rX5_marks := rfl
theorem xm91 : xms 91 = rX5_lastMark := rfl
theorem xm92 : xms 92 = rX6_init := rfl
theorem xm93 : xms 93 = rX6_with := rfl
theorem xm94 : xms 94 = rX7_init := rfl
theorem xm95 : xms 95 = rX8_init := rfl
theorem xm96 : xms 96 = rX8_begin := rfl
theorem xm97 : xms 97 = rX9_init := rfl
theorem xm98 : xms 98 = rX9_say := rfl
theorem xm99 : xms 99 = rX9_in := rfl
theorem xm100 : xms 100 = rX9_compile := rfl
theorem xm101 : xms 101 = rX9_reads := rfl
theorem xm102 : xms 102 = rX9_advance := rfl
theorem xm103 : xms 103 = rX9_isLetter := rfl
theorem xm104 : xms 104 = rX9_byteAt := rfl
theorem xm105 : xms 105 = rX9_wordOrName := rfl
theorem xm106 : xms 106 = rX9_isDigit := rfl
theorem xm107 : xms 107 = rX9_digits := rfl
theorem xm108 : xms 108 = rX9_isSignByte := rfl
theorem xm109 : xms 109 = rX9_outside := rfl
theorem xm110 : xms 110 = rX9_isWord := rfl
theorem xm111 : xms 111 = rX9_fails := rfl
theorem xm112 : xms 112 = rX9_cannot := rfl
theorem xm113 : xms 113 = rX9_takeKind := rfl
theorem xm114 : xms 114 = rX9_isName := rfl
theorem xm115 : xms 115 = rX9_check := rfl
theorem xm116 : xms 116 = rX9_takeSign := rfl
theorem xm117 : xms 117 = rX9_isSign := rfl
theorem xm118 : xms 118 = rX9_opens := rfl
theorem xm119 : xms 119 = rX9_closes := rfl
theorem xm120 : xms 120 = rX9_put := rfl
theorem xm121 : xms 121 = rX9_ofCatch := rfl
theorem xm122 : xms 122 = rX9_statement := rfl
theorem xm123 : xms 123 = rX9_canBegin := rfl
theorem xm124 : xms 124 = rX9_ofVar := rfl
theorem xm125 : xms 125 = rX9_comes := rfl
theorem xm126 : xms 126 = rX9_call := rfl
theorem xm127 : xms 127 = rX9_takeMethod := rfl
theorem xm128 : xms 128 = rX9_sumOf := rfl
theorem xm129 : xms 129 = rX9_sum := rfl
theorem xm130 : xms 130 = rX9_beginsFactor := rfl
theorem xm131 : xms 131 = rX9_mayGoDeeper := rfl
theorem xm132 : xms 132 = rX9_waitsFor := rfl
theorem xm133 : xms 133 = rX9_takeNumber := rfl
theorem xm134 : xms 134 = rX9_emits := rfl
theorem xm135 : xms 135 = rX9_takeRow := rfl
theorem xm136 : xms 136 = rX9_goesOn := rfl
theorem xm137 : xms 137 = rX9_endFactor := rfl
theorem xm138 : xms 138 = rX9_top := rfl
theorem xm139 : xms 139 = rX9_endSum := rfl
theorem xm140 : xms 140 = rX9_endProduct := rfl
theorem xm141 : xms 141 = rX9_ofRow := rfl
theorem xm142 : xms 142 = rX9_ofIf := rfl
theorem xm143 : xms 143 = rX9_loopNumber := rfl
theorem xm144 : xms 144 = rX9_around := rfl
theorem xm145 : xms 145 = rX9_again := rfl
theorem xm146 : xms 146 = rX9_ofWith := rfl
theorem xm147 : xms 147 = rX9_looks := rfl
theorem xm148 : xms 148 = rX9_fault := rfl
theorem xm149 : xms 149 = rX9_count := rfl
theorem xm150 : xms 150 = rX9_plan := rfl
theorem xm151 : xms 151 = rX9_isStatement := rfl
theorem xm152 : xms 152 = rX9_hasPart := rfl
theorem xm153 : xms 153 = rX9_get := rfl
theorem xm154 : xms 154 = rX9_clear := rfl
theorem xm155 : xms 155 = rX9_handler := rfl
theorem xm156 : xms 156 = rX9_isAbove := rfl
theorem xm157 : xms 157 = rX9_run := rfl
theorem xm158 : xms 158 = rX9_isMethod := rfl
theorem xm159 : xms 159 = rX9_runs := rfl
theorem xm160 : xms 160 = rX9_beginsMethod := rfl
theorem xm161 : xms 161 = rX9_pushes := rfl
theorem xm162 : xms 162 = rX9_tell := rfl
theorem xm163 : xms 163 = rX9_entersBlock := rfl
theorem xm164 : xms 164 = rX9_goesOnce := rfl
theorem xm165 : xms 165 = rX9_takesStep := rfl
theorem xm166 : xms 166 = rX9_does := rfl
theorem xm167 : xms 167 = rX9_passes := rfl
theorem xm168 : xms 168 = rX9_fail := rfl
theorem xm169 : xms 169 = rX9_makes := rfl
theorem xm170 : xms 170 = rX9_more := rfl
theorem xm171 : xms 171 = rX9_eval := rfl
theorem xm172 : xms 172 = rX9_row := rfl
theorem xm173 : xms 173 = rX9_evalRow := rfl
theorem xm174 : xms 174 = rX9_sign := rfl
theorem xm175 : xms 175 = rX9_calls := rfl
theorem xm176 : xms 176 = rX9_newRow := rfl
theorem xm177 : xms 177 = rX9_setsRow := rfl
theorem xm178 : xms 178 = rX9_signals := rfl
theorem xm179 : xms 179 = rX9_asks := rfl
theorem xm180 : xms 180 = rX9_loops := rfl
theorem xm181 : xms 181 = rX9_turns := rfl
theorem xm182 : xms 182 = rX9_taken := rfl
theorem xm183 : xms 183 = rX9_opensAll := rfl
theorem xm184 : xms 184 = rX9_comesToLoop := rfl
theorem xm185 : xms 185 = rX9_comesToGuard := rfl
theorem xm186 : xms 186 = rX9_closesAll := rfl
theorem xm187 : xms 187 = rX9_suppresses := rfl
theorem xm188 : xms 188 = rX9_catchFor := rfl
theorem xm189 : xms 189 = rX9_finishes := rfl
theorem xm190 : xms 190 = rX9_comesToMethod := rfl
theorem xm191 : xms 191 = rX9_ran := rfl
theorem xm192 : xms 192 = rX9_isRun := rfl
theorem xm193 : xms 193 = rX9_mark := rfl
theorem xm194 : xms 194 = rX9_failure := rfl
theorem xm195 : xms 195 = rX9_trace := rfl
theorem xm196 : xms 196 = rX9_closed := rfl
theorem xm197 : xms 197 = rX9_entered := rfl
theorem xm198 : xms 198 = rX9_ways := rfl
theorem xm199 : xms 199 = rX9_notesWay := rfl
theorem xm200 : xms 200 = rX9_same := rfl
theorem xm201 : xms 201 = rX10_init := rfl
theorem xm202 : xms 202 = rX11_init := rfl
theorem xm203 : xms 203 = rX12_init := rfl
theorem xm204 : xms 204 = rX13_init := rfl
theorem xm205 : xms 205 = rX13_value := rfl
theorem xm206 : xms 206 = rX14_init := rfl
theorem xm207 : xms 207 = rX14_value := rfl
theorem xm208 : xms 208 = rX15_init := rfl
theorem xm209 : xms 209 = rX15_value := rfl
theorem xm210 : xms 210 = rX16_init := rfl
theorem xm211 : xms 211 = rX16_value := rfl
theorem xm212 : xms 212 = rX16_cell := rfl
theorem xm213 : xms 213 = rX17_init := rfl
theorem xm214 : xms 214 = rX17_isMark := rfl
theorem xm215 : xms 215 = rX17_resources := rfl
theorem xm216 : xms 216 = rX17_hasFinish := rfl
theorem xm217 : xms 217 = rX18_init := rfl
theorem xm218 : xms 218 = rX18_tells := rfl
theorem xm219 : xms 219 = rX18_walk := rfl
theorem xm220 : xms 220 = rX18_enters := rfl
theorem xm221 : xms 221 = rX19_init := rfl
theorem xm222 : xms 222 = rX19_tells := rfl
theorem xm223 : xms 223 = rX19_walk := rfl
theorem xm224 : xms 224 = rX20_init := rfl
theorem xm225 : xms 225 = rX20_does := rfl
theorem xm226 : xms 226 = rX21_init := rfl
theorem xm227 : xms 227 = rX21_does := rfl
theorem xm228 : xms 228 = rX22_init := rfl
theorem xm229 : xms 229 = rX22_does := rfl
theorem xm230 : xms 230 = rX23_init := rfl
theorem xm231 : xms 231 = rX23_does := rfl
theorem xm232 : xms 232 = rX24_init := rfl
theorem xm233 : xms 233 = rX24_isMark := rfl
theorem xm234 : xms 234 = rX24_does := rfl
theorem xm235 : xms 235 = rX25_init := rfl
theorem xm236 : xms 236 = rX25_tells := rfl
theorem xm237 : xms 237 = rX25_walk := rfl
theorem xm238 : xms 238 = rX25_does := rfl
theorem xm239 : xms 239 = rX26_init := rfl
theorem xm240 : xms 240 = rX26_tells := rfl
theorem xm241 : xms 241 = rX26_walk := rfl
theorem xm242 : xms 242 = rX26_holds := rfl
theorem xm243 : xms 243 = rX27_init := rfl
theorem xm244 : xms 244 = rX27_tells := rfl
theorem xm245 : xms 245 = rX27_slot := rfl
theorem xm246 : xms 246 = rX27_walk := rfl
theorem xm247 : xms 247 = rX27_turns := rfl
theorem xm248 : xms 248 = rX28_init := rfl
theorem xm249 : xms 249 = rX28_tells := rfl
theorem xm250 : xms 250 = rX28_walk := rfl
theorem xm251 : xms 251 = rX29_init := rfl
theorem xm252 : xms 252 = rX29_does := rfl
theorem xm253 : xms 253 = rX30_init := rfl
theorem xm254 : xms 254 = rX30_tells := rfl
theorem xm255 : xms 255 = rX30_walk := rfl
theorem xm256 : xms 256 = rX30_does := rfl
theorem xm257 : xms 257 = rX31_init := rfl
theorem xm258 : xms 258 = rX31_adds := rfl
theorem xm259 : xms 259 = rX31_tells := rfl
theorem xm260 : xms 260 = rX31_resources := rfl
theorem xm261 : xms 261 = rX31_slot := rfl
theorem xm262 : xms 262 = rX31_walk := rfl
theorem xm263 : xms 263 = rX31_caught := rfl
theorem xm264 : xms 264 = rX31_inner := rfl
theorem xm265 : xms 265 = rX31_catchOf := rfl
theorem xm266 : xms 266 = rX31_hasFinish := rfl
theorem xm267 : xms 267 = rX32_wide := rfl
theorem xm268 : xms 268 = rX32_init := rfl
theorem xm269 : xms 269 = rX32_lands := rfl
theorem xm270 : xms 270 = rX32_adds := rfl
theorem xm271 : xms 271 = rX32_gap := rfl
theorem xm272 : xms 272 = rX33_init := rfl
theorem xm273 : xms 273 = rX33_isTooLong := rfl
theorem xm274 : xms 274 = rX33_method := rfl
theorem xm275 : xms 275 = rX33_block := rfl
theorem xm276 : xms 276 = rX33_add := rfl
theorem xm277 : xms 277 = rX33_guard := rfl
theorem xm278 : xms 278 = rX33_caught := rfl
theorem xm279 : xms 279 = rX33_inner := rfl
theorem xm280 : xms 280 = rX33_enters := rfl
theorem xm281 : xms 281 = rX33_exits := rfl
theorem xm282 : xms 282 = rX33_rows := rfl
theorem xm283 : xms 283 = rX33_row := rfl
theorem xm284 : xms 284 = rX33_lands := rfl
theorem xm285 : xms 285 = rX33_shared := rfl
theorem xm286 : xms 286 = rX33_pending := rfl
theorem xm287 : xms 287 = rX33_copied := rfl
theorem xm288 : xms 288 = rX33_leaves := rfl
theorem xm289 : xms 289 = rX33_passes := rfl
theorem xm290 : xms 290 = rJ0_init := rfl
theorem xm291 : xms 291 = rJ0_init_2 := rfl
theorem xm292 : xms 292 = rJ1_init := rfl
theorem xm293 : xms 293 = rJ6_min := rfl
theorem xm294 : xms 294 = rJ6_max := rfl
theorem xm295 : xms 295 = rL_law := rfl
def XHt (ms : Nat → XM) (d k z : Nat) (L : List Value) (G : XG) (Q : (Option Value ⊕ Nat) → XG → Prop) (o : Option Nat) : Prop := match o with
  | some t => XL ms d k t L [.ref z] G Q
  | none => Q (.inr z) G
theorem XHt_s {ms : Nat → XM} {d k z t : Nat} {L : List Value} {G : XG} {Q : (Option Value ⊕ Nat) → XG → Prop} : XHt ms d k z L G Q (some t) = XL ms d k t L [.ref z] G Q := rfl
theorem XHt_n {ms : Nat → XM} {d k z : Nat} {L : List Value} {G : XG} {Q : (Option Value ⊕ Nat) → XG → Prop} : XHt ms d k z L G Q none = Q (.inr z) G := rfl
theorem XH_0 {d k pc z : Nat} {L : List Value} {G : XG} {Q : (Option Value ⊕ Nat) → XG → Prop} {M : XM} (h : xms k = M) (hx : xmx M = fun _ _ => none) : XH xms d k pc z L G Q = Q (.inr z) G := by
  unfold XH
  rw [h, hx]
theorem XH_1 {d k pc z : Nat} {L : List Value} {G : XG} {Q : (Option Value ⊕ Nat) → XG → Prop} {M : XM} {f : Nat → Nat → Option Nat} (h : xms k = M) (hx : xmx M = f) : XH xms d k pc z L G Q = XHt xms d k z L G Q (f pc (Gkd G z)) := by
  unfold XH XHt
  rw [h, hx]
  cases f pc (Gkd G z) <;> rfl
theorem XL_f {d k t : Nat} {M : XM} {b : List (Nat × XI)} {L st : List Value} {G : XG} {Q : (Option Value ⊕ Nat) → XG → Prop} (h : xms k = M) (hb : xfd (xmb M) t = b) : XL xms d k t L st G Q = XW xms d k b L st G Q := by
  unfold XL xblk
  rw [h, hb]
theorem mL_f {k n : Nat} {M : XM} (h : xms k = M) (hn : xmL M = n) : xmL (xms k) = n := by rw [h, hn]
