/-! how each instruction goes on, by program (gen_u.py) -/
set_option maxRecDepth 100000
section MXU1
variable {d : Nat} {lo : mx_L} {st : List Value} {h : mx_H}
theorem mi144 : mx_mi 144 = some (yX20_init, cX20_init, 1, (none : Option FieldType), 20, 1, []) := rfl
theorem ow144 : mx_own 144 = 20 := mx_mi_own mi144
theorem mm144 : mx_max 144 = 1 := mx_mi_max mi144
theorem rt144 : mx_ret 144 = (none : Option FieldType) := mx_mi_ret mi144
theorem hn144 : mx_hnd 144 = [] := mx_mi_hnd mi144
theorem n144_0 : mx_ins 144 0 = some ((.aload_n 0), 1) := mx_ins_of mi144 dX20_init_0 rfl
theorem u144_0 : ev d 144 0 lo st h = evS (mx_ldA 0) d 144 1 lo st h := ev_s n144_0 rfl rfl
theorem n144_1 : mx_ins 144 1 = some ((.invokespecial 1), 3) := mx_ins_of mi144 dX20_init_1 rfl
theorem u144_1 : ev d 144 1 lo st h = evIn d 144 1 4 20 1 1 true lo st h := ev_inv n144_1 rfl rfl ow144 ia20_1
theorem n144_4 : mx_ins 144 4 = some ((.aload_n 0), 1) := mx_ins_of mi144 dX20_init_4 rfl
theorem u144_4 : ev d 144 4 lo st h = evS (mx_ldA 0) d 144 5 lo st h := ev_s n144_4 rfl rfl
theorem n144_5 : mx_ins 144 5 = some ((.bipush 21), 2) := mx_ins_of mi144 dX20_init_5 rfl
theorem u144_5 : ev d 144 5 lo st h = ev d 144 7 lo (.int 21 :: st) h := (ev_s (f := mx_push (.int 21)) n144_5 rfl rfl).trans es_push
theorem n144_7 : mx_ins 144 7 = some ((.newarray .int), 2) := mx_ins_of mi144 dX20_init_7 rfl
theorem u144_7 : ev d 144 7 lo st h = evI d 144 7 9 lo st h (.newarray .int) := ev_u n144_7 rfl
theorem n144_9 : mx_ins 144 9 = some (.dup, 1) := mx_ins_of mi144 dX20_init_9 rfl
theorem u144_9 : ev d 144 9 lo st h = evI d 144 9 10 lo st h .dup := ev_u n144_9 rfl
theorem n144_10 : mx_ins 144 10 = some ((.iconst 0), 1) := mx_ins_of mi144 dX20_init_10 rfl
theorem u144_10 : ev d 144 10 lo st h = ev d 144 11 lo (.int 0 :: st) h := (ev_s (f := mx_push (.int 0)) n144_10 rfl rfl).trans es_push
theorem n144_11 : mx_ins 144 11 = some ((.sipush 240), 3) := mx_ins_of mi144 dX20_init_11 rfl
theorem u144_11 : ev d 144 11 lo st h = ev d 144 14 lo (.int 240 :: st) h := (ev_s (f := mx_push (.int 240)) n144_11 rfl rfl).trans es_push
theorem n144_14 : mx_ins 144 14 = some (.iastore, 1) := mx_ins_of mi144 dX20_init_14 rfl
theorem u144_14 : ev d 144 14 lo st h = evI d 144 14 15 lo st h .iastore := ev_u n144_14 rfl
theorem n144_15 : mx_ins 144 15 = some (.dup, 1) := mx_ins_of mi144 dX20_init_15 rfl
theorem u144_15 : ev d 144 15 lo st h = evI d 144 15 16 lo st h .dup := ev_u n144_15 rfl
theorem n144_16 : mx_ins 144 16 = some ((.iconst 1), 1) := mx_ins_of mi144 dX20_init_16 rfl
theorem u144_16 : ev d 144 16 lo st h = ev d 144 17 lo (.int 1 :: st) h := (ev_s (f := mx_push (.int 1)) n144_16 rfl rfl).trans es_push
theorem n144_17 : mx_ins 144 17 = some ((.sipush 300), 3) := mx_ins_of mi144 dX20_init_17 rfl
theorem u144_17 : ev d 144 17 lo st h = ev d 144 20 lo (.int 300 :: st) h := (ev_s (f := mx_push (.int 300)) n144_17 rfl rfl).trans es_push
theorem n144_20 : mx_ins 144 20 = some (.iastore, 1) := mx_ins_of mi144 dX20_init_20 rfl
theorem u144_20 : ev d 144 20 lo st h = evI d 144 20 21 lo st h .iastore := ev_u n144_20 rfl
theorem n144_21 : mx_ins 144 21 = some (.dup, 1) := mx_ins_of mi144 dX20_init_21 rfl
theorem u144_21 : ev d 144 21 lo st h = evI d 144 21 22 lo st h .dup := ev_u n144_21 rfl
theorem n144_22 : mx_ins 144 22 = some ((.iconst 2), 1) := mx_ins_of mi144 dX20_init_22 rfl
theorem u144_22 : ev d 144 22 lo st h = ev d 144 23 lo (.int 2 :: st) h := (ev_s (f := mx_push (.int 2)) n144_22 rfl rfl).trans es_push
theorem n144_23 : mx_ins 144 23 = some ((.sipush 400), 3) := mx_ins_of mi144 dX20_init_23 rfl
theorem u144_23 : ev d 144 23 lo st h = ev d 144 26 lo (.int 400 :: st) h := (ev_s (f := mx_push (.int 400)) n144_23 rfl rfl).trans es_push
theorem n144_26 : mx_ins 144 26 = some (.iastore, 1) := mx_ins_of mi144 dX20_init_26 rfl
theorem u144_26 : ev d 144 26 lo st h = evI d 144 26 27 lo st h .iastore := ev_u n144_26 rfl
theorem n144_27 : mx_ins 144 27 = some (.dup, 1) := mx_ins_of mi144 dX20_init_27 rfl
theorem u144_27 : ev d 144 27 lo st h = evI d 144 27 28 lo st h .dup := ev_u n144_27 rfl
theorem n144_28 : mx_ins 144 28 = some ((.iconst 3), 1) := mx_ins_of mi144 dX20_init_28 rfl
theorem u144_28 : ev d 144 28 lo st h = ev d 144 29 lo (.int 3 :: st) h := (ev_s (f := mx_push (.int 3)) n144_28 rfl rfl).trans es_push
theorem n144_29 : mx_ins 144 29 = some ((.sipush 500), 3) := mx_ins_of mi144 dX20_init_29 rfl
theorem u144_29 : ev d 144 29 lo st h = ev d 144 32 lo (.int 500 :: st) h := (ev_s (f := mx_push (.int 500)) n144_29 rfl rfl).trans es_push
theorem n144_32 : mx_ins 144 32 = some (.iastore, 1) := mx_ins_of mi144 dX20_init_32 rfl
theorem u144_32 : ev d 144 32 lo st h = evI d 144 32 33 lo st h .iastore := ev_u n144_32 rfl
theorem n144_33 : mx_ins 144 33 = some (.dup, 1) := mx_ins_of mi144 dX20_init_33 rfl
theorem u144_33 : ev d 144 33 lo st h = evI d 144 33 34 lo st h .dup := ev_u n144_33 rfl
theorem n144_34 : mx_ins 144 34 = some ((.iconst 4), 1) := mx_ins_of mi144 dX20_init_34 rfl
theorem u144_34 : ev d 144 34 lo st h = ev d 144 35 lo (.int 4 :: st) h := (ev_s (f := mx_push (.int 4)) n144_34 rfl rfl).trans es_push
theorem n144_35 : mx_ins 144 35 = some ((.iconst 0), 1) := mx_ins_of mi144 dX20_init_35 rfl
theorem u144_35 : ev d 144 35 lo st h = ev d 144 36 lo (.int 0 :: st) h := (ev_s (f := mx_push (.int 0)) n144_35 rfl rfl).trans es_push
theorem n144_36 : mx_ins 144 36 = some (.iastore, 1) := mx_ins_of mi144 dX20_init_36 rfl
theorem u144_36 : ev d 144 36 lo st h = evI d 144 36 37 lo st h .iastore := ev_u n144_36 rfl
theorem n144_37 : mx_ins 144 37 = some (.dup, 1) := mx_ins_of mi144 dX20_init_37 rfl
theorem u144_37 : ev d 144 37 lo st h = evI d 144 37 38 lo st h .dup := ev_u n144_37 rfl
theorem n144_38 : mx_ins 144 38 = some ((.iconst 5), 1) := mx_ins_of mi144 dX20_init_38 rfl
theorem u144_38 : ev d 144 38 lo st h = ev d 144 39 lo (.int 5 :: st) h := (ev_s (f := mx_push (.int 5)) n144_38 rfl rfl).trans es_push
theorem n144_39 : mx_ins 144 39 = some ((.iconst 1), 1) := mx_ins_of mi144 dX20_init_39 rfl
theorem u144_39 : ev d 144 39 lo st h = ev d 144 40 lo (.int 1 :: st) h := (ev_s (f := mx_push (.int 1)) n144_39 rfl rfl).trans es_push
theorem n144_40 : mx_ins 144 40 = some (.iastore, 1) := mx_ins_of mi144 dX20_init_40 rfl
theorem u144_40 : ev d 144 40 lo st h = evI d 144 40 41 lo st h .iastore := ev_u n144_40 rfl
theorem n144_41 : mx_ins 144 41 = some (.dup, 1) := mx_ins_of mi144 dX20_init_41 rfl
theorem u144_41 : ev d 144 41 lo st h = evI d 144 41 42 lo st h .dup := ev_u n144_41 rfl
theorem n144_42 : mx_ins 144 42 = some ((.bipush 6), 2) := mx_ins_of mi144 dX20_init_42 rfl
theorem u144_42 : ev d 144 42 lo st h = ev d 144 44 lo (.int 6 :: st) h := (ev_s (f := mx_push (.int 6)) n144_42 rfl rfl).trans es_push
theorem n144_44 : mx_ins 144 44 = some ((.iconst 0), 1) := mx_ins_of mi144 dX20_init_44 rfl
theorem u144_44 : ev d 144 44 lo st h = ev d 144 45 lo (.int 0 :: st) h := (ev_s (f := mx_push (.int 0)) n144_44 rfl rfl).trans es_push
theorem n144_45 : mx_ins 144 45 = some (.iastore, 1) := mx_ins_of mi144 dX20_init_45 rfl
theorem u144_45 : ev d 144 45 lo st h = evI d 144 45 46 lo st h .iastore := ev_u n144_45 rfl
theorem n144_46 : mx_ins 144 46 = some (.dup, 1) := mx_ins_of mi144 dX20_init_46 rfl
theorem u144_46 : ev d 144 46 lo st h = evI d 144 46 47 lo st h .dup := ev_u n144_46 rfl
theorem n144_47 : mx_ins 144 47 = some ((.bipush 7), 2) := mx_ins_of mi144 dX20_init_47 rfl
theorem u144_47 : ev d 144 47 lo st h = ev d 144 49 lo (.int 7 :: st) h := (ev_s (f := mx_push (.int 7)) n144_47 rfl rfl).trans es_push
theorem n144_49 : mx_ins 144 49 = some ((.iconst 0), 1) := mx_ins_of mi144 dX20_init_49 rfl
theorem u144_49 : ev d 144 49 lo st h = ev d 144 50 lo (.int 0 :: st) h := (ev_s (f := mx_push (.int 0)) n144_49 rfl rfl).trans es_push
theorem n144_50 : mx_ins 144 50 = some (.iastore, 1) := mx_ins_of mi144 dX20_init_50 rfl
theorem u144_50 : ev d 144 50 lo st h = evI d 144 50 51 lo st h .iastore := ev_u n144_50 rfl
theorem n144_51 : mx_ins 144 51 = some (.dup, 1) := mx_ins_of mi144 dX20_init_51 rfl
theorem u144_51 : ev d 144 51 lo st h = evI d 144 51 52 lo st h .dup := ev_u n144_51 rfl
theorem n144_52 : mx_ins 144 52 = some ((.bipush 8), 2) := mx_ins_of mi144 dX20_init_52 rfl
theorem u144_52 : ev d 144 52 lo st h = ev d 144 54 lo (.int 8 :: st) h := (ev_s (f := mx_push (.int 8)) n144_52 rfl rfl).trans es_push
theorem n144_54 : mx_ins 144 54 = some ((.iconst 0), 1) := mx_ins_of mi144 dX20_init_54 rfl
theorem u144_54 : ev d 144 54 lo st h = ev d 144 55 lo (.int 0 :: st) h := (ev_s (f := mx_push (.int 0)) n144_54 rfl rfl).trans es_push
theorem n144_55 : mx_ins 144 55 = some (.iastore, 1) := mx_ins_of mi144 dX20_init_55 rfl
theorem u144_55 : ev d 144 55 lo st h = evI d 144 55 56 lo st h .iastore := ev_u n144_55 rfl
theorem n144_56 : mx_ins 144 56 = some (.dup, 1) := mx_ins_of mi144 dX20_init_56 rfl
theorem u144_56 : ev d 144 56 lo st h = evI d 144 56 57 lo st h .dup := ev_u n144_56 rfl
theorem n144_57 : mx_ins 144 57 = some ((.bipush 9), 2) := mx_ins_of mi144 dX20_init_57 rfl
theorem u144_57 : ev d 144 57 lo st h = ev d 144 59 lo (.int 9 :: st) h := (ev_s (f := mx_push (.int 9)) n144_57 rfl rfl).trans es_push
theorem n144_59 : mx_ins 144 59 = some ((.iconst 0), 1) := mx_ins_of mi144 dX20_init_59 rfl
theorem u144_59 : ev d 144 59 lo st h = ev d 144 60 lo (.int 0 :: st) h := (ev_s (f := mx_push (.int 0)) n144_59 rfl rfl).trans es_push
theorem n144_60 : mx_ins 144 60 = some (.iastore, 1) := mx_ins_of mi144 dX20_init_60 rfl
theorem u144_60 : ev d 144 60 lo st h = evI d 144 60 61 lo st h .iastore := ev_u n144_60 rfl
theorem n144_61 : mx_ins 144 61 = some (.dup, 1) := mx_ins_of mi144 dX20_init_61 rfl
theorem u144_61 : ev d 144 61 lo st h = evI d 144 61 62 lo st h .dup := ev_u n144_61 rfl
theorem n144_62 : mx_ins 144 62 = some ((.bipush 10), 2) := mx_ins_of mi144 dX20_init_62 rfl
theorem u144_62 : ev d 144 62 lo st h = ev d 144 64 lo (.int 10 :: st) h := (ev_s (f := mx_push (.int 10)) n144_62 rfl rfl).trans es_push
theorem n144_64 : mx_ins 144 64 = some ((.iconst 0), 1) := mx_ins_of mi144 dX20_init_64 rfl
theorem u144_64 : ev d 144 64 lo st h = ev d 144 65 lo (.int 0 :: st) h := (ev_s (f := mx_push (.int 0)) n144_64 rfl rfl).trans es_push
theorem n144_65 : mx_ins 144 65 = some (.iastore, 1) := mx_ins_of mi144 dX20_init_65 rfl
theorem u144_65 : ev d 144 65 lo st h = evI d 144 65 66 lo st h .iastore := ev_u n144_65 rfl
theorem n144_66 : mx_ins 144 66 = some (.dup, 1) := mx_ins_of mi144 dX20_init_66 rfl
theorem u144_66 : ev d 144 66 lo st h = evI d 144 66 67 lo st h .dup := ev_u n144_66 rfl
theorem n144_67 : mx_ins 144 67 = some ((.bipush 11), 2) := mx_ins_of mi144 dX20_init_67 rfl
theorem u144_67 : ev d 144 67 lo st h = ev d 144 69 lo (.int 11 :: st) h := (ev_s (f := mx_push (.int 11)) n144_67 rfl rfl).trans es_push
theorem n144_69 : mx_ins 144 69 = some ((.iconst 0), 1) := mx_ins_of mi144 dX20_init_69 rfl
theorem u144_69 : ev d 144 69 lo st h = ev d 144 70 lo (.int 0 :: st) h := (ev_s (f := mx_push (.int 0)) n144_69 rfl rfl).trans es_push
theorem n144_70 : mx_ins 144 70 = some (.iastore, 1) := mx_ins_of mi144 dX20_init_70 rfl
theorem u144_70 : ev d 144 70 lo st h = evI d 144 70 71 lo st h .iastore := ev_u n144_70 rfl
theorem n144_71 : mx_ins 144 71 = some (.dup, 1) := mx_ins_of mi144 dX20_init_71 rfl
theorem u144_71 : ev d 144 71 lo st h = evI d 144 71 72 lo st h .dup := ev_u n144_71 rfl
theorem n144_72 : mx_ins 144 72 = some ((.bipush 12), 2) := mx_ins_of mi144 dX20_init_72 rfl
theorem u144_72 : ev d 144 72 lo st h = ev d 144 74 lo (.int 12 :: st) h := (ev_s (f := mx_push (.int 12)) n144_72 rfl rfl).trans es_push
theorem n144_74 : mx_ins 144 74 = some ((.iconst 0), 1) := mx_ins_of mi144 dX20_init_74 rfl
theorem u144_74 : ev d 144 74 lo st h = ev d 144 75 lo (.int 0 :: st) h := (ev_s (f := mx_push (.int 0)) n144_74 rfl rfl).trans es_push
theorem n144_75 : mx_ins 144 75 = some (.iastore, 1) := mx_ins_of mi144 dX20_init_75 rfl
theorem u144_75 : ev d 144 75 lo st h = evI d 144 75 76 lo st h .iastore := ev_u n144_75 rfl
theorem n144_76 : mx_ins 144 76 = some (.dup, 1) := mx_ins_of mi144 dX20_init_76 rfl
theorem u144_76 : ev d 144 76 lo st h = evI d 144 76 77 lo st h .dup := ev_u n144_76 rfl
theorem n144_77 : mx_ins 144 77 = some ((.bipush 13), 2) := mx_ins_of mi144 dX20_init_77 rfl
theorem u144_77 : ev d 144 77 lo st h = ev d 144 79 lo (.int 13 :: st) h := (ev_s (f := mx_push (.int 13)) n144_77 rfl rfl).trans es_push
theorem n144_79 : mx_ins 144 79 = some ((.iconst 0), 1) := mx_ins_of mi144 dX20_init_79 rfl
theorem u144_79 : ev d 144 79 lo st h = ev d 144 80 lo (.int 0 :: st) h := (ev_s (f := mx_push (.int 0)) n144_79 rfl rfl).trans es_push
theorem n144_80 : mx_ins 144 80 = some (.iastore, 1) := mx_ins_of mi144 dX20_init_80 rfl
theorem u144_80 : ev d 144 80 lo st h = evI d 144 80 81 lo st h .iastore := ev_u n144_80 rfl
theorem n144_81 : mx_ins 144 81 = some (.dup, 1) := mx_ins_of mi144 dX20_init_81 rfl
theorem u144_81 : ev d 144 81 lo st h = evI d 144 81 82 lo st h .dup := ev_u n144_81 rfl
theorem n144_82 : mx_ins 144 82 = some ((.bipush 14), 2) := mx_ins_of mi144 dX20_init_82 rfl
theorem u144_82 : ev d 144 82 lo st h = ev d 144 84 lo (.int 14 :: st) h := (ev_s (f := mx_push (.int 14)) n144_82 rfl rfl).trans es_push
theorem n144_84 : mx_ins 144 84 = some ((.iconst 0), 1) := mx_ins_of mi144 dX20_init_84 rfl
theorem u144_84 : ev d 144 84 lo st h = ev d 144 85 lo (.int 0 :: st) h := (ev_s (f := mx_push (.int 0)) n144_84 rfl rfl).trans es_push
theorem n144_85 : mx_ins 144 85 = some (.iastore, 1) := mx_ins_of mi144 dX20_init_85 rfl
theorem u144_85 : ev d 144 85 lo st h = evI d 144 85 86 lo st h .iastore := ev_u n144_85 rfl
theorem n144_86 : mx_ins 144 86 = some (.dup, 1) := mx_ins_of mi144 dX20_init_86 rfl
theorem u144_86 : ev d 144 86 lo st h = evI d 144 86 87 lo st h .dup := ev_u n144_86 rfl
theorem n144_87 : mx_ins 144 87 = some ((.bipush 15), 2) := mx_ins_of mi144 dX20_init_87 rfl
theorem u144_87 : ev d 144 87 lo st h = ev d 144 89 lo (.int 15 :: st) h := (ev_s (f := mx_push (.int 15)) n144_87 rfl rfl).trans es_push
theorem n144_89 : mx_ins 144 89 = some ((.iconst 0), 1) := mx_ins_of mi144 dX20_init_89 rfl
theorem u144_89 : ev d 144 89 lo st h = ev d 144 90 lo (.int 0 :: st) h := (ev_s (f := mx_push (.int 0)) n144_89 rfl rfl).trans es_push
theorem n144_90 : mx_ins 144 90 = some (.iastore, 1) := mx_ins_of mi144 dX20_init_90 rfl
theorem u144_90 : ev d 144 90 lo st h = evI d 144 90 91 lo st h .iastore := ev_u n144_90 rfl
theorem n144_91 : mx_ins 144 91 = some (.dup, 1) := mx_ins_of mi144 dX20_init_91 rfl
theorem u144_91 : ev d 144 91 lo st h = evI d 144 91 92 lo st h .dup := ev_u n144_91 rfl
theorem n144_92 : mx_ins 144 92 = some ((.bipush 16), 2) := mx_ins_of mi144 dX20_init_92 rfl
theorem u144_92 : ev d 144 92 lo st h = ev d 144 94 lo (.int 16 :: st) h := (ev_s (f := mx_push (.int 16)) n144_92 rfl rfl).trans es_push
theorem n144_94 : mx_ins 144 94 = some ((.iconst 0), 1) := mx_ins_of mi144 dX20_init_94 rfl
theorem u144_94 : ev d 144 94 lo st h = ev d 144 95 lo (.int 0 :: st) h := (ev_s (f := mx_push (.int 0)) n144_94 rfl rfl).trans es_push
theorem n144_95 : mx_ins 144 95 = some (.iastore, 1) := mx_ins_of mi144 dX20_init_95 rfl
theorem u144_95 : ev d 144 95 lo st h = evI d 144 95 96 lo st h .iastore := ev_u n144_95 rfl
theorem n144_96 : mx_ins 144 96 = some (.dup, 1) := mx_ins_of mi144 dX20_init_96 rfl
theorem u144_96 : ev d 144 96 lo st h = evI d 144 96 97 lo st h .dup := ev_u n144_96 rfl
theorem n144_97 : mx_ins 144 97 = some ((.bipush 17), 2) := mx_ins_of mi144 dX20_init_97 rfl
theorem u144_97 : ev d 144 97 lo st h = ev d 144 99 lo (.int 17 :: st) h := (ev_s (f := mx_push (.int 17)) n144_97 rfl rfl).trans es_push
theorem n144_99 : mx_ins 144 99 = some ((.iconst 0), 1) := mx_ins_of mi144 dX20_init_99 rfl
theorem u144_99 : ev d 144 99 lo st h = ev d 144 100 lo (.int 0 :: st) h := (ev_s (f := mx_push (.int 0)) n144_99 rfl rfl).trans es_push
theorem n144_100 : mx_ins 144 100 = some (.iastore, 1) := mx_ins_of mi144 dX20_init_100 rfl
theorem u144_100 : ev d 144 100 lo st h = evI d 144 100 101 lo st h .iastore := ev_u n144_100 rfl
theorem n144_101 : mx_ins 144 101 = some (.dup, 1) := mx_ins_of mi144 dX20_init_101 rfl
theorem u144_101 : ev d 144 101 lo st h = evI d 144 101 102 lo st h .dup := ev_u n144_101 rfl
theorem n144_102 : mx_ins 144 102 = some ((.bipush 18), 2) := mx_ins_of mi144 dX20_init_102 rfl
theorem u144_102 : ev d 144 102 lo st h = ev d 144 104 lo (.int 18 :: st) h := (ev_s (f := mx_push (.int 18)) n144_102 rfl rfl).trans es_push
theorem n144_104 : mx_ins 144 104 = some ((.iconst 0), 1) := mx_ins_of mi144 dX20_init_104 rfl
theorem u144_104 : ev d 144 104 lo st h = ev d 144 105 lo (.int 0 :: st) h := (ev_s (f := mx_push (.int 0)) n144_104 rfl rfl).trans es_push
theorem n144_105 : mx_ins 144 105 = some (.iastore, 1) := mx_ins_of mi144 dX20_init_105 rfl
theorem u144_105 : ev d 144 105 lo st h = evI d 144 105 106 lo st h .iastore := ev_u n144_105 rfl
theorem n144_106 : mx_ins 144 106 = some (.dup, 1) := mx_ins_of mi144 dX20_init_106 rfl
theorem u144_106 : ev d 144 106 lo st h = evI d 144 106 107 lo st h .dup := ev_u n144_106 rfl
theorem n144_107 : mx_ins 144 107 = some ((.bipush 19), 2) := mx_ins_of mi144 dX20_init_107 rfl
theorem u144_107 : ev d 144 107 lo st h = ev d 144 109 lo (.int 19 :: st) h := (ev_s (f := mx_push (.int 19)) n144_107 rfl rfl).trans es_push
theorem n144_109 : mx_ins 144 109 = some ((.iconst 0), 1) := mx_ins_of mi144 dX20_init_109 rfl
theorem u144_109 : ev d 144 109 lo st h = ev d 144 110 lo (.int 0 :: st) h := (ev_s (f := mx_push (.int 0)) n144_109 rfl rfl).trans es_push
theorem n144_110 : mx_ins 144 110 = some (.iastore, 1) := mx_ins_of mi144 dX20_init_110 rfl
theorem u144_110 : ev d 144 110 lo st h = evI d 144 110 111 lo st h .iastore := ev_u n144_110 rfl
theorem n144_111 : mx_ins 144 111 = some (.dup, 1) := mx_ins_of mi144 dX20_init_111 rfl
theorem u144_111 : ev d 144 111 lo st h = evI d 144 111 112 lo st h .dup := ev_u n144_111 rfl
theorem n144_112 : mx_ins 144 112 = some ((.bipush 20), 2) := mx_ins_of mi144 dX20_init_112 rfl
theorem u144_112 : ev d 144 112 lo st h = ev d 144 114 lo (.int 20 :: st) h := (ev_s (f := mx_push (.int 20)) n144_112 rfl rfl).trans es_push
theorem n144_114 : mx_ins 144 114 = some ((.iconst 0), 1) := mx_ins_of mi144 dX20_init_114 rfl
theorem u144_114 : ev d 144 114 lo st h = ev d 144 115 lo (.int 0 :: st) h := (ev_s (f := mx_push (.int 0)) n144_114 rfl rfl).trans es_push
theorem n144_115 : mx_ins 144 115 = some (.iastore, 1) := mx_ins_of mi144 dX20_init_115 rfl
theorem u144_115 : ev d 144 115 lo st h = evI d 144 115 116 lo st h .iastore := ev_u n144_115 rfl
theorem n144_116 : mx_ins 144 116 = some ((.putfield 7), 3) := mx_ins_of mi144 dX20_init_116 rfl
theorem u144_116 : ev d 144 116 lo st h = evS (mx_pf 20 7 true) d 144 119 lo st h := ev_s n144_116 rfl rfl
theorem n144_119 : mx_ins 144 119 = some ((.aload_n 0), 1) := mx_ins_of mi144 dX20_init_119 rfl
theorem u144_119 : ev d 144 119 lo st h = evS (mx_ldA 0) d 144 120 lo st h := ev_s n144_119 rfl rfl
theorem n144_120 : mx_ins 144 120 = some ((.bipush 7), 2) := mx_ins_of mi144 dX20_init_120 rfl
theorem u144_120 : ev d 144 120 lo st h = ev d 144 122 lo (.int 7 :: st) h := (ev_s (f := mx_push (.int 7)) n144_120 rfl rfl).trans es_push
theorem n144_122 : mx_ins 144 122 = some ((.newarray .int), 2) := mx_ins_of mi144 dX20_init_122 rfl
theorem u144_122 : ev d 144 122 lo st h = evI d 144 122 124 lo st h (.newarray .int) := ev_u n144_122 rfl
theorem n144_124 : mx_ins 144 124 = some (.dup, 1) := mx_ins_of mi144 dX20_init_124 rfl
theorem u144_124 : ev d 144 124 lo st h = evI d 144 124 125 lo st h .dup := ev_u n144_124 rfl
theorem n144_125 : mx_ins 144 125 = some ((.iconst 0), 1) := mx_ins_of mi144 dX20_init_125 rfl
theorem u144_125 : ev d 144 125 lo st h = ev d 144 126 lo (.int 0 :: st) h := (ev_s (f := mx_push (.int 0)) n144_125 rfl rfl).trans es_push
theorem n144_126 : mx_ins 144 126 = some ((.bipush 50), 2) := mx_ins_of mi144 dX20_init_126 rfl
theorem u144_126 : ev d 144 126 lo st h = ev d 144 128 lo (.int 50 :: st) h := (ev_s (f := mx_push (.int 50)) n144_126 rfl rfl).trans es_push
theorem n144_128 : mx_ins 144 128 = some (.iastore, 1) := mx_ins_of mi144 dX20_init_128 rfl
theorem u144_128 : ev d 144 128 lo st h = evI d 144 128 129 lo st h .iastore := ev_u n144_128 rfl
theorem n144_129 : mx_ins 144 129 = some (.dup, 1) := mx_ins_of mi144 dX20_init_129 rfl
theorem u144_129 : ev d 144 129 lo st h = evI d 144 129 130 lo st h .dup := ev_u n144_129 rfl
theorem n144_130 : mx_ins 144 130 = some ((.iconst 1), 1) := mx_ins_of mi144 dX20_init_130 rfl
theorem u144_130 : ev d 144 130 lo st h = ev d 144 131 lo (.int 1 :: st) h := (ev_s (f := mx_push (.int 1)) n144_130 rfl rfl).trans es_push
theorem n144_131 : mx_ins 144 131 = some ((.iconst 0), 1) := mx_ins_of mi144 dX20_init_131 rfl
theorem u144_131 : ev d 144 131 lo st h = ev d 144 132 lo (.int 0 :: st) h := (ev_s (f := mx_push (.int 0)) n144_131 rfl rfl).trans es_push
theorem n144_132 : mx_ins 144 132 = some (.iastore, 1) := mx_ins_of mi144 dX20_init_132 rfl
theorem u144_132 : ev d 144 132 lo st h = evI d 144 132 133 lo st h .iastore := ev_u n144_132 rfl
theorem n144_133 : mx_ins 144 133 = some (.dup, 1) := mx_ins_of mi144 dX20_init_133 rfl
theorem u144_133 : ev d 144 133 lo st h = evI d 144 133 134 lo st h .dup := ev_u n144_133 rfl
theorem n144_134 : mx_ins 144 134 = some ((.iconst 2), 1) := mx_ins_of mi144 dX20_init_134 rfl
theorem u144_134 : ev d 144 134 lo st h = ev d 144 135 lo (.int 2 :: st) h := (ev_s (f := mx_push (.int 2)) n144_134 rfl rfl).trans es_push
theorem n144_135 : mx_ins 144 135 = some ((.iconst 0), 1) := mx_ins_of mi144 dX20_init_135 rfl
theorem u144_135 : ev d 144 135 lo st h = ev d 144 136 lo (.int 0 :: st) h := (ev_s (f := mx_push (.int 0)) n144_135 rfl rfl).trans es_push
theorem n144_136 : mx_ins 144 136 = some (.iastore, 1) := mx_ins_of mi144 dX20_init_136 rfl
theorem u144_136 : ev d 144 136 lo st h = evI d 144 136 137 lo st h .iastore := ev_u n144_136 rfl
theorem n144_137 : mx_ins 144 137 = some (.dup, 1) := mx_ins_of mi144 dX20_init_137 rfl
theorem u144_137 : ev d 144 137 lo st h = evI d 144 137 138 lo st h .dup := ev_u n144_137 rfl
theorem n144_138 : mx_ins 144 138 = some ((.iconst 3), 1) := mx_ins_of mi144 dX20_init_138 rfl
theorem u144_138 : ev d 144 138 lo st h = ev d 144 139 lo (.int 3 :: st) h := (ev_s (f := mx_push (.int 3)) n144_138 rfl rfl).trans es_push
theorem n144_139 : mx_ins 144 139 = some ((.bipush 100), 2) := mx_ins_of mi144 dX20_init_139 rfl
theorem u144_139 : ev d 144 139 lo st h = ev d 144 141 lo (.int 100 :: st) h := (ev_s (f := mx_push (.int 100)) n144_139 rfl rfl).trans es_push
theorem n144_141 : mx_ins 144 141 = some (.iastore, 1) := mx_ins_of mi144 dX20_init_141 rfl
theorem u144_141 : ev d 144 141 lo st h = evI d 144 141 142 lo st h .iastore := ev_u n144_141 rfl
theorem n144_142 : mx_ins 144 142 = some (.dup, 1) := mx_ins_of mi144 dX20_init_142 rfl
theorem u144_142 : ev d 144 142 lo st h = evI d 144 142 143 lo st h .dup := ev_u n144_142 rfl
theorem n144_143 : mx_ins 144 143 = some ((.iconst 4), 1) := mx_ins_of mi144 dX20_init_143 rfl
theorem u144_143 : ev d 144 143 lo st h = ev d 144 144 lo (.int 4 :: st) h := (ev_s (f := mx_push (.int 4)) n144_143 rfl rfl).trans es_push
theorem n144_144 : mx_ins 144 144 = some ((.iconst 0), 1) := mx_ins_of mi144 dX20_init_144 rfl
theorem u144_144 : ev d 144 144 lo st h = ev d 144 145 lo (.int 0 :: st) h := (ev_s (f := mx_push (.int 0)) n144_144 rfl rfl).trans es_push
theorem n144_145 : mx_ins 144 145 = some (.iastore, 1) := mx_ins_of mi144 dX20_init_145 rfl
theorem u144_145 : ev d 144 145 lo st h = evI d 144 145 146 lo st h .iastore := ev_u n144_145 rfl
theorem n144_146 : mx_ins 144 146 = some (.dup, 1) := mx_ins_of mi144 dX20_init_146 rfl
theorem u144_146 : ev d 144 146 lo st h = evI d 144 146 147 lo st h .dup := ev_u n144_146 rfl
theorem n144_147 : mx_ins 144 147 = some ((.iconst 5), 1) := mx_ins_of mi144 dX20_init_147 rfl
theorem u144_147 : ev d 144 147 lo st h = ev d 144 148 lo (.int 5 :: st) h := (ev_s (f := mx_push (.int 5)) n144_147 rfl rfl).trans es_push
theorem n144_148 : mx_ins 144 148 = some ((.iconst 0), 1) := mx_ins_of mi144 dX20_init_148 rfl
theorem u144_148 : ev d 144 148 lo st h = ev d 144 149 lo (.int 0 :: st) h := (ev_s (f := mx_push (.int 0)) n144_148 rfl rfl).trans es_push
theorem n144_149 : mx_ins 144 149 = some (.iastore, 1) := mx_ins_of mi144 dX20_init_149 rfl
theorem u144_149 : ev d 144 149 lo st h = evI d 144 149 150 lo st h .iastore := ev_u n144_149 rfl
theorem n144_150 : mx_ins 144 150 = some (.dup, 1) := mx_ins_of mi144 dX20_init_150 rfl
theorem u144_150 : ev d 144 150 lo st h = evI d 144 150 151 lo st h .dup := ev_u n144_150 rfl
theorem n144_151 : mx_ins 144 151 = some ((.bipush 6), 2) := mx_ins_of mi144 dX20_init_151 rfl
theorem u144_151 : ev d 144 151 lo st h = ev d 144 153 lo (.int 6 :: st) h := (ev_s (f := mx_push (.int 6)) n144_151 rfl rfl).trans es_push
theorem n144_153 : mx_ins 144 153 = some ((.iconst 0), 1) := mx_ins_of mi144 dX20_init_153 rfl
theorem u144_153 : ev d 144 153 lo st h = ev d 144 154 lo (.int 0 :: st) h := (ev_s (f := mx_push (.int 0)) n144_153 rfl rfl).trans es_push
theorem n144_154 : mx_ins 144 154 = some (.iastore, 1) := mx_ins_of mi144 dX20_init_154 rfl
theorem u144_154 : ev d 144 154 lo st h = evI d 144 154 155 lo st h .iastore := ev_u n144_154 rfl
theorem n144_155 : mx_ins 144 155 = some ((.putfield 13), 3) := mx_ins_of mi144 dX20_init_155 rfl
theorem u144_155 : ev d 144 155 lo st h = evS (mx_pf 20 13 true) d 144 158 lo st h := ev_s n144_155 rfl rfl
theorem n144_158 : mx_ins 144 158 = some ((.aload_n 0), 1) := mx_ins_of mi144 dX20_init_158 rfl
theorem u144_158 : ev d 144 158 lo st h = evS (mx_ldA 0) d 144 159 lo st h := ev_s n144_158 rfl rfl
theorem n144_159 : mx_ins 144 159 = some ((.bipush 7), 2) := mx_ins_of mi144 dX20_init_159 rfl
theorem u144_159 : ev d 144 159 lo st h = ev d 144 161 lo (.int 7 :: st) h := (ev_s (f := mx_push (.int 7)) n144_159 rfl rfl).trans es_push
theorem n144_161 : mx_ins 144 161 = some ((.newarray .int), 2) := mx_ins_of mi144 dX20_init_161 rfl
theorem u144_161 : ev d 144 161 lo st h = evI d 144 161 163 lo st h (.newarray .int) := ev_u n144_161 rfl
theorem n144_163 : mx_ins 144 163 = some (.dup, 1) := mx_ins_of mi144 dX20_init_163 rfl
theorem u144_163 : ev d 144 163 lo st h = evI d 144 163 164 lo st h .dup := ev_u n144_163 rfl
theorem n144_164 : mx_ins 144 164 = some ((.iconst 0), 1) := mx_ins_of mi144 dX20_init_164 rfl
theorem u144_164 : ev d 144 164 lo st h = ev d 144 165 lo (.int 0 :: st) h := (ev_s (f := mx_push (.int 0)) n144_164 rfl rfl).trans es_push
theorem n144_165 : mx_ins 144 165 = some ((.sipush 400), 3) := mx_ins_of mi144 dX20_init_165 rfl
theorem u144_165 : ev d 144 165 lo st h = ev d 144 168 lo (.int 400 :: st) h := (ev_s (f := mx_push (.int 400)) n144_165 rfl rfl).trans es_push
theorem n144_168 : mx_ins 144 168 = some (.iastore, 1) := mx_ins_of mi144 dX20_init_168 rfl
theorem u144_168 : ev d 144 168 lo st h = evI d 144 168 169 lo st h .iastore := ev_u n144_168 rfl
theorem n144_169 : mx_ins 144 169 = some (.dup, 1) := mx_ins_of mi144 dX20_init_169 rfl
theorem u144_169 : ev d 144 169 lo st h = evI d 144 169 170 lo st h .dup := ev_u n144_169 rfl
theorem n144_170 : mx_ins 144 170 = some ((.iconst 1), 1) := mx_ins_of mi144 dX20_init_170 rfl
theorem u144_170 : ev d 144 170 lo st h = ev d 144 171 lo (.int 1 :: st) h := (ev_s (f := mx_push (.int 1)) n144_170 rfl rfl).trans es_push
theorem n144_171 : mx_ins 144 171 = some ((.sipush 2000), 3) := mx_ins_of mi144 dX20_init_171 rfl
theorem u144_171 : ev d 144 171 lo st h = ev d 144 174 lo (.int 2000 :: st) h := (ev_s (f := mx_push (.int 2000)) n144_171 rfl rfl).trans es_push
theorem n144_174 : mx_ins 144 174 = some (.iastore, 1) := mx_ins_of mi144 dX20_init_174 rfl
theorem u144_174 : ev d 144 174 lo st h = evI d 144 174 175 lo st h .iastore := ev_u n144_174 rfl
theorem n144_175 : mx_ins 144 175 = some (.dup, 1) := mx_ins_of mi144 dX20_init_175 rfl
theorem u144_175 : ev d 144 175 lo st h = evI d 144 175 176 lo st h .dup := ev_u n144_175 rfl
theorem n144_176 : mx_ins 144 176 = some ((.iconst 2), 1) := mx_ins_of mi144 dX20_init_176 rfl
theorem u144_176 : ev d 144 176 lo st h = ev d 144 177 lo (.int 2 :: st) h := (ev_s (f := mx_push (.int 2)) n144_176 rfl rfl).trans es_push
theorem n144_177 : mx_ins 144 177 = some ((.sipush 2000), 3) := mx_ins_of mi144 dX20_init_177 rfl
theorem u144_177 : ev d 144 177 lo st h = ev d 144 180 lo (.int 2000 :: st) h := (ev_s (f := mx_push (.int 2000)) n144_177 rfl rfl).trans es_push
theorem n144_180 : mx_ins 144 180 = some (.iastore, 1) := mx_ins_of mi144 dX20_init_180 rfl
theorem u144_180 : ev d 144 180 lo st h = evI d 144 180 181 lo st h .iastore := ev_u n144_180 rfl
theorem n144_181 : mx_ins 144 181 = some (.dup, 1) := mx_ins_of mi144 dX20_init_181 rfl
theorem u144_181 : ev d 144 181 lo st h = evI d 144 181 182 lo st h .dup := ev_u n144_181 rfl
theorem n144_182 : mx_ins 144 182 = some ((.iconst 3), 1) := mx_ins_of mi144 dX20_init_182 rfl
theorem u144_182 : ev d 144 182 lo st h = ev d 144 183 lo (.int 3 :: st) h := (ev_s (f := mx_push (.int 3)) n144_182 rfl rfl).trans es_push
theorem n144_183 : mx_ins 144 183 = some ((.sipush 3000), 3) := mx_ins_of mi144 dX20_init_183 rfl
theorem u144_183 : ev d 144 183 lo st h = ev d 144 186 lo (.int 3000 :: st) h := (ev_s (f := mx_push (.int 3000)) n144_183 rfl rfl).trans es_push
theorem n144_186 : mx_ins 144 186 = some (.iastore, 1) := mx_ins_of mi144 dX20_init_186 rfl
theorem u144_186 : ev d 144 186 lo st h = evI d 144 186 187 lo st h .iastore := ev_u n144_186 rfl
theorem n144_187 : mx_ins 144 187 = some (.dup, 1) := mx_ins_of mi144 dX20_init_187 rfl
theorem u144_187 : ev d 144 187 lo st h = evI d 144 187 188 lo st h .dup := ev_u n144_187 rfl
theorem n144_188 : mx_ins 144 188 = some ((.iconst 4), 1) := mx_ins_of mi144 dX20_init_188 rfl
theorem u144_188 : ev d 144 188 lo st h = ev d 144 189 lo (.int 4 :: st) h := (ev_s (f := mx_push (.int 4)) n144_188 rfl rfl).trans es_push
theorem n144_189 : mx_ins 144 189 = some ((.bipush 9), 2) := mx_ins_of mi144 dX20_init_189 rfl
theorem u144_189 : ev d 144 189 lo st h = ev d 144 191 lo (.int 9 :: st) h := (ev_s (f := mx_push (.int 9)) n144_189 rfl rfl).trans es_push
theorem n144_191 : mx_ins 144 191 = some (.iastore, 1) := mx_ins_of mi144 dX20_init_191 rfl
theorem u144_191 : ev d 144 191 lo st h = evI d 144 191 192 lo st h .iastore := ev_u n144_191 rfl
theorem n144_192 : mx_ins 144 192 = some (.dup, 1) := mx_ins_of mi144 dX20_init_192 rfl
theorem u144_192 : ev d 144 192 lo st h = evI d 144 192 193 lo st h .dup := ev_u n144_192 rfl
theorem n144_193 : mx_ins 144 193 = some ((.iconst 5), 1) := mx_ins_of mi144 dX20_init_193 rfl
theorem u144_193 : ev d 144 193 lo st h = ev d 144 194 lo (.int 5 :: st) h := (ev_s (f := mx_push (.int 5)) n144_193 rfl rfl).trans es_push
theorem n144_194 : mx_ins 144 194 = some ((.iconst 3), 1) := mx_ins_of mi144 dX20_init_194 rfl
theorem u144_194 : ev d 144 194 lo st h = ev d 144 195 lo (.int 3 :: st) h := (ev_s (f := mx_push (.int 3)) n144_194 rfl rfl).trans es_push
theorem n144_195 : mx_ins 144 195 = some (.iastore, 1) := mx_ins_of mi144 dX20_init_195 rfl
theorem u144_195 : ev d 144 195 lo st h = evI d 144 195 196 lo st h .iastore := ev_u n144_195 rfl
theorem n144_196 : mx_ins 144 196 = some (.dup, 1) := mx_ins_of mi144 dX20_init_196 rfl
theorem u144_196 : ev d 144 196 lo st h = evI d 144 196 197 lo st h .dup := ev_u n144_196 rfl
theorem n144_197 : mx_ins 144 197 = some ((.bipush 6), 2) := mx_ins_of mi144 dX20_init_197 rfl
theorem u144_197 : ev d 144 197 lo st h = ev d 144 199 lo (.int 6 :: st) h := (ev_s (f := mx_push (.int 6)) n144_197 rfl rfl).trans es_push
theorem n144_199 : mx_ins 144 199 = some ((.bipush 24), 2) := mx_ins_of mi144 dX20_init_199 rfl
theorem u144_199 : ev d 144 199 lo st h = ev d 144 201 lo (.int 24 :: st) h := (ev_s (f := mx_push (.int 24)) n144_199 rfl rfl).trans es_push
theorem n144_201 : mx_ins 144 201 = some (.iastore, 1) := mx_ins_of mi144 dX20_init_201 rfl
theorem u144_201 : ev d 144 201 lo st h = evI d 144 201 202 lo st h .iastore := ev_u n144_201 rfl
theorem n144_202 : mx_ins 144 202 = some ((.putfield 16), 3) := mx_ins_of mi144 dX20_init_202 rfl
theorem u144_202 : ev d 144 202 lo st h = evS (mx_pf 20 16 true) d 144 205 lo st h := ev_s n144_202 rfl rfl
theorem n144_205 : mx_ins 144 205 = some ((.aload_n 0), 1) := mx_ins_of mi144 dX20_init_205 rfl
theorem u144_205 : ev d 144 205 lo st h = evS (mx_ldA 0) d 144 206 lo st h := ev_s n144_205 rfl rfl
theorem n144_206 : mx_ins 144 206 = some ((.bipush 24), 2) := mx_ins_of mi144 dX20_init_206 rfl
theorem u144_206 : ev d 144 206 lo st h = ev d 144 208 lo (.int 24 :: st) h := (ev_s (f := mx_push (.int 24)) n144_206 rfl rfl).trans es_push
theorem n144_208 : mx_ins 144 208 = some ((.newarray .int), 2) := mx_ins_of mi144 dX20_init_208 rfl
theorem u144_208 : ev d 144 208 lo st h = evI d 144 208 210 lo st h (.newarray .int) := ev_u n144_208 rfl
theorem n144_210 : mx_ins 144 210 = some (.dup, 1) := mx_ins_of mi144 dX20_init_210 rfl
theorem u144_210 : ev d 144 210 lo st h = evI d 144 210 211 lo st h .dup := ev_u n144_210 rfl
theorem n144_211 : mx_ins 144 211 = some ((.iconst 0), 1) := mx_ins_of mi144 dX20_init_211 rfl
theorem u144_211 : ev d 144 211 lo st h = ev d 144 212 lo (.int 0 :: st) h := (ev_s (f := mx_push (.int 0)) n144_211 rfl rfl).trans es_push
theorem n144_212 : mx_ins 144 212 = some ((.iconst 5), 1) := mx_ins_of mi144 dX20_init_212 rfl
theorem u144_212 : ev d 144 212 lo st h = ev d 144 213 lo (.int 5 :: st) h := (ev_s (f := mx_push (.int 5)) n144_212 rfl rfl).trans es_push
theorem n144_213 : mx_ins 144 213 = some (.iastore, 1) := mx_ins_of mi144 dX20_init_213 rfl
theorem u144_213 : ev d 144 213 lo st h = evI d 144 213 214 lo st h .iastore := ev_u n144_213 rfl
theorem n144_214 : mx_ins 144 214 = some (.dup, 1) := mx_ins_of mi144 dX20_init_214 rfl
theorem u144_214 : ev d 144 214 lo st h = evI d 144 214 215 lo st h .dup := ev_u n144_214 rfl
theorem n144_215 : mx_ins 144 215 = some ((.iconst 1), 1) := mx_ins_of mi144 dX20_init_215 rfl
theorem u144_215 : ev d 144 215 lo st h = ev d 144 216 lo (.int 1 :: st) h := (ev_s (f := mx_push (.int 1)) n144_215 rfl rfl).trans es_push
theorem n144_216 : mx_ins 144 216 = some ((.iconst 5), 1) := mx_ins_of mi144 dX20_init_216 rfl
theorem u144_216 : ev d 144 216 lo st h = ev d 144 217 lo (.int 5 :: st) h := (ev_s (f := mx_push (.int 5)) n144_216 rfl rfl).trans es_push
theorem n144_217 : mx_ins 144 217 = some (.iastore, 1) := mx_ins_of mi144 dX20_init_217 rfl
theorem u144_217 : ev d 144 217 lo st h = evI d 144 217 218 lo st h .iastore := ev_u n144_217 rfl
theorem n144_218 : mx_ins 144 218 = some (.dup, 1) := mx_ins_of mi144 dX20_init_218 rfl
theorem u144_218 : ev d 144 218 lo st h = evI d 144 218 219 lo st h .dup := ev_u n144_218 rfl
theorem n144_219 : mx_ins 144 219 = some ((.iconst 2), 1) := mx_ins_of mi144 dX20_init_219 rfl
theorem u144_219 : ev d 144 219 lo st h = ev d 144 220 lo (.int 2 :: st) h := (ev_s (f := mx_push (.int 2)) n144_219 rfl rfl).trans es_push
theorem n144_220 : mx_ins 144 220 = some ((.iconst 5), 1) := mx_ins_of mi144 dX20_init_220 rfl
theorem u144_220 : ev d 144 220 lo st h = ev d 144 221 lo (.int 5 :: st) h := (ev_s (f := mx_push (.int 5)) n144_220 rfl rfl).trans es_push
theorem n144_221 : mx_ins 144 221 = some (.iastore, 1) := mx_ins_of mi144 dX20_init_221 rfl
theorem u144_221 : ev d 144 221 lo st h = evI d 144 221 222 lo st h .iastore := ev_u n144_221 rfl
theorem n144_222 : mx_ins 144 222 = some (.dup, 1) := mx_ins_of mi144 dX20_init_222 rfl
theorem u144_222 : ev d 144 222 lo st h = evI d 144 222 223 lo st h .dup := ev_u n144_222 rfl
theorem n144_223 : mx_ins 144 223 = some ((.iconst 3), 1) := mx_ins_of mi144 dX20_init_223 rfl
theorem u144_223 : ev d 144 223 lo st h = ev d 144 224 lo (.int 3 :: st) h := (ev_s (f := mx_push (.int 3)) n144_223 rfl rfl).trans es_push
theorem n144_224 : mx_ins 144 224 = some ((.iconst 5), 1) := mx_ins_of mi144 dX20_init_224 rfl
theorem u144_224 : ev d 144 224 lo st h = ev d 144 225 lo (.int 5 :: st) h := (ev_s (f := mx_push (.int 5)) n144_224 rfl rfl).trans es_push
theorem n144_225 : mx_ins 144 225 = some (.iastore, 1) := mx_ins_of mi144 dX20_init_225 rfl
theorem u144_225 : ev d 144 225 lo st h = evI d 144 225 226 lo st h .iastore := ev_u n144_225 rfl
theorem n144_226 : mx_ins 144 226 = some (.dup, 1) := mx_ins_of mi144 dX20_init_226 rfl
theorem u144_226 : ev d 144 226 lo st h = evI d 144 226 227 lo st h .dup := ev_u n144_226 rfl
theorem n144_227 : mx_ins 144 227 = some ((.iconst 4), 1) := mx_ins_of mi144 dX20_init_227 rfl
theorem u144_227 : ev d 144 227 lo st h = ev d 144 228 lo (.int 4 :: st) h := (ev_s (f := mx_push (.int 4)) n144_227 rfl rfl).trans es_push
theorem n144_228 : mx_ins 144 228 = some ((.iconst 5), 1) := mx_ins_of mi144 dX20_init_228 rfl
theorem u144_228 : ev d 144 228 lo st h = ev d 144 229 lo (.int 5 :: st) h := (ev_s (f := mx_push (.int 5)) n144_228 rfl rfl).trans es_push
theorem n144_229 : mx_ins 144 229 = some (.iastore, 1) := mx_ins_of mi144 dX20_init_229 rfl
theorem u144_229 : ev d 144 229 lo st h = evI d 144 229 230 lo st h .iastore := ev_u n144_229 rfl
theorem n144_230 : mx_ins 144 230 = some (.dup, 1) := mx_ins_of mi144 dX20_init_230 rfl
theorem u144_230 : ev d 144 230 lo st h = evI d 144 230 231 lo st h .dup := ev_u n144_230 rfl
theorem n144_231 : mx_ins 144 231 = some ((.iconst 5), 1) := mx_ins_of mi144 dX20_init_231 rfl
theorem u144_231 : ev d 144 231 lo st h = ev d 144 232 lo (.int 5 :: st) h := (ev_s (f := mx_push (.int 5)) n144_231 rfl rfl).trans es_push
theorem n144_232 : mx_ins 144 232 = some ((.iconst 5), 1) := mx_ins_of mi144 dX20_init_232 rfl
theorem u144_232 : ev d 144 232 lo st h = ev d 144 233 lo (.int 5 :: st) h := (ev_s (f := mx_push (.int 5)) n144_232 rfl rfl).trans es_push
theorem n144_233 : mx_ins 144 233 = some (.iastore, 1) := mx_ins_of mi144 dX20_init_233 rfl
theorem u144_233 : ev d 144 233 lo st h = evI d 144 233 234 lo st h .iastore := ev_u n144_233 rfl
theorem n144_234 : mx_ins 144 234 = some (.dup, 1) := mx_ins_of mi144 dX20_init_234 rfl
theorem u144_234 : ev d 144 234 lo st h = evI d 144 234 235 lo st h .dup := ev_u n144_234 rfl
theorem n144_235 : mx_ins 144 235 = some ((.bipush 6), 2) := mx_ins_of mi144 dX20_init_235 rfl
theorem u144_235 : ev d 144 235 lo st h = ev d 144 237 lo (.int 6 :: st) h := (ev_s (f := mx_push (.int 6)) n144_235 rfl rfl).trans es_push
theorem n144_237 : mx_ins 144 237 = some ((.iconst 5), 1) := mx_ins_of mi144 dX20_init_237 rfl
theorem u144_237 : ev d 144 237 lo st h = ev d 144 238 lo (.int 5 :: st) h := (ev_s (f := mx_push (.int 5)) n144_237 rfl rfl).trans es_push
theorem n144_238 : mx_ins 144 238 = some (.iastore, 1) := mx_ins_of mi144 dX20_init_238 rfl
theorem u144_238 : ev d 144 238 lo st h = evI d 144 238 239 lo st h .iastore := ev_u n144_238 rfl
theorem n144_239 : mx_ins 144 239 = some (.dup, 1) := mx_ins_of mi144 dX20_init_239 rfl
theorem u144_239 : ev d 144 239 lo st h = evI d 144 239 240 lo st h .dup := ev_u n144_239 rfl
theorem n144_240 : mx_ins 144 240 = some ((.bipush 7), 2) := mx_ins_of mi144 dX20_init_240 rfl
theorem u144_240 : ev d 144 240 lo st h = ev d 144 242 lo (.int 7 :: st) h := (ev_s (f := mx_push (.int 7)) n144_240 rfl rfl).trans es_push
theorem n144_242 : mx_ins 144 242 = some ((.iconst 5), 1) := mx_ins_of mi144 dX20_init_242 rfl
theorem u144_242 : ev d 144 242 lo st h = ev d 144 243 lo (.int 5 :: st) h := (ev_s (f := mx_push (.int 5)) n144_242 rfl rfl).trans es_push
theorem n144_243 : mx_ins 144 243 = some (.iastore, 1) := mx_ins_of mi144 dX20_init_243 rfl
theorem u144_243 : ev d 144 243 lo st h = evI d 144 243 244 lo st h .iastore := ev_u n144_243 rfl
theorem n144_244 : mx_ins 144 244 = some (.dup, 1) := mx_ins_of mi144 dX20_init_244 rfl
theorem u144_244 : ev d 144 244 lo st h = evI d 144 244 245 lo st h .dup := ev_u n144_244 rfl
theorem n144_245 : mx_ins 144 245 = some ((.bipush 8), 2) := mx_ins_of mi144 dX20_init_245 rfl
theorem u144_245 : ev d 144 245 lo st h = ev d 144 247 lo (.int 8 :: st) h := (ev_s (f := mx_push (.int 8)) n144_245 rfl rfl).trans es_push
theorem n144_247 : mx_ins 144 247 = some ((.iconst 5), 1) := mx_ins_of mi144 dX20_init_247 rfl
theorem u144_247 : ev d 144 247 lo st h = ev d 144 248 lo (.int 5 :: st) h := (ev_s (f := mx_push (.int 5)) n144_247 rfl rfl).trans es_push
theorem n144_248 : mx_ins 144 248 = some (.iastore, 1) := mx_ins_of mi144 dX20_init_248 rfl
theorem u144_248 : ev d 144 248 lo st h = evI d 144 248 249 lo st h .iastore := ev_u n144_248 rfl
theorem n144_249 : mx_ins 144 249 = some (.dup, 1) := mx_ins_of mi144 dX20_init_249 rfl
theorem u144_249 : ev d 144 249 lo st h = evI d 144 249 250 lo st h .dup := ev_u n144_249 rfl
theorem n144_250 : mx_ins 144 250 = some ((.bipush 9), 2) := mx_ins_of mi144 dX20_init_250 rfl
theorem u144_250 : ev d 144 250 lo st h = ev d 144 252 lo (.int 9 :: st) h := (ev_s (f := mx_push (.int 9)) n144_250 rfl rfl).trans es_push
theorem n144_252 : mx_ins 144 252 = some ((.iconst 5), 1) := mx_ins_of mi144 dX20_init_252 rfl
theorem u144_252 : ev d 144 252 lo st h = ev d 144 253 lo (.int 5 :: st) h := (ev_s (f := mx_push (.int 5)) n144_252 rfl rfl).trans es_push
theorem n144_253 : mx_ins 144 253 = some (.iastore, 1) := mx_ins_of mi144 dX20_init_253 rfl
theorem u144_253 : ev d 144 253 lo st h = evI d 144 253 254 lo st h .iastore := ev_u n144_253 rfl
theorem n144_254 : mx_ins 144 254 = some (.dup, 1) := mx_ins_of mi144 dX20_init_254 rfl
theorem u144_254 : ev d 144 254 lo st h = evI d 144 254 255 lo st h .dup := ev_u n144_254 rfl
theorem n144_255 : mx_ins 144 255 = some ((.bipush 10), 2) := mx_ins_of mi144 dX20_init_255 rfl
theorem u144_255 : ev d 144 255 lo st h = ev d 144 257 lo (.int 10 :: st) h := (ev_s (f := mx_push (.int 10)) n144_255 rfl rfl).trans es_push
theorem n144_257 : mx_ins 144 257 = some ((.iconst 5), 1) := mx_ins_of mi144 dX20_init_257 rfl
theorem u144_257 : ev d 144 257 lo st h = ev d 144 258 lo (.int 5 :: st) h := (ev_s (f := mx_push (.int 5)) n144_257 rfl rfl).trans es_push
theorem n144_258 : mx_ins 144 258 = some (.iastore, 1) := mx_ins_of mi144 dX20_init_258 rfl
theorem u144_258 : ev d 144 258 lo st h = evI d 144 258 259 lo st h .iastore := ev_u n144_258 rfl
theorem n144_259 : mx_ins 144 259 = some (.dup, 1) := mx_ins_of mi144 dX20_init_259 rfl
theorem u144_259 : ev d 144 259 lo st h = evI d 144 259 260 lo st h .dup := ev_u n144_259 rfl
theorem n144_260 : mx_ins 144 260 = some ((.bipush 11), 2) := mx_ins_of mi144 dX20_init_260 rfl
theorem u144_260 : ev d 144 260 lo st h = ev d 144 262 lo (.int 11 :: st) h := (ev_s (f := mx_push (.int 11)) n144_260 rfl rfl).trans es_push
theorem n144_262 : mx_ins 144 262 = some ((.iconst 5), 1) := mx_ins_of mi144 dX20_init_262 rfl
theorem u144_262 : ev d 144 262 lo st h = ev d 144 263 lo (.int 5 :: st) h := (ev_s (f := mx_push (.int 5)) n144_262 rfl rfl).trans es_push
theorem n144_263 : mx_ins 144 263 = some (.iastore, 1) := mx_ins_of mi144 dX20_init_263 rfl
theorem u144_263 : ev d 144 263 lo st h = evI d 144 263 264 lo st h .iastore := ev_u n144_263 rfl
theorem n144_264 : mx_ins 144 264 = some (.dup, 1) := mx_ins_of mi144 dX20_init_264 rfl
theorem u144_264 : ev d 144 264 lo st h = evI d 144 264 265 lo st h .dup := ev_u n144_264 rfl
theorem n144_265 : mx_ins 144 265 = some ((.bipush 12), 2) := mx_ins_of mi144 dX20_init_265 rfl
theorem u144_265 : ev d 144 265 lo st h = ev d 144 267 lo (.int 12 :: st) h := (ev_s (f := mx_push (.int 12)) n144_265 rfl rfl).trans es_push
theorem n144_267 : mx_ins 144 267 = some ((.iconst 5), 1) := mx_ins_of mi144 dX20_init_267 rfl
theorem u144_267 : ev d 144 267 lo st h = ev d 144 268 lo (.int 5 :: st) h := (ev_s (f := mx_push (.int 5)) n144_267 rfl rfl).trans es_push
theorem n144_268 : mx_ins 144 268 = some (.iastore, 1) := mx_ins_of mi144 dX20_init_268 rfl
theorem u144_268 : ev d 144 268 lo st h = evI d 144 268 269 lo st h .iastore := ev_u n144_268 rfl
theorem n144_269 : mx_ins 144 269 = some (.dup, 1) := mx_ins_of mi144 dX20_init_269 rfl
theorem u144_269 : ev d 144 269 lo st h = evI d 144 269 270 lo st h .dup := ev_u n144_269 rfl
theorem n144_270 : mx_ins 144 270 = some ((.bipush 13), 2) := mx_ins_of mi144 dX20_init_270 rfl
theorem u144_270 : ev d 144 270 lo st h = ev d 144 272 lo (.int 13 :: st) h := (ev_s (f := mx_push (.int 13)) n144_270 rfl rfl).trans es_push
theorem n144_272 : mx_ins 144 272 = some ((.iconst 5), 1) := mx_ins_of mi144 dX20_init_272 rfl
theorem u144_272 : ev d 144 272 lo st h = ev d 144 273 lo (.int 5 :: st) h := (ev_s (f := mx_push (.int 5)) n144_272 rfl rfl).trans es_push
theorem n144_273 : mx_ins 144 273 = some (.iastore, 1) := mx_ins_of mi144 dX20_init_273 rfl
theorem u144_273 : ev d 144 273 lo st h = evI d 144 273 274 lo st h .iastore := ev_u n144_273 rfl
theorem n144_274 : mx_ins 144 274 = some (.dup, 1) := mx_ins_of mi144 dX20_init_274 rfl
theorem u144_274 : ev d 144 274 lo st h = evI d 144 274 275 lo st h .dup := ev_u n144_274 rfl
theorem n144_275 : mx_ins 144 275 = some ((.bipush 14), 2) := mx_ins_of mi144 dX20_init_275 rfl
theorem u144_275 : ev d 144 275 lo st h = ev d 144 277 lo (.int 14 :: st) h := (ev_s (f := mx_push (.int 14)) n144_275 rfl rfl).trans es_push
theorem n144_277 : mx_ins 144 277 = some ((.iconst 5), 1) := mx_ins_of mi144 dX20_init_277 rfl
theorem u144_277 : ev d 144 277 lo st h = ev d 144 278 lo (.int 5 :: st) h := (ev_s (f := mx_push (.int 5)) n144_277 rfl rfl).trans es_push
theorem n144_278 : mx_ins 144 278 = some (.iastore, 1) := mx_ins_of mi144 dX20_init_278 rfl
theorem u144_278 : ev d 144 278 lo st h = evI d 144 278 279 lo st h .iastore := ev_u n144_278 rfl
theorem n144_279 : mx_ins 144 279 = some (.dup, 1) := mx_ins_of mi144 dX20_init_279 rfl
theorem u144_279 : ev d 144 279 lo st h = evI d 144 279 280 lo st h .dup := ev_u n144_279 rfl
theorem n144_280 : mx_ins 144 280 = some ((.bipush 15), 2) := mx_ins_of mi144 dX20_init_280 rfl
theorem u144_280 : ev d 144 280 lo st h = ev d 144 282 lo (.int 15 :: st) h := (ev_s (f := mx_push (.int 15)) n144_280 rfl rfl).trans es_push
theorem n144_282 : mx_ins 144 282 = some ((.iconst 5), 1) := mx_ins_of mi144 dX20_init_282 rfl
theorem u144_282 : ev d 144 282 lo st h = ev d 144 283 lo (.int 5 :: st) h := (ev_s (f := mx_push (.int 5)) n144_282 rfl rfl).trans es_push
theorem n144_283 : mx_ins 144 283 = some (.iastore, 1) := mx_ins_of mi144 dX20_init_283 rfl
theorem u144_283 : ev d 144 283 lo st h = evI d 144 283 284 lo st h .iastore := ev_u n144_283 rfl
theorem n144_284 : mx_ins 144 284 = some (.dup, 1) := mx_ins_of mi144 dX20_init_284 rfl
theorem u144_284 : ev d 144 284 lo st h = evI d 144 284 285 lo st h .dup := ev_u n144_284 rfl
theorem n144_285 : mx_ins 144 285 = some ((.bipush 16), 2) := mx_ins_of mi144 dX20_init_285 rfl
theorem u144_285 : ev d 144 285 lo st h = ev d 144 287 lo (.int 16 :: st) h := (ev_s (f := mx_push (.int 16)) n144_285 rfl rfl).trans es_push
theorem n144_287 : mx_ins 144 287 = some ((.iconst 5), 1) := mx_ins_of mi144 dX20_init_287 rfl
theorem u144_287 : ev d 144 287 lo st h = ev d 144 288 lo (.int 5 :: st) h := (ev_s (f := mx_push (.int 5)) n144_287 rfl rfl).trans es_push
theorem n144_288 : mx_ins 144 288 = some (.iastore, 1) := mx_ins_of mi144 dX20_init_288 rfl
theorem u144_288 : ev d 144 288 lo st h = evI d 144 288 289 lo st h .iastore := ev_u n144_288 rfl
theorem n144_289 : mx_ins 144 289 = some (.dup, 1) := mx_ins_of mi144 dX20_init_289 rfl
theorem u144_289 : ev d 144 289 lo st h = evI d 144 289 290 lo st h .dup := ev_u n144_289 rfl
theorem n144_290 : mx_ins 144 290 = some ((.bipush 17), 2) := mx_ins_of mi144 dX20_init_290 rfl
theorem u144_290 : ev d 144 290 lo st h = ev d 144 292 lo (.int 17 :: st) h := (ev_s (f := mx_push (.int 17)) n144_290 rfl rfl).trans es_push
theorem n144_292 : mx_ins 144 292 = some ((.iconst 5), 1) := mx_ins_of mi144 dX20_init_292 rfl
theorem u144_292 : ev d 144 292 lo st h = ev d 144 293 lo (.int 5 :: st) h := (ev_s (f := mx_push (.int 5)) n144_292 rfl rfl).trans es_push
theorem n144_293 : mx_ins 144 293 = some (.iastore, 1) := mx_ins_of mi144 dX20_init_293 rfl
theorem u144_293 : ev d 144 293 lo st h = evI d 144 293 294 lo st h .iastore := ev_u n144_293 rfl
theorem n144_294 : mx_ins 144 294 = some (.dup, 1) := mx_ins_of mi144 dX20_init_294 rfl
theorem u144_294 : ev d 144 294 lo st h = evI d 144 294 295 lo st h .dup := ev_u n144_294 rfl
theorem n144_295 : mx_ins 144 295 = some ((.bipush 18), 2) := mx_ins_of mi144 dX20_init_295 rfl
theorem u144_295 : ev d 144 295 lo st h = ev d 144 297 lo (.int 18 :: st) h := (ev_s (f := mx_push (.int 18)) n144_295 rfl rfl).trans es_push
theorem n144_297 : mx_ins 144 297 = some ((.iconst 5), 1) := mx_ins_of mi144 dX20_init_297 rfl
theorem u144_297 : ev d 144 297 lo st h = ev d 144 298 lo (.int 5 :: st) h := (ev_s (f := mx_push (.int 5)) n144_297 rfl rfl).trans es_push
theorem n144_298 : mx_ins 144 298 = some (.iastore, 1) := mx_ins_of mi144 dX20_init_298 rfl
theorem u144_298 : ev d 144 298 lo st h = evI d 144 298 299 lo st h .iastore := ev_u n144_298 rfl
theorem n144_299 : mx_ins 144 299 = some (.dup, 1) := mx_ins_of mi144 dX20_init_299 rfl
theorem u144_299 : ev d 144 299 lo st h = evI d 144 299 300 lo st h .dup := ev_u n144_299 rfl
theorem n144_300 : mx_ins 144 300 = some ((.bipush 19), 2) := mx_ins_of mi144 dX20_init_300 rfl
theorem u144_300 : ev d 144 300 lo st h = ev d 144 302 lo (.int 19 :: st) h := (ev_s (f := mx_push (.int 19)) n144_300 rfl rfl).trans es_push
theorem n144_302 : mx_ins 144 302 = some ((.iconst 5), 1) := mx_ins_of mi144 dX20_init_302 rfl
theorem u144_302 : ev d 144 302 lo st h = ev d 144 303 lo (.int 5 :: st) h := (ev_s (f := mx_push (.int 5)) n144_302 rfl rfl).trans es_push
theorem n144_303 : mx_ins 144 303 = some (.iastore, 1) := mx_ins_of mi144 dX20_init_303 rfl
theorem u144_303 : ev d 144 303 lo st h = evI d 144 303 304 lo st h .iastore := ev_u n144_303 rfl
theorem n144_304 : mx_ins 144 304 = some (.dup, 1) := mx_ins_of mi144 dX20_init_304 rfl
theorem u144_304 : ev d 144 304 lo st h = evI d 144 304 305 lo st h .dup := ev_u n144_304 rfl
theorem n144_305 : mx_ins 144 305 = some ((.bipush 20), 2) := mx_ins_of mi144 dX20_init_305 rfl
theorem u144_305 : ev d 144 305 lo st h = ev d 144 307 lo (.int 20 :: st) h := (ev_s (f := mx_push (.int 20)) n144_305 rfl rfl).trans es_push
theorem n144_307 : mx_ins 144 307 = some ((.iconst 5), 1) := mx_ins_of mi144 dX20_init_307 rfl
theorem u144_307 : ev d 144 307 lo st h = ev d 144 308 lo (.int 5 :: st) h := (ev_s (f := mx_push (.int 5)) n144_307 rfl rfl).trans es_push
theorem n144_308 : mx_ins 144 308 = some (.iastore, 1) := mx_ins_of mi144 dX20_init_308 rfl
theorem u144_308 : ev d 144 308 lo st h = evI d 144 308 309 lo st h .iastore := ev_u n144_308 rfl
theorem n144_309 : mx_ins 144 309 = some (.dup, 1) := mx_ins_of mi144 dX20_init_309 rfl
theorem u144_309 : ev d 144 309 lo st h = evI d 144 309 310 lo st h .dup := ev_u n144_309 rfl
theorem n144_310 : mx_ins 144 310 = some ((.bipush 21), 2) := mx_ins_of mi144 dX20_init_310 rfl
theorem u144_310 : ev d 144 310 lo st h = ev d 144 312 lo (.int 21 :: st) h := (ev_s (f := mx_push (.int 21)) n144_310 rfl rfl).trans es_push
theorem n144_312 : mx_ins 144 312 = some ((.iconst 5), 1) := mx_ins_of mi144 dX20_init_312 rfl
theorem u144_312 : ev d 144 312 lo st h = ev d 144 313 lo (.int 5 :: st) h := (ev_s (f := mx_push (.int 5)) n144_312 rfl rfl).trans es_push
theorem n144_313 : mx_ins 144 313 = some (.iastore, 1) := mx_ins_of mi144 dX20_init_313 rfl
theorem u144_313 : ev d 144 313 lo st h = evI d 144 313 314 lo st h .iastore := ev_u n144_313 rfl
theorem n144_314 : mx_ins 144 314 = some (.dup, 1) := mx_ins_of mi144 dX20_init_314 rfl
theorem u144_314 : ev d 144 314 lo st h = evI d 144 314 315 lo st h .dup := ev_u n144_314 rfl
theorem n144_315 : mx_ins 144 315 = some ((.bipush 22), 2) := mx_ins_of mi144 dX20_init_315 rfl
theorem u144_315 : ev d 144 315 lo st h = ev d 144 317 lo (.int 22 :: st) h := (ev_s (f := mx_push (.int 22)) n144_315 rfl rfl).trans es_push
theorem n144_317 : mx_ins 144 317 = some ((.iconst 5), 1) := mx_ins_of mi144 dX20_init_317 rfl
theorem u144_317 : ev d 144 317 lo st h = ev d 144 318 lo (.int 5 :: st) h := (ev_s (f := mx_push (.int 5)) n144_317 rfl rfl).trans es_push
theorem n144_318 : mx_ins 144 318 = some (.iastore, 1) := mx_ins_of mi144 dX20_init_318 rfl
theorem u144_318 : ev d 144 318 lo st h = evI d 144 318 319 lo st h .iastore := ev_u n144_318 rfl
theorem n144_319 : mx_ins 144 319 = some (.dup, 1) := mx_ins_of mi144 dX20_init_319 rfl
theorem u144_319 : ev d 144 319 lo st h = evI d 144 319 320 lo st h .dup := ev_u n144_319 rfl
theorem n144_320 : mx_ins 144 320 = some ((.bipush 23), 2) := mx_ins_of mi144 dX20_init_320 rfl
theorem u144_320 : ev d 144 320 lo st h = ev d 144 322 lo (.int 23 :: st) h := (ev_s (f := mx_push (.int 23)) n144_320 rfl rfl).trans es_push
theorem n144_322 : mx_ins 144 322 = some ((.iconst 5), 1) := mx_ins_of mi144 dX20_init_322 rfl
theorem u144_322 : ev d 144 322 lo st h = ev d 144 323 lo (.int 5 :: st) h := (ev_s (f := mx_push (.int 5)) n144_322 rfl rfl).trans es_push
theorem n144_323 : mx_ins 144 323 = some (.iastore, 1) := mx_ins_of mi144 dX20_init_323 rfl
theorem u144_323 : ev d 144 323 lo st h = evI d 144 323 324 lo st h .iastore := ev_u n144_323 rfl
theorem n144_324 : mx_ins 144 324 = some ((.putfield 19), 3) := mx_ins_of mi144 dX20_init_324 rfl
theorem u144_324 : ev d 144 324 lo st h = evS (mx_pf 20 19 true) d 144 327 lo st h := ev_s n144_324 rfl rfl
theorem n144_327 : mx_ins 144 327 = some ((.aload_n 0), 1) := mx_ins_of mi144 dX20_init_327 rfl
theorem u144_327 : ev d 144 327 lo st h = evS (mx_ldA 0) d 144 328 lo st h := ev_s n144_327 rfl rfl
theorem n144_328 : mx_ins 144 328 = some ((.bipush 24), 2) := mx_ins_of mi144 dX20_init_328 rfl
theorem u144_328 : ev d 144 328 lo st h = ev d 144 330 lo (.int 24 :: st) h := (ev_s (f := mx_push (.int 24)) n144_328 rfl rfl).trans es_push
theorem n144_330 : mx_ins 144 330 = some ((.newarray .int), 2) := mx_ins_of mi144 dX20_init_330 rfl
theorem u144_330 : ev d 144 330 lo st h = evI d 144 330 332 lo st h (.newarray .int) := ev_u n144_330 rfl
theorem n144_332 : mx_ins 144 332 = some (.dup, 1) := mx_ins_of mi144 dX20_init_332 rfl
theorem u144_332 : ev d 144 332 lo st h = evI d 144 332 333 lo st h .dup := ev_u n144_332 rfl
theorem n144_333 : mx_ins 144 333 = some ((.iconst 0), 1) := mx_ins_of mi144 dX20_init_333 rfl
theorem u144_333 : ev d 144 333 lo st h = ev d 144 334 lo (.int 0 :: st) h := (ev_s (f := mx_push (.int 0)) n144_333 rfl rfl).trans es_push
theorem n144_334 : mx_ins 144 334 = some ((.iconst 5), 1) := mx_ins_of mi144 dX20_init_334 rfl
theorem u144_334 : ev d 144 334 lo st h = ev d 144 335 lo (.int 5 :: st) h := (ev_s (f := mx_push (.int 5)) n144_334 rfl rfl).trans es_push
theorem n144_335 : mx_ins 144 335 = some (.iastore, 1) := mx_ins_of mi144 dX20_init_335 rfl
theorem u144_335 : ev d 144 335 lo st h = evI d 144 335 336 lo st h .iastore := ev_u n144_335 rfl
theorem n144_336 : mx_ins 144 336 = some (.dup, 1) := mx_ins_of mi144 dX20_init_336 rfl
theorem u144_336 : ev d 144 336 lo st h = evI d 144 336 337 lo st h .dup := ev_u n144_336 rfl
theorem n144_337 : mx_ins 144 337 = some ((.iconst 1), 1) := mx_ins_of mi144 dX20_init_337 rfl
theorem u144_337 : ev d 144 337 lo st h = ev d 144 338 lo (.int 1 :: st) h := (ev_s (f := mx_push (.int 1)) n144_337 rfl rfl).trans es_push
theorem n144_338 : mx_ins 144 338 = some ((.iconst 5), 1) := mx_ins_of mi144 dX20_init_338 rfl
theorem u144_338 : ev d 144 338 lo st h = ev d 144 339 lo (.int 5 :: st) h := (ev_s (f := mx_push (.int 5)) n144_338 rfl rfl).trans es_push
theorem n144_339 : mx_ins 144 339 = some (.iastore, 1) := mx_ins_of mi144 dX20_init_339 rfl
theorem u144_339 : ev d 144 339 lo st h = evI d 144 339 340 lo st h .iastore := ev_u n144_339 rfl
theorem n144_340 : mx_ins 144 340 = some (.dup, 1) := mx_ins_of mi144 dX20_init_340 rfl
theorem u144_340 : ev d 144 340 lo st h = evI d 144 340 341 lo st h .dup := ev_u n144_340 rfl
theorem n144_341 : mx_ins 144 341 = some ((.iconst 2), 1) := mx_ins_of mi144 dX20_init_341 rfl
theorem u144_341 : ev d 144 341 lo st h = ev d 144 342 lo (.int 2 :: st) h := (ev_s (f := mx_push (.int 2)) n144_341 rfl rfl).trans es_push
theorem n144_342 : mx_ins 144 342 = some ((.iconst 5), 1) := mx_ins_of mi144 dX20_init_342 rfl
theorem u144_342 : ev d 144 342 lo st h = ev d 144 343 lo (.int 5 :: st) h := (ev_s (f := mx_push (.int 5)) n144_342 rfl rfl).trans es_push
theorem n144_343 : mx_ins 144 343 = some (.iastore, 1) := mx_ins_of mi144 dX20_init_343 rfl
theorem u144_343 : ev d 144 343 lo st h = evI d 144 343 344 lo st h .iastore := ev_u n144_343 rfl
theorem n144_344 : mx_ins 144 344 = some (.dup, 1) := mx_ins_of mi144 dX20_init_344 rfl
theorem u144_344 : ev d 144 344 lo st h = evI d 144 344 345 lo st h .dup := ev_u n144_344 rfl
theorem n144_345 : mx_ins 144 345 = some ((.iconst 3), 1) := mx_ins_of mi144 dX20_init_345 rfl
theorem u144_345 : ev d 144 345 lo st h = ev d 144 346 lo (.int 3 :: st) h := (ev_s (f := mx_push (.int 3)) n144_345 rfl rfl).trans es_push
theorem n144_346 : mx_ins 144 346 = some ((.iconst 5), 1) := mx_ins_of mi144 dX20_init_346 rfl
theorem u144_346 : ev d 144 346 lo st h = ev d 144 347 lo (.int 5 :: st) h := (ev_s (f := mx_push (.int 5)) n144_346 rfl rfl).trans es_push
theorem n144_347 : mx_ins 144 347 = some (.iastore, 1) := mx_ins_of mi144 dX20_init_347 rfl
theorem u144_347 : ev d 144 347 lo st h = evI d 144 347 348 lo st h .iastore := ev_u n144_347 rfl
theorem n144_348 : mx_ins 144 348 = some (.dup, 1) := mx_ins_of mi144 dX20_init_348 rfl
theorem u144_348 : ev d 144 348 lo st h = evI d 144 348 349 lo st h .dup := ev_u n144_348 rfl
theorem n144_349 : mx_ins 144 349 = some ((.iconst 4), 1) := mx_ins_of mi144 dX20_init_349 rfl
theorem u144_349 : ev d 144 349 lo st h = ev d 144 350 lo (.int 4 :: st) h := (ev_s (f := mx_push (.int 4)) n144_349 rfl rfl).trans es_push
theorem n144_350 : mx_ins 144 350 = some ((.iconst 5), 1) := mx_ins_of mi144 dX20_init_350 rfl
theorem u144_350 : ev d 144 350 lo st h = ev d 144 351 lo (.int 5 :: st) h := (ev_s (f := mx_push (.int 5)) n144_350 rfl rfl).trans es_push
theorem n144_351 : mx_ins 144 351 = some (.iastore, 1) := mx_ins_of mi144 dX20_init_351 rfl
theorem u144_351 : ev d 144 351 lo st h = evI d 144 351 352 lo st h .iastore := ev_u n144_351 rfl
theorem n144_352 : mx_ins 144 352 = some (.dup, 1) := mx_ins_of mi144 dX20_init_352 rfl
theorem u144_352 : ev d 144 352 lo st h = evI d 144 352 353 lo st h .dup := ev_u n144_352 rfl
theorem n144_353 : mx_ins 144 353 = some ((.iconst 5), 1) := mx_ins_of mi144 dX20_init_353 rfl
theorem u144_353 : ev d 144 353 lo st h = ev d 144 354 lo (.int 5 :: st) h := (ev_s (f := mx_push (.int 5)) n144_353 rfl rfl).trans es_push
theorem n144_354 : mx_ins 144 354 = some ((.iconst 5), 1) := mx_ins_of mi144 dX20_init_354 rfl
theorem u144_354 : ev d 144 354 lo st h = ev d 144 355 lo (.int 5 :: st) h := (ev_s (f := mx_push (.int 5)) n144_354 rfl rfl).trans es_push
theorem n144_355 : mx_ins 144 355 = some (.iastore, 1) := mx_ins_of mi144 dX20_init_355 rfl
theorem u144_355 : ev d 144 355 lo st h = evI d 144 355 356 lo st h .iastore := ev_u n144_355 rfl
theorem n144_356 : mx_ins 144 356 = some (.dup, 1) := mx_ins_of mi144 dX20_init_356 rfl
theorem u144_356 : ev d 144 356 lo st h = evI d 144 356 357 lo st h .dup := ev_u n144_356 rfl
theorem n144_357 : mx_ins 144 357 = some ((.bipush 6), 2) := mx_ins_of mi144 dX20_init_357 rfl
theorem u144_357 : ev d 144 357 lo st h = ev d 144 359 lo (.int 6 :: st) h := (ev_s (f := mx_push (.int 6)) n144_357 rfl rfl).trans es_push
theorem n144_359 : mx_ins 144 359 = some ((.iconst 5), 1) := mx_ins_of mi144 dX20_init_359 rfl
theorem u144_359 : ev d 144 359 lo st h = ev d 144 360 lo (.int 5 :: st) h := (ev_s (f := mx_push (.int 5)) n144_359 rfl rfl).trans es_push
theorem n144_360 : mx_ins 144 360 = some (.iastore, 1) := mx_ins_of mi144 dX20_init_360 rfl
theorem u144_360 : ev d 144 360 lo st h = evI d 144 360 361 lo st h .iastore := ev_u n144_360 rfl
theorem n144_361 : mx_ins 144 361 = some (.dup, 1) := mx_ins_of mi144 dX20_init_361 rfl
theorem u144_361 : ev d 144 361 lo st h = evI d 144 361 362 lo st h .dup := ev_u n144_361 rfl
theorem n144_362 : mx_ins 144 362 = some ((.bipush 7), 2) := mx_ins_of mi144 dX20_init_362 rfl
theorem u144_362 : ev d 144 362 lo st h = ev d 144 364 lo (.int 7 :: st) h := (ev_s (f := mx_push (.int 7)) n144_362 rfl rfl).trans es_push
theorem n144_364 : mx_ins 144 364 = some ((.iconst 5), 1) := mx_ins_of mi144 dX20_init_364 rfl
theorem u144_364 : ev d 144 364 lo st h = ev d 144 365 lo (.int 5 :: st) h := (ev_s (f := mx_push (.int 5)) n144_364 rfl rfl).trans es_push
theorem n144_365 : mx_ins 144 365 = some (.iastore, 1) := mx_ins_of mi144 dX20_init_365 rfl
theorem u144_365 : ev d 144 365 lo st h = evI d 144 365 366 lo st h .iastore := ev_u n144_365 rfl
theorem n144_366 : mx_ins 144 366 = some (.dup, 1) := mx_ins_of mi144 dX20_init_366 rfl
theorem u144_366 : ev d 144 366 lo st h = evI d 144 366 367 lo st h .dup := ev_u n144_366 rfl
theorem n144_367 : mx_ins 144 367 = some ((.bipush 8), 2) := mx_ins_of mi144 dX20_init_367 rfl
theorem u144_367 : ev d 144 367 lo st h = ev d 144 369 lo (.int 8 :: st) h := (ev_s (f := mx_push (.int 8)) n144_367 rfl rfl).trans es_push
theorem n144_369 : mx_ins 144 369 = some ((.iconst 5), 1) := mx_ins_of mi144 dX20_init_369 rfl
theorem u144_369 : ev d 144 369 lo st h = ev d 144 370 lo (.int 5 :: st) h := (ev_s (f := mx_push (.int 5)) n144_369 rfl rfl).trans es_push
theorem n144_370 : mx_ins 144 370 = some (.iastore, 1) := mx_ins_of mi144 dX20_init_370 rfl
theorem u144_370 : ev d 144 370 lo st h = evI d 144 370 371 lo st h .iastore := ev_u n144_370 rfl
theorem n144_371 : mx_ins 144 371 = some (.dup, 1) := mx_ins_of mi144 dX20_init_371 rfl
theorem u144_371 : ev d 144 371 lo st h = evI d 144 371 372 lo st h .dup := ev_u n144_371 rfl
theorem n144_372 : mx_ins 144 372 = some ((.bipush 9), 2) := mx_ins_of mi144 dX20_init_372 rfl
theorem u144_372 : ev d 144 372 lo st h = ev d 144 374 lo (.int 9 :: st) h := (ev_s (f := mx_push (.int 9)) n144_372 rfl rfl).trans es_push
theorem n144_374 : mx_ins 144 374 = some ((.iconst 5), 1) := mx_ins_of mi144 dX20_init_374 rfl
theorem u144_374 : ev d 144 374 lo st h = ev d 144 375 lo (.int 5 :: st) h := (ev_s (f := mx_push (.int 5)) n144_374 rfl rfl).trans es_push
theorem n144_375 : mx_ins 144 375 = some (.iastore, 1) := mx_ins_of mi144 dX20_init_375 rfl
theorem u144_375 : ev d 144 375 lo st h = evI d 144 375 376 lo st h .iastore := ev_u n144_375 rfl
theorem n144_376 : mx_ins 144 376 = some (.dup, 1) := mx_ins_of mi144 dX20_init_376 rfl
theorem u144_376 : ev d 144 376 lo st h = evI d 144 376 377 lo st h .dup := ev_u n144_376 rfl
theorem n144_377 : mx_ins 144 377 = some ((.bipush 10), 2) := mx_ins_of mi144 dX20_init_377 rfl
theorem u144_377 : ev d 144 377 lo st h = ev d 144 379 lo (.int 10 :: st) h := (ev_s (f := mx_push (.int 10)) n144_377 rfl rfl).trans es_push
theorem n144_379 : mx_ins 144 379 = some ((.iconst 5), 1) := mx_ins_of mi144 dX20_init_379 rfl
theorem u144_379 : ev d 144 379 lo st h = ev d 144 380 lo (.int 5 :: st) h := (ev_s (f := mx_push (.int 5)) n144_379 rfl rfl).trans es_push
theorem n144_380 : mx_ins 144 380 = some (.iastore, 1) := mx_ins_of mi144 dX20_init_380 rfl
theorem u144_380 : ev d 144 380 lo st h = evI d 144 380 381 lo st h .iastore := ev_u n144_380 rfl
theorem n144_381 : mx_ins 144 381 = some (.dup, 1) := mx_ins_of mi144 dX20_init_381 rfl
theorem u144_381 : ev d 144 381 lo st h = evI d 144 381 382 lo st h .dup := ev_u n144_381 rfl
theorem n144_382 : mx_ins 144 382 = some ((.bipush 11), 2) := mx_ins_of mi144 dX20_init_382 rfl
theorem u144_382 : ev d 144 382 lo st h = ev d 144 384 lo (.int 11 :: st) h := (ev_s (f := mx_push (.int 11)) n144_382 rfl rfl).trans es_push
theorem n144_384 : mx_ins 144 384 = some ((.iconst 5), 1) := mx_ins_of mi144 dX20_init_384 rfl
theorem u144_384 : ev d 144 384 lo st h = ev d 144 385 lo (.int 5 :: st) h := (ev_s (f := mx_push (.int 5)) n144_384 rfl rfl).trans es_push
theorem n144_385 : mx_ins 144 385 = some (.iastore, 1) := mx_ins_of mi144 dX20_init_385 rfl
theorem u144_385 : ev d 144 385 lo st h = evI d 144 385 386 lo st h .iastore := ev_u n144_385 rfl
theorem n144_386 : mx_ins 144 386 = some (.dup, 1) := mx_ins_of mi144 dX20_init_386 rfl
theorem u144_386 : ev d 144 386 lo st h = evI d 144 386 387 lo st h .dup := ev_u n144_386 rfl
theorem n144_387 : mx_ins 144 387 = some ((.bipush 12), 2) := mx_ins_of mi144 dX20_init_387 rfl
theorem u144_387 : ev d 144 387 lo st h = ev d 144 389 lo (.int 12 :: st) h := (ev_s (f := mx_push (.int 12)) n144_387 rfl rfl).trans es_push
theorem n144_389 : mx_ins 144 389 = some ((.iconst 5), 1) := mx_ins_of mi144 dX20_init_389 rfl
theorem u144_389 : ev d 144 389 lo st h = ev d 144 390 lo (.int 5 :: st) h := (ev_s (f := mx_push (.int 5)) n144_389 rfl rfl).trans es_push
theorem n144_390 : mx_ins 144 390 = some (.iastore, 1) := mx_ins_of mi144 dX20_init_390 rfl
theorem u144_390 : ev d 144 390 lo st h = evI d 144 390 391 lo st h .iastore := ev_u n144_390 rfl
theorem n144_391 : mx_ins 144 391 = some (.dup, 1) := mx_ins_of mi144 dX20_init_391 rfl
theorem u144_391 : ev d 144 391 lo st h = evI d 144 391 392 lo st h .dup := ev_u n144_391 rfl
theorem n144_392 : mx_ins 144 392 = some ((.bipush 13), 2) := mx_ins_of mi144 dX20_init_392 rfl
theorem u144_392 : ev d 144 392 lo st h = ev d 144 394 lo (.int 13 :: st) h := (ev_s (f := mx_push (.int 13)) n144_392 rfl rfl).trans es_push
theorem n144_394 : mx_ins 144 394 = some ((.iconst 5), 1) := mx_ins_of mi144 dX20_init_394 rfl
theorem u144_394 : ev d 144 394 lo st h = ev d 144 395 lo (.int 5 :: st) h := (ev_s (f := mx_push (.int 5)) n144_394 rfl rfl).trans es_push
theorem n144_395 : mx_ins 144 395 = some (.iastore, 1) := mx_ins_of mi144 dX20_init_395 rfl
theorem u144_395 : ev d 144 395 lo st h = evI d 144 395 396 lo st h .iastore := ev_u n144_395 rfl
theorem n144_396 : mx_ins 144 396 = some (.dup, 1) := mx_ins_of mi144 dX20_init_396 rfl
theorem u144_396 : ev d 144 396 lo st h = evI d 144 396 397 lo st h .dup := ev_u n144_396 rfl
theorem n144_397 : mx_ins 144 397 = some ((.bipush 14), 2) := mx_ins_of mi144 dX20_init_397 rfl
theorem u144_397 : ev d 144 397 lo st h = ev d 144 399 lo (.int 14 :: st) h := (ev_s (f := mx_push (.int 14)) n144_397 rfl rfl).trans es_push
theorem n144_399 : mx_ins 144 399 = some ((.iconst 5), 1) := mx_ins_of mi144 dX20_init_399 rfl
theorem u144_399 : ev d 144 399 lo st h = ev d 144 400 lo (.int 5 :: st) h := (ev_s (f := mx_push (.int 5)) n144_399 rfl rfl).trans es_push
theorem n144_400 : mx_ins 144 400 = some (.iastore, 1) := mx_ins_of mi144 dX20_init_400 rfl
theorem u144_400 : ev d 144 400 lo st h = evI d 144 400 401 lo st h .iastore := ev_u n144_400 rfl
theorem n144_401 : mx_ins 144 401 = some (.dup, 1) := mx_ins_of mi144 dX20_init_401 rfl
theorem u144_401 : ev d 144 401 lo st h = evI d 144 401 402 lo st h .dup := ev_u n144_401 rfl
theorem n144_402 : mx_ins 144 402 = some ((.bipush 15), 2) := mx_ins_of mi144 dX20_init_402 rfl
theorem u144_402 : ev d 144 402 lo st h = ev d 144 404 lo (.int 15 :: st) h := (ev_s (f := mx_push (.int 15)) n144_402 rfl rfl).trans es_push
theorem n144_404 : mx_ins 144 404 = some ((.iconst 5), 1) := mx_ins_of mi144 dX20_init_404 rfl
theorem u144_404 : ev d 144 404 lo st h = ev d 144 405 lo (.int 5 :: st) h := (ev_s (f := mx_push (.int 5)) n144_404 rfl rfl).trans es_push
theorem n144_405 : mx_ins 144 405 = some (.iastore, 1) := mx_ins_of mi144 dX20_init_405 rfl
theorem u144_405 : ev d 144 405 lo st h = evI d 144 405 406 lo st h .iastore := ev_u n144_405 rfl
theorem n144_406 : mx_ins 144 406 = some (.dup, 1) := mx_ins_of mi144 dX20_init_406 rfl
theorem u144_406 : ev d 144 406 lo st h = evI d 144 406 407 lo st h .dup := ev_u n144_406 rfl
theorem n144_407 : mx_ins 144 407 = some ((.bipush 16), 2) := mx_ins_of mi144 dX20_init_407 rfl
theorem u144_407 : ev d 144 407 lo st h = ev d 144 409 lo (.int 16 :: st) h := (ev_s (f := mx_push (.int 16)) n144_407 rfl rfl).trans es_push
theorem n144_409 : mx_ins 144 409 = some ((.iconst 5), 1) := mx_ins_of mi144 dX20_init_409 rfl
theorem u144_409 : ev d 144 409 lo st h = ev d 144 410 lo (.int 5 :: st) h := (ev_s (f := mx_push (.int 5)) n144_409 rfl rfl).trans es_push
theorem n144_410 : mx_ins 144 410 = some (.iastore, 1) := mx_ins_of mi144 dX20_init_410 rfl
theorem u144_410 : ev d 144 410 lo st h = evI d 144 410 411 lo st h .iastore := ev_u n144_410 rfl
theorem n144_411 : mx_ins 144 411 = some (.dup, 1) := mx_ins_of mi144 dX20_init_411 rfl
theorem u144_411 : ev d 144 411 lo st h = evI d 144 411 412 lo st h .dup := ev_u n144_411 rfl
theorem n144_412 : mx_ins 144 412 = some ((.bipush 17), 2) := mx_ins_of mi144 dX20_init_412 rfl
theorem u144_412 : ev d 144 412 lo st h = ev d 144 414 lo (.int 17 :: st) h := (ev_s (f := mx_push (.int 17)) n144_412 rfl rfl).trans es_push
theorem n144_414 : mx_ins 144 414 = some ((.iconst 5), 1) := mx_ins_of mi144 dX20_init_414 rfl
theorem u144_414 : ev d 144 414 lo st h = ev d 144 415 lo (.int 5 :: st) h := (ev_s (f := mx_push (.int 5)) n144_414 rfl rfl).trans es_push
theorem n144_415 : mx_ins 144 415 = some (.iastore, 1) := mx_ins_of mi144 dX20_init_415 rfl
theorem u144_415 : ev d 144 415 lo st h = evI d 144 415 416 lo st h .iastore := ev_u n144_415 rfl
theorem n144_416 : mx_ins 144 416 = some (.dup, 1) := mx_ins_of mi144 dX20_init_416 rfl
theorem u144_416 : ev d 144 416 lo st h = evI d 144 416 417 lo st h .dup := ev_u n144_416 rfl
theorem n144_417 : mx_ins 144 417 = some ((.bipush 18), 2) := mx_ins_of mi144 dX20_init_417 rfl
theorem u144_417 : ev d 144 417 lo st h = ev d 144 419 lo (.int 18 :: st) h := (ev_s (f := mx_push (.int 18)) n144_417 rfl rfl).trans es_push
theorem n144_419 : mx_ins 144 419 = some ((.iconst 5), 1) := mx_ins_of mi144 dX20_init_419 rfl
theorem u144_419 : ev d 144 419 lo st h = ev d 144 420 lo (.int 5 :: st) h := (ev_s (f := mx_push (.int 5)) n144_419 rfl rfl).trans es_push
theorem n144_420 : mx_ins 144 420 = some (.iastore, 1) := mx_ins_of mi144 dX20_init_420 rfl
theorem u144_420 : ev d 144 420 lo st h = evI d 144 420 421 lo st h .iastore := ev_u n144_420 rfl
theorem n144_421 : mx_ins 144 421 = some (.dup, 1) := mx_ins_of mi144 dX20_init_421 rfl
theorem u144_421 : ev d 144 421 lo st h = evI d 144 421 422 lo st h .dup := ev_u n144_421 rfl
theorem n144_422 : mx_ins 144 422 = some ((.bipush 19), 2) := mx_ins_of mi144 dX20_init_422 rfl
theorem u144_422 : ev d 144 422 lo st h = ev d 144 424 lo (.int 19 :: st) h := (ev_s (f := mx_push (.int 19)) n144_422 rfl rfl).trans es_push
theorem n144_424 : mx_ins 144 424 = some ((.iconst 5), 1) := mx_ins_of mi144 dX20_init_424 rfl
theorem u144_424 : ev d 144 424 lo st h = ev d 144 425 lo (.int 5 :: st) h := (ev_s (f := mx_push (.int 5)) n144_424 rfl rfl).trans es_push
theorem n144_425 : mx_ins 144 425 = some (.iastore, 1) := mx_ins_of mi144 dX20_init_425 rfl
theorem u144_425 : ev d 144 425 lo st h = evI d 144 425 426 lo st h .iastore := ev_u n144_425 rfl
theorem n144_426 : mx_ins 144 426 = some (.dup, 1) := mx_ins_of mi144 dX20_init_426 rfl
theorem u144_426 : ev d 144 426 lo st h = evI d 144 426 427 lo st h .dup := ev_u n144_426 rfl
theorem n144_427 : mx_ins 144 427 = some ((.bipush 20), 2) := mx_ins_of mi144 dX20_init_427 rfl
theorem u144_427 : ev d 144 427 lo st h = ev d 144 429 lo (.int 20 :: st) h := (ev_s (f := mx_push (.int 20)) n144_427 rfl rfl).trans es_push
theorem n144_429 : mx_ins 144 429 = some ((.iconst 5), 1) := mx_ins_of mi144 dX20_init_429 rfl
theorem u144_429 : ev d 144 429 lo st h = ev d 144 430 lo (.int 5 :: st) h := (ev_s (f := mx_push (.int 5)) n144_429 rfl rfl).trans es_push
theorem n144_430 : mx_ins 144 430 = some (.iastore, 1) := mx_ins_of mi144 dX20_init_430 rfl
theorem u144_430 : ev d 144 430 lo st h = evI d 144 430 431 lo st h .iastore := ev_u n144_430 rfl
theorem n144_431 : mx_ins 144 431 = some (.dup, 1) := mx_ins_of mi144 dX20_init_431 rfl
theorem u144_431 : ev d 144 431 lo st h = evI d 144 431 432 lo st h .dup := ev_u n144_431 rfl
theorem n144_432 : mx_ins 144 432 = some ((.bipush 21), 2) := mx_ins_of mi144 dX20_init_432 rfl
theorem u144_432 : ev d 144 432 lo st h = ev d 144 434 lo (.int 21 :: st) h := (ev_s (f := mx_push (.int 21)) n144_432 rfl rfl).trans es_push
theorem n144_434 : mx_ins 144 434 = some ((.iconst 5), 1) := mx_ins_of mi144 dX20_init_434 rfl
theorem u144_434 : ev d 144 434 lo st h = ev d 144 435 lo (.int 5 :: st) h := (ev_s (f := mx_push (.int 5)) n144_434 rfl rfl).trans es_push
theorem n144_435 : mx_ins 144 435 = some (.iastore, 1) := mx_ins_of mi144 dX20_init_435 rfl
theorem u144_435 : ev d 144 435 lo st h = evI d 144 435 436 lo st h .iastore := ev_u n144_435 rfl
theorem n144_436 : mx_ins 144 436 = some (.dup, 1) := mx_ins_of mi144 dX20_init_436 rfl
theorem u144_436 : ev d 144 436 lo st h = evI d 144 436 437 lo st h .dup := ev_u n144_436 rfl
theorem n144_437 : mx_ins 144 437 = some ((.bipush 22), 2) := mx_ins_of mi144 dX20_init_437 rfl
theorem u144_437 : ev d 144 437 lo st h = ev d 144 439 lo (.int 22 :: st) h := (ev_s (f := mx_push (.int 22)) n144_437 rfl rfl).trans es_push
theorem n144_439 : mx_ins 144 439 = some ((.iconst 5), 1) := mx_ins_of mi144 dX20_init_439 rfl
theorem u144_439 : ev d 144 439 lo st h = ev d 144 440 lo (.int 5 :: st) h := (ev_s (f := mx_push (.int 5)) n144_439 rfl rfl).trans es_push
theorem n144_440 : mx_ins 144 440 = some (.iastore, 1) := mx_ins_of mi144 dX20_init_440 rfl
theorem u144_440 : ev d 144 440 lo st h = evI d 144 440 441 lo st h .iastore := ev_u n144_440 rfl
theorem n144_441 : mx_ins 144 441 = some (.dup, 1) := mx_ins_of mi144 dX20_init_441 rfl
theorem u144_441 : ev d 144 441 lo st h = evI d 144 441 442 lo st h .dup := ev_u n144_441 rfl
theorem n144_442 : mx_ins 144 442 = some ((.bipush 23), 2) := mx_ins_of mi144 dX20_init_442 rfl
theorem u144_442 : ev d 144 442 lo st h = ev d 144 444 lo (.int 23 :: st) h := (ev_s (f := mx_push (.int 23)) n144_442 rfl rfl).trans es_push
theorem n144_444 : mx_ins 144 444 = some ((.iconst 5), 1) := mx_ins_of mi144 dX20_init_444 rfl
theorem u144_444 : ev d 144 444 lo st h = ev d 144 445 lo (.int 5 :: st) h := (ev_s (f := mx_push (.int 5)) n144_444 rfl rfl).trans es_push
theorem n144_445 : mx_ins 144 445 = some (.iastore, 1) := mx_ins_of mi144 dX20_init_445 rfl
theorem u144_445 : ev d 144 445 lo st h = evI d 144 445 446 lo st h .iastore := ev_u n144_445 rfl
theorem n144_446 : mx_ins 144 446 = some ((.putfield 22), 3) := mx_ins_of mi144 dX20_init_446 rfl
theorem u144_446 : ev d 144 446 lo st h = evS (mx_pf 20 22 true) d 144 449 lo st h := ev_s n144_446 rfl rfl
theorem n144_449 : mx_ins 144 449 = some ((.aload_n 0), 1) := mx_ins_of mi144 dX20_init_449 rfl
theorem u144_449 : ev d 144 449 lo st h = evS (mx_ldA 0) d 144 450 lo st h := ev_s n144_449 rfl rfl
theorem n144_450 : mx_ins 144 450 = some ((.iconst 5), 1) := mx_ins_of mi144 dX20_init_450 rfl
theorem u144_450 : ev d 144 450 lo st h = ev d 144 451 lo (.int 5 :: st) h := (ev_s (f := mx_push (.int 5)) n144_450 rfl rfl).trans es_push
theorem n144_451 : mx_ins 144 451 = some ((.newarray .int), 2) := mx_ins_of mi144 dX20_init_451 rfl
theorem u144_451 : ev d 144 451 lo st h = evI d 144 451 453 lo st h (.newarray .int) := ev_u n144_451 rfl
theorem n144_453 : mx_ins 144 453 = some (.dup, 1) := mx_ins_of mi144 dX20_init_453 rfl
theorem u144_453 : ev d 144 453 lo st h = evI d 144 453 454 lo st h .dup := ev_u n144_453 rfl
theorem n144_454 : mx_ins 144 454 = some ((.iconst 0), 1) := mx_ins_of mi144 dX20_init_454 rfl
theorem u144_454 : ev d 144 454 lo st h = ev d 144 455 lo (.int 0 :: st) h := (ev_s (f := mx_push (.int 0)) n144_454 rfl rfl).trans es_push
theorem n144_455 : mx_ins 144 455 = some ((.iconst 5), 1) := mx_ins_of mi144 dX20_init_455 rfl
theorem u144_455 : ev d 144 455 lo st h = ev d 144 456 lo (.int 5 :: st) h := (ev_s (f := mx_push (.int 5)) n144_455 rfl rfl).trans es_push
theorem n144_456 : mx_ins 144 456 = some (.iastore, 1) := mx_ins_of mi144 dX20_init_456 rfl
theorem u144_456 : ev d 144 456 lo st h = evI d 144 456 457 lo st h .iastore := ev_u n144_456 rfl
theorem n144_457 : mx_ins 144 457 = some (.dup, 1) := mx_ins_of mi144 dX20_init_457 rfl
theorem u144_457 : ev d 144 457 lo st h = evI d 144 457 458 lo st h .dup := ev_u n144_457 rfl
theorem n144_458 : mx_ins 144 458 = some ((.iconst 1), 1) := mx_ins_of mi144 dX20_init_458 rfl
theorem u144_458 : ev d 144 458 lo st h = ev d 144 459 lo (.int 1 :: st) h := (ev_s (f := mx_push (.int 1)) n144_458 rfl rfl).trans es_push
theorem n144_459 : mx_ins 144 459 = some ((.bipush 10), 2) := mx_ins_of mi144 dX20_init_459 rfl
theorem u144_459 : ev d 144 459 lo st h = ev d 144 461 lo (.int 10 :: st) h := (ev_s (f := mx_push (.int 10)) n144_459 rfl rfl).trans es_push
theorem n144_461 : mx_ins 144 461 = some (.iastore, 1) := mx_ins_of mi144 dX20_init_461 rfl
theorem u144_461 : ev d 144 461 lo st h = evI d 144 461 462 lo st h .iastore := ev_u n144_461 rfl
theorem n144_462 : mx_ins 144 462 = some (.dup, 1) := mx_ins_of mi144 dX20_init_462 rfl
theorem u144_462 : ev d 144 462 lo st h = evI d 144 462 463 lo st h .dup := ev_u n144_462 rfl
theorem n144_463 : mx_ins 144 463 = some ((.iconst 2), 1) := mx_ins_of mi144 dX20_init_463 rfl
theorem u144_463 : ev d 144 463 lo st h = ev d 144 464 lo (.int 2 :: st) h := (ev_s (f := mx_push (.int 2)) n144_463 rfl rfl).trans es_push
theorem n144_464 : mx_ins 144 464 = some ((.iconst 2), 1) := mx_ins_of mi144 dX20_init_464 rfl
theorem u144_464 : ev d 144 464 lo st h = ev d 144 465 lo (.int 2 :: st) h := (ev_s (f := mx_push (.int 2)) n144_464 rfl rfl).trans es_push
theorem n144_465 : mx_ins 144 465 = some (.iastore, 1) := mx_ins_of mi144 dX20_init_465 rfl
theorem u144_465 : ev d 144 465 lo st h = evI d 144 465 466 lo st h .iastore := ev_u n144_465 rfl
theorem n144_466 : mx_ins 144 466 = some (.dup, 1) := mx_ins_of mi144 dX20_init_466 rfl
theorem u144_466 : ev d 144 466 lo st h = evI d 144 466 467 lo st h .dup := ev_u n144_466 rfl
theorem n144_467 : mx_ins 144 467 = some ((.iconst 3), 1) := mx_ins_of mi144 dX20_init_467 rfl
theorem u144_467 : ev d 144 467 lo st h = ev d 144 468 lo (.int 3 :: st) h := (ev_s (f := mx_push (.int 3)) n144_467 rfl rfl).trans es_push
theorem n144_468 : mx_ins 144 468 = some ((.bipush 8), 2) := mx_ins_of mi144 dX20_init_468 rfl
theorem u144_468 : ev d 144 468 lo st h = ev d 144 470 lo (.int 8 :: st) h := (ev_s (f := mx_push (.int 8)) n144_468 rfl rfl).trans es_push
theorem n144_470 : mx_ins 144 470 = some (.iastore, 1) := mx_ins_of mi144 dX20_init_470 rfl
theorem u144_470 : ev d 144 470 lo st h = evI d 144 470 471 lo st h .iastore := ev_u n144_470 rfl
theorem n144_471 : mx_ins 144 471 = some (.dup, 1) := mx_ins_of mi144 dX20_init_471 rfl
theorem u144_471 : ev d 144 471 lo st h = evI d 144 471 472 lo st h .dup := ev_u n144_471 rfl
theorem n144_472 : mx_ins 144 472 = some ((.iconst 4), 1) := mx_ins_of mi144 dX20_init_472 rfl
theorem u144_472 : ev d 144 472 lo st h = ev d 144 473 lo (.int 4 :: st) h := (ev_s (f := mx_push (.int 4)) n144_472 rfl rfl).trans es_push
theorem n144_473 : mx_ins 144 473 = some ((.bipush 12), 2) := mx_ins_of mi144 dX20_init_473 rfl
theorem u144_473 : ev d 144 473 lo st h = ev d 144 475 lo (.int 12 :: st) h := (ev_s (f := mx_push (.int 12)) n144_473 rfl rfl).trans es_push
theorem n144_475 : mx_ins 144 475 = some (.iastore, 1) := mx_ins_of mi144 dX20_init_475 rfl
theorem u144_475 : ev d 144 475 lo st h = evI d 144 475 476 lo st h .iastore := ev_u n144_475 rfl
theorem n144_476 : mx_ins 144 476 = some ((.putfield 25), 3) := mx_ins_of mi144 dX20_init_476 rfl
theorem u144_476 : ev d 144 476 lo st h = evS (mx_pf 20 25 true) d 144 479 lo st h := ev_s n144_476 rfl rfl
theorem n144_479 : mx_ins 144 479 = some ((.aload_n 0), 1) := mx_ins_of mi144 dX20_init_479 rfl
theorem u144_479 : ev d 144 479 lo st h = evS (mx_ldA 0) d 144 480 lo st h := ev_s n144_479 rfl rfl
theorem n144_480 : mx_ins 144 480 = some ((.iconst 5), 1) := mx_ins_of mi144 dX20_init_480 rfl
theorem u144_480 : ev d 144 480 lo st h = ev d 144 481 lo (.int 5 :: st) h := (ev_s (f := mx_push (.int 5)) n144_480 rfl rfl).trans es_push
theorem n144_481 : mx_ins 144 481 = some ((.newarray .int), 2) := mx_ins_of mi144 dX20_init_481 rfl
theorem u144_481 : ev d 144 481 lo st h = evI d 144 481 483 lo st h (.newarray .int) := ev_u n144_481 rfl
theorem n144_483 : mx_ins 144 483 = some (.dup, 1) := mx_ins_of mi144 dX20_init_483 rfl
theorem u144_483 : ev d 144 483 lo st h = evI d 144 483 484 lo st h .dup := ev_u n144_483 rfl
theorem n144_484 : mx_ins 144 484 = some ((.iconst 0), 1) := mx_ins_of mi144 dX20_init_484 rfl
theorem u144_484 : ev d 144 484 lo st h = ev d 144 485 lo (.int 0 :: st) h := (ev_s (f := mx_push (.int 0)) n144_484 rfl rfl).trans es_push
theorem n144_485 : mx_ins 144 485 = some ((.iconst 0), 1) := mx_ins_of mi144 dX20_init_485 rfl
theorem u144_485 : ev d 144 485 lo st h = ev d 144 486 lo (.int 0 :: st) h := (ev_s (f := mx_push (.int 0)) n144_485 rfl rfl).trans es_push
theorem n144_486 : mx_ins 144 486 = some (.iastore, 1) := mx_ins_of mi144 dX20_init_486 rfl
theorem u144_486 : ev d 144 486 lo st h = evI d 144 486 487 lo st h .iastore := ev_u n144_486 rfl
theorem n144_487 : mx_ins 144 487 = some (.dup, 1) := mx_ins_of mi144 dX20_init_487 rfl
theorem u144_487 : ev d 144 487 lo st h = evI d 144 487 488 lo st h .dup := ev_u n144_487 rfl
theorem n144_488 : mx_ins 144 488 = some ((.iconst 1), 1) := mx_ins_of mi144 dX20_init_488 rfl
theorem u144_488 : ev d 144 488 lo st h = ev d 144 489 lo (.int 1 :: st) h := (ev_s (f := mx_push (.int 1)) n144_488 rfl rfl).trans es_push
theorem n144_489 : mx_ins 144 489 = some ((.iconst 1), 1) := mx_ins_of mi144 dX20_init_489 rfl
theorem u144_489 : ev d 144 489 lo st h = ev d 144 490 lo (.int 1 :: st) h := (ev_s (f := mx_push (.int 1)) n144_489 rfl rfl).trans es_push
theorem n144_490 : mx_ins 144 490 = some (.iastore, 1) := mx_ins_of mi144 dX20_init_490 rfl
theorem u144_490 : ev d 144 490 lo st h = evI d 144 490 491 lo st h .iastore := ev_u n144_490 rfl
theorem n144_491 : mx_ins 144 491 = some (.dup, 1) := mx_ins_of mi144 dX20_init_491 rfl
theorem u144_491 : ev d 144 491 lo st h = evI d 144 491 492 lo st h .dup := ev_u n144_491 rfl
theorem n144_492 : mx_ins 144 492 = some ((.iconst 2), 1) := mx_ins_of mi144 dX20_init_492 rfl
theorem u144_492 : ev d 144 492 lo st h = ev d 144 493 lo (.int 2 :: st) h := (ev_s (f := mx_push (.int 2)) n144_492 rfl rfl).trans es_push
theorem n144_493 : mx_ins 144 493 = some ((.bipush (-5)), 2) := mx_ins_of mi144 dX20_init_493 rfl
theorem u144_493 : ev d 144 493 lo st h = ev d 144 495 lo (.int (-5) :: st) h := (ev_s (f := mx_push (.int (-5))) n144_493 rfl rfl).trans es_push
theorem n144_495 : mx_ins 144 495 = some (.iastore, 1) := mx_ins_of mi144 dX20_init_495 rfl
theorem u144_495 : ev d 144 495 lo st h = evI d 144 495 496 lo st h .iastore := ev_u n144_495 rfl
theorem n144_496 : mx_ins 144 496 = some (.dup, 1) := mx_ins_of mi144 dX20_init_496 rfl
theorem u144_496 : ev d 144 496 lo st h = evI d 144 496 497 lo st h .dup := ev_u n144_496 rfl
theorem n144_497 : mx_ins 144 497 = some ((.iconst 3), 1) := mx_ins_of mi144 dX20_init_497 rfl
theorem u144_497 : ev d 144 497 lo st h = ev d 144 498 lo (.int 3 :: st) h := (ev_s (f := mx_push (.int 3)) n144_497 rfl rfl).trans es_push
theorem n144_498 : mx_ins 144 498 = some ((.bipush 6), 2) := mx_ins_of mi144 dX20_init_498 rfl
theorem u144_498 : ev d 144 498 lo st h = ev d 144 500 lo (.int 6 :: st) h := (ev_s (f := mx_push (.int 6)) n144_498 rfl rfl).trans es_push
theorem n144_500 : mx_ins 144 500 = some (.iastore, 1) := mx_ins_of mi144 dX20_init_500 rfl
theorem u144_500 : ev d 144 500 lo st h = evI d 144 500 501 lo st h .iastore := ev_u n144_500 rfl
theorem n144_501 : mx_ins 144 501 = some (.dup, 1) := mx_ins_of mi144 dX20_init_501 rfl
theorem u144_501 : ev d 144 501 lo st h = evI d 144 501 502 lo st h .dup := ev_u n144_501 rfl
theorem n144_502 : mx_ins 144 502 = some ((.iconst 4), 1) := mx_ins_of mi144 dX20_init_502 rfl
theorem u144_502 : ev d 144 502 lo st h = ev d 144 503 lo (.int 4 :: st) h := (ev_s (f := mx_push (.int 4)) n144_502 rfl rfl).trans es_push
theorem n144_503 : mx_ins 144 503 = some ((.bipush 8), 2) := mx_ins_of mi144 dX20_init_503 rfl
theorem u144_503 : ev d 144 503 lo st h = ev d 144 505 lo (.int 8 :: st) h := (ev_s (f := mx_push (.int 8)) n144_503 rfl rfl).trans es_push
theorem n144_505 : mx_ins 144 505 = some (.iastore, 1) := mx_ins_of mi144 dX20_init_505 rfl
theorem u144_505 : ev d 144 505 lo st h = evI d 144 505 506 lo st h .iastore := ev_u n144_505 rfl
theorem n144_506 : mx_ins 144 506 = some ((.putfield 28), 3) := mx_ins_of mi144 dX20_init_506 rfl
theorem u144_506 : ev d 144 506 lo st h = evS (mx_pf 20 28 true) d 144 509 lo st h := ev_s n144_506 rfl rfl
theorem n144_509 : mx_ins 144 509 = some ((.aload_n 0), 1) := mx_ins_of mi144 dX20_init_509 rfl
theorem u144_509 : ev d 144 509 lo st h = evS (mx_ldA 0) d 144 510 lo st h := ev_s n144_509 rfl rfl
theorem n144_510 : mx_ins 144 510 = some ((.iconst 5), 1) := mx_ins_of mi144 dX20_init_510 rfl
theorem u144_510 : ev d 144 510 lo st h = ev d 144 511 lo (.int 5 :: st) h := (ev_s (f := mx_push (.int 5)) n144_510 rfl rfl).trans es_push
theorem n144_511 : mx_ins 144 511 = some ((.newarray .int), 2) := mx_ins_of mi144 dX20_init_511 rfl
theorem u144_511 : ev d 144 511 lo st h = evI d 144 511 513 lo st h (.newarray .int) := ev_u n144_511 rfl
theorem n144_513 : mx_ins 144 513 = some (.dup, 1) := mx_ins_of mi144 dX20_init_513 rfl
theorem u144_513 : ev d 144 513 lo st h = evI d 144 513 514 lo st h .dup := ev_u n144_513 rfl
theorem n144_514 : mx_ins 144 514 = some ((.iconst 0), 1) := mx_ins_of mi144 dX20_init_514 rfl
theorem u144_514 : ev d 144 514 lo st h = ev d 144 515 lo (.int 0 :: st) h := (ev_s (f := mx_push (.int 0)) n144_514 rfl rfl).trans es_push
theorem n144_515 : mx_ins 144 515 = some ((.bipush 15), 2) := mx_ins_of mi144 dX20_init_515 rfl
theorem u144_515 : ev d 144 515 lo st h = ev d 144 517 lo (.int 15 :: st) h := (ev_s (f := mx_push (.int 15)) n144_515 rfl rfl).trans es_push
theorem n144_517 : mx_ins 144 517 = some (.iastore, 1) := mx_ins_of mi144 dX20_init_517 rfl
theorem u144_517 : ev d 144 517 lo st h = evI d 144 517 518 lo st h .iastore := ev_u n144_517 rfl
theorem n144_518 : mx_ins 144 518 = some (.dup, 1) := mx_ins_of mi144 dX20_init_518 rfl
theorem u144_518 : ev d 144 518 lo st h = evI d 144 518 519 lo st h .dup := ev_u n144_518 rfl
theorem n144_519 : mx_ins 144 519 = some ((.iconst 1), 1) := mx_ins_of mi144 dX20_init_519 rfl
theorem u144_519 : ev d 144 519 lo st h = ev d 144 520 lo (.int 1 :: st) h := (ev_s (f := mx_push (.int 1)) n144_519 rfl rfl).trans es_push
theorem n144_520 : mx_ins 144 520 = some ((.bipush 50), 2) := mx_ins_of mi144 dX20_init_520 rfl
theorem u144_520 : ev d 144 520 lo st h = ev d 144 522 lo (.int 50 :: st) h := (ev_s (f := mx_push (.int 50)) n144_520 rfl rfl).trans es_push
theorem n144_522 : mx_ins 144 522 = some (.iastore, 1) := mx_ins_of mi144 dX20_init_522 rfl
theorem u144_522 : ev d 144 522 lo st h = evI d 144 522 523 lo st h .iastore := ev_u n144_522 rfl
theorem n144_523 : mx_ins 144 523 = some (.dup, 1) := mx_ins_of mi144 dX20_init_523 rfl
theorem u144_523 : ev d 144 523 lo st h = evI d 144 523 524 lo st h .dup := ev_u n144_523 rfl
theorem n144_524 : mx_ins 144 524 = some ((.iconst 2), 1) := mx_ins_of mi144 dX20_init_524 rfl
theorem u144_524 : ev d 144 524 lo st h = ev d 144 525 lo (.int 2 :: st) h := (ev_s (f := mx_push (.int 2)) n144_524 rfl rfl).trans es_push
theorem n144_525 : mx_ins 144 525 = some ((.iconst 5), 1) := mx_ins_of mi144 dX20_init_525 rfl
theorem u144_525 : ev d 144 525 lo st h = ev d 144 526 lo (.int 5 :: st) h := (ev_s (f := mx_push (.int 5)) n144_525 rfl rfl).trans es_push
theorem n144_526 : mx_ins 144 526 = some (.iastore, 1) := mx_ins_of mi144 dX20_init_526 rfl
theorem u144_526 : ev d 144 526 lo st h = evI d 144 526 527 lo st h .iastore := ev_u n144_526 rfl
theorem n144_527 : mx_ins 144 527 = some (.dup, 1) := mx_ins_of mi144 dX20_init_527 rfl
theorem u144_527 : ev d 144 527 lo st h = evI d 144 527 528 lo st h .dup := ev_u n144_527 rfl
theorem n144_528 : mx_ins 144 528 = some ((.iconst 3), 1) := mx_ins_of mi144 dX20_init_528 rfl
theorem u144_528 : ev d 144 528 lo st h = ev d 144 529 lo (.int 3 :: st) h := (ev_s (f := mx_push (.int 3)) n144_528 rfl rfl).trans es_push
theorem n144_529 : mx_ins 144 529 = some ((.bipush 14), 2) := mx_ins_of mi144 dX20_init_529 rfl
theorem u144_529 : ev d 144 529 lo st h = ev d 144 531 lo (.int 14 :: st) h := (ev_s (f := mx_push (.int 14)) n144_529 rfl rfl).trans es_push
theorem n144_531 : mx_ins 144 531 = some (.iastore, 1) := mx_ins_of mi144 dX20_init_531 rfl
theorem u144_531 : ev d 144 531 lo st h = evI d 144 531 532 lo st h .iastore := ev_u n144_531 rfl
theorem n144_532 : mx_ins 144 532 = some (.dup, 1) := mx_ins_of mi144 dX20_init_532 rfl
theorem u144_532 : ev d 144 532 lo st h = evI d 144 532 533 lo st h .dup := ev_u n144_532 rfl
theorem n144_533 : mx_ins 144 533 = some ((.iconst 4), 1) := mx_ins_of mi144 dX20_init_533 rfl
theorem u144_533 : ev d 144 533 lo st h = ev d 144 534 lo (.int 4 :: st) h := (ev_s (f := mx_push (.int 4)) n144_533 rfl rfl).trans es_push
theorem n144_534 : mx_ins 144 534 = some ((.bipush 20), 2) := mx_ins_of mi144 dX20_init_534 rfl
theorem u144_534 : ev d 144 534 lo st h = ev d 144 536 lo (.int 20 :: st) h := (ev_s (f := mx_push (.int 20)) n144_534 rfl rfl).trans es_push
theorem n144_536 : mx_ins 144 536 = some (.iastore, 1) := mx_ins_of mi144 dX20_init_536 rfl
theorem u144_536 : ev d 144 536 lo st h = evI d 144 536 537 lo st h .iastore := ev_u n144_536 rfl
theorem n144_537 : mx_ins 144 537 = some ((.putfield 31), 3) := mx_ins_of mi144 dX20_init_537 rfl
theorem u144_537 : ev d 144 537 lo st h = evS (mx_pf 20 31 true) d 144 540 lo st h := ev_s n144_537 rfl rfl
theorem n144_540 : mx_ins 144 540 = some ((.aload_n 0), 1) := mx_ins_of mi144 dX20_init_540 rfl
theorem u144_540 : ev d 144 540 lo st h = evS (mx_ldA 0) d 144 541 lo st h := ev_s n144_540 rfl rfl
theorem n144_541 : mx_ins 144 541 = some ((.bipush 20), 2) := mx_ins_of mi144 dX20_init_541 rfl
theorem u144_541 : ev d 144 541 lo st h = ev d 144 543 lo (.int 20 :: st) h := (ev_s (f := mx_push (.int 20)) n144_541 rfl rfl).trans es_push
theorem n144_543 : mx_ins 144 543 = some ((.newarray .int), 2) := mx_ins_of mi144 dX20_init_543 rfl
theorem u144_543 : ev d 144 543 lo st h = evI d 144 543 545 lo st h (.newarray .int) := ev_u n144_543 rfl
theorem n144_545 : mx_ins 144 545 = some ((.putfield 34), 3) := mx_ins_of mi144 dX20_init_545 rfl
theorem u144_545 : ev d 144 545 lo st h = evS (mx_pf 20 34 true) d 144 548 lo st h := ev_s n144_545 rfl rfl
theorem n144_548 : mx_ins 144 548 = some ((.aload_n 0), 1) := mx_ins_of mi144 dX20_init_548 rfl
theorem u144_548 : ev d 144 548 lo st h = evS (mx_ldA 0) d 144 549 lo st h := ev_s n144_548 rfl rfl
theorem n144_549 : mx_ins 144 549 = some ((.bipush 24), 2) := mx_ins_of mi144 dX20_init_549 rfl
theorem u144_549 : ev d 144 549 lo st h = ev d 144 551 lo (.int 24 :: st) h := (ev_s (f := mx_push (.int 24)) n144_549 rfl rfl).trans es_push
theorem n144_551 : mx_ins 144 551 = some ((.newarray .int), 2) := mx_ins_of mi144 dX20_init_551 rfl
theorem u144_551 : ev d 144 551 lo st h = evI d 144 551 553 lo st h (.newarray .int) := ev_u n144_551 rfl
theorem n144_553 : mx_ins 144 553 = some ((.putfield 37), 3) := mx_ins_of mi144 dX20_init_553 rfl
theorem u144_553 : ev d 144 553 lo st h = evS (mx_pf 20 37 true) d 144 556 lo st h := ev_s n144_553 rfl rfl
theorem n144_556 : mx_ins 144 556 = some ((.aload_n 0), 1) := mx_ins_of mi144 dX20_init_556 rfl
theorem u144_556 : ev d 144 556 lo st h = evS (mx_ldA 0) d 144 557 lo st h := ev_s n144_556 rfl rfl
theorem n144_557 : mx_ins 144 557 = some ((.sipush 200), 3) := mx_ins_of mi144 dX20_init_557 rfl
theorem u144_557 : ev d 144 557 lo st h = ev d 144 560 lo (.int 200 :: st) h := (ev_s (f := mx_push (.int 200)) n144_557 rfl rfl).trans es_push
theorem n144_560 : mx_ins 144 560 = some ((.newarray .int), 2) := mx_ins_of mi144 dX20_init_560 rfl
theorem u144_560 : ev d 144 560 lo st h = evI d 144 560 562 lo st h (.newarray .int) := ev_u n144_560 rfl
theorem n144_562 : mx_ins 144 562 = some ((.putfield 40), 3) := mx_ins_of mi144 dX20_init_562 rfl
theorem u144_562 : ev d 144 562 lo st h = evS (mx_pf 20 40 true) d 144 565 lo st h := ev_s n144_562 rfl rfl
theorem n144_565 : mx_ins 144 565 = some ((.aload_n 0), 1) := mx_ins_of mi144 dX20_init_565 rfl
theorem u144_565 : ev d 144 565 lo st h = evS (mx_ldA 0) d 144 566 lo st h := ev_s n144_565 rfl rfl
theorem n144_566 : mx_ins 144 566 = some ((.iconst 1), 1) := mx_ins_of mi144 dX20_init_566 rfl
theorem u144_566 : ev d 144 566 lo st h = ev d 144 567 lo (.int 1 :: st) h := (ev_s (f := mx_push (.int 1)) n144_566 rfl rfl).trans es_push
theorem n144_567 : mx_ins 144 567 = some ((.putfield 43), 3) := mx_ins_of mi144 dX20_init_567 rfl
theorem u144_567 : ev d 144 567 lo st h = evS (mx_pf 20 43 true) d 144 570 lo st h := ev_s n144_567 rfl rfl
theorem n144_570 : mx_ins 144 570 = some ((.aload_n 0), 1) := mx_ins_of mi144 dX20_init_570 rfl
theorem u144_570 : ev d 144 570 lo st h = evS (mx_ldA 0) d 144 571 lo st h := ev_s n144_570 rfl rfl
theorem n144_571 : mx_ins 144 571 = some ((.sipush 200), 3) := mx_ins_of mi144 dX20_init_571 rfl
theorem u144_571 : ev d 144 571 lo st h = ev d 144 574 lo (.int 200 :: st) h := (ev_s (f := mx_push (.int 200)) n144_571 rfl rfl).trans es_push
theorem n144_574 : mx_ins 144 574 = some ((.newarray .int), 2) := mx_ins_of mi144 dX20_init_574 rfl
theorem u144_574 : ev d 144 574 lo st h = evI d 144 574 576 lo st h (.newarray .int) := ev_u n144_574 rfl
theorem n144_576 : mx_ins 144 576 = some ((.putfield 47), 3) := mx_ins_of mi144 dX20_init_576 rfl
theorem u144_576 : ev d 144 576 lo st h = evS (mx_pf 20 47 true) d 144 579 lo st h := ev_s n144_576 rfl rfl
theorem n144_579 : mx_ins 144 579 = some ((.aload_n 0), 1) := mx_ins_of mi144 dX20_init_579 rfl
theorem u144_579 : ev d 144 579 lo st h = evS (mx_ldA 0) d 144 580 lo st h := ev_s n144_579 rfl rfl
theorem n144_580 : mx_ins 144 580 = some ((.bipush 6), 2) := mx_ins_of mi144 dX20_init_580 rfl
theorem u144_580 : ev d 144 580 lo st h = ev d 144 582 lo (.int 6 :: st) h := (ev_s (f := mx_push (.int 6)) n144_580 rfl rfl).trans es_push
theorem n144_582 : mx_ins 144 582 = some ((.newarray .int), 2) := mx_ins_of mi144 dX20_init_582 rfl
theorem u144_582 : ev d 144 582 lo st h = evI d 144 582 584 lo st h (.newarray .int) := ev_u n144_582 rfl
theorem n144_584 : mx_ins 144 584 = some ((.putfield 50), 3) := mx_ins_of mi144 dX20_init_584 rfl
theorem u144_584 : ev d 144 584 lo st h = evS (mx_pf 20 50 true) d 144 587 lo st h := ev_s n144_584 rfl rfl
theorem n144_587 : mx_ins 144 587 = some ((.aload_n 0), 1) := mx_ins_of mi144 dX20_init_587 rfl
theorem u144_587 : ev d 144 587 lo st h = evS (mx_ldA 0) d 144 588 lo st h := ev_s n144_587 rfl rfl
theorem n144_588 : mx_ins 144 588 = some ((.sipush 200), 3) := mx_ins_of mi144 dX20_init_588 rfl
theorem u144_588 : ev d 144 588 lo st h = ev d 144 591 lo (.int 200 :: st) h := (ev_s (f := mx_push (.int 200)) n144_588 rfl rfl).trans es_push
theorem n144_591 : mx_ins 144 591 = some ((.newarray .int), 2) := mx_ins_of mi144 dX20_init_591 rfl
theorem u144_591 : ev d 144 591 lo st h = evI d 144 591 593 lo st h (.newarray .int) := ev_u n144_591 rfl
theorem n144_593 : mx_ins 144 593 = some ((.putfield 53), 3) := mx_ins_of mi144 dX20_init_593 rfl
theorem u144_593 : ev d 144 593 lo st h = evS (mx_pf 20 53 true) d 144 596 lo st h := ev_s n144_593 rfl rfl
theorem n144_596 : mx_ins 144 596 = some ((.aload_n 0), 1) := mx_ins_of mi144 dX20_init_596 rfl
theorem u144_596 : ev d 144 596 lo st h = evS (mx_ldA 0) d 144 597 lo st h := ev_s n144_596 rfl rfl
theorem n144_597 : mx_ins 144 597 = some ((.sipush 200), 3) := mx_ins_of mi144 dX20_init_597 rfl
theorem u144_597 : ev d 144 597 lo st h = ev d 144 600 lo (.int 200 :: st) h := (ev_s (f := mx_push (.int 200)) n144_597 rfl rfl).trans es_push
theorem n144_600 : mx_ins 144 600 = some ((.newarray .int), 2) := mx_ins_of mi144 dX20_init_600 rfl
theorem u144_600 : ev d 144 600 lo st h = evI d 144 600 602 lo st h (.newarray .int) := ev_u n144_600 rfl
theorem n144_602 : mx_ins 144 602 = some ((.putfield 56), 3) := mx_ins_of mi144 dX20_init_602 rfl
theorem u144_602 : ev d 144 602 lo st h = evS (mx_pf 20 56 true) d 144 605 lo st h := ev_s n144_602 rfl rfl
theorem n144_605 : mx_ins 144 605 = some ((.aload_n 0), 1) := mx_ins_of mi144 dX20_init_605 rfl
theorem u144_605 : ev d 144 605 lo st h = evS (mx_ldA 0) d 144 606 lo st h := ev_s n144_605 rfl rfl
theorem n144_606 : mx_ins 144 606 = some ((.bipush 100), 2) := mx_ins_of mi144 dX20_init_606 rfl
theorem u144_606 : ev d 144 606 lo st h = ev d 144 608 lo (.int 100 :: st) h := (ev_s (f := mx_push (.int 100)) n144_606 rfl rfl).trans es_push
theorem n144_608 : mx_ins 144 608 = some ((.newarray .boolean), 2) := mx_ins_of mi144 dX20_init_608 rfl
theorem u144_608 : ev d 144 608 lo st h = evI d 144 608 610 lo st h (.newarray .boolean) := ev_u n144_608 rfl
theorem n144_610 : mx_ins 144 610 = some ((.putfield 59), 3) := mx_ins_of mi144 dX20_init_610 rfl
theorem u144_610 : ev d 144 610 lo st h = evS (mx_pf 20 59 true) d 144 613 lo st h := ev_s n144_610 rfl rfl
theorem n144_613 : mx_ins 144 613 = some ((.aload_n 0), 1) := mx_ins_of mi144 dX20_init_613 rfl
theorem u144_613 : ev d 144 613 lo st h = evS (mx_ldA 0) d 144 614 lo st h := ev_s n144_613 rfl rfl
theorem n144_614 : mx_ins 144 614 = some ((.bipush 24), 2) := mx_ins_of mi144 dX20_init_614 rfl
theorem u144_614 : ev d 144 614 lo st h = ev d 144 616 lo (.int 24 :: st) h := (ev_s (f := mx_push (.int 24)) n144_614 rfl rfl).trans es_push
theorem n144_616 : mx_ins 144 616 = some ((.newarray .int), 2) := mx_ins_of mi144 dX20_init_616 rfl
theorem u144_616 : ev d 144 616 lo st h = evI d 144 616 618 lo st h (.newarray .int) := ev_u n144_616 rfl
theorem n144_618 : mx_ins 144 618 = some ((.putfield 63), 3) := mx_ins_of mi144 dX20_init_618 rfl
theorem u144_618 : ev d 144 618 lo st h = evS (mx_pf 20 63 true) d 144 621 lo st h := ev_s n144_618 rfl rfl
theorem n144_621 : mx_ins 144 621 = some ((.aload_n 0), 1) := mx_ins_of mi144 dX20_init_621 rfl
theorem u144_621 : ev d 144 621 lo st h = evS (mx_ldA 0) d 144 622 lo st h := ev_s n144_621 rfl rfl
theorem n144_622 : mx_ins 144 622 = some ((.bipush 72), 2) := mx_ins_of mi144 dX20_init_622 rfl
theorem u144_622 : ev d 144 622 lo st h = ev d 144 624 lo (.int 72 :: st) h := (ev_s (f := mx_push (.int 72)) n144_622 rfl rfl).trans es_push
theorem n144_624 : mx_ins 144 624 = some ((.newarray .int), 2) := mx_ins_of mi144 dX20_init_624 rfl
theorem u144_624 : ev d 144 624 lo st h = evI d 144 624 626 lo st h (.newarray .int) := ev_u n144_624 rfl
theorem n144_626 : mx_ins 144 626 = some ((.putfield 66), 3) := mx_ins_of mi144 dX20_init_626 rfl
theorem u144_626 : ev d 144 626 lo st h = evS (mx_pf 20 66 true) d 144 629 lo st h := ev_s n144_626 rfl rfl
theorem n144_629 : mx_ins 144 629 = some ((.aload_n 0), 1) := mx_ins_of mi144 dX20_init_629 rfl
theorem u144_629 : ev d 144 629 lo st h = evS (mx_ldA 0) d 144 630 lo st h := ev_s n144_629 rfl rfl
theorem n144_630 : mx_ins 144 630 = some ((.bipush 72), 2) := mx_ins_of mi144 dX20_init_630 rfl
theorem u144_630 : ev d 144 630 lo st h = ev d 144 632 lo (.int 72 :: st) h := (ev_s (f := mx_push (.int 72)) n144_630 rfl rfl).trans es_push
theorem n144_632 : mx_ins 144 632 = some ((.newarray .int), 2) := mx_ins_of mi144 dX20_init_632 rfl
theorem u144_632 : ev d 144 632 lo st h = evI d 144 632 634 lo st h (.newarray .int) := ev_u n144_632 rfl
theorem n144_634 : mx_ins 144 634 = some ((.putfield 69), 3) := mx_ins_of mi144 dX20_init_634 rfl
theorem u144_634 : ev d 144 634 lo st h = evS (mx_pf 20 69 true) d 144 637 lo st h := ev_s n144_634 rfl rfl
theorem n144_637 : mx_ins 144 637 = some ((.aload_n 0), 1) := mx_ins_of mi144 dX20_init_637 rfl
theorem u144_637 : ev d 144 637 lo st h = evS (mx_ldA 0) d 144 638 lo st h := ev_s n144_637 rfl rfl
theorem n144_638 : mx_ins 144 638 = some ((.iconst 4), 1) := mx_ins_of mi144 dX20_init_638 rfl
theorem u144_638 : ev d 144 638 lo st h = ev d 144 639 lo (.int 4 :: st) h := (ev_s (f := mx_push (.int 4)) n144_638 rfl rfl).trans es_push
theorem n144_639 : mx_ins 144 639 = some ((.newarray .int), 2) := mx_ins_of mi144 dX20_init_639 rfl
theorem u144_639 : ev d 144 639 lo st h = evI d 144 639 641 lo st h (.newarray .int) := ev_u n144_639 rfl
theorem n144_641 : mx_ins 144 641 = some (.dup, 1) := mx_ins_of mi144 dX20_init_641 rfl
theorem u144_641 : ev d 144 641 lo st h = evI d 144 641 642 lo st h .dup := ev_u n144_641 rfl
theorem n144_642 : mx_ins 144 642 = some ((.iconst 0), 1) := mx_ins_of mi144 dX20_init_642 rfl
theorem u144_642 : ev d 144 642 lo st h = ev d 144 643 lo (.int 0 :: st) h := (ev_s (f := mx_push (.int 0)) n144_642 rfl rfl).trans es_push
theorem n144_643 : mx_ins 144 643 = some ((.iconst (-1)), 1) := mx_ins_of mi144 dX20_init_643 rfl
theorem u144_643 : ev d 144 643 lo st h = ev d 144 644 lo (.int (-1) :: st) h := (ev_s (f := mx_push (.int (-1))) n144_643 rfl rfl).trans es_push
theorem n144_644 : mx_ins 144 644 = some (.iastore, 1) := mx_ins_of mi144 dX20_init_644 rfl
theorem u144_644 : ev d 144 644 lo st h = evI d 144 644 645 lo st h .iastore := ev_u n144_644 rfl
theorem n144_645 : mx_ins 144 645 = some (.dup, 1) := mx_ins_of mi144 dX20_init_645 rfl
theorem u144_645 : ev d 144 645 lo st h = evI d 144 645 646 lo st h .dup := ev_u n144_645 rfl
theorem n144_646 : mx_ins 144 646 = some ((.iconst 1), 1) := mx_ins_of mi144 dX20_init_646 rfl
theorem u144_646 : ev d 144 646 lo st h = ev d 144 647 lo (.int 1 :: st) h := (ev_s (f := mx_push (.int 1)) n144_646 rfl rfl).trans es_push
theorem n144_647 : mx_ins 144 647 = some ((.iconst (-1)), 1) := mx_ins_of mi144 dX20_init_647 rfl
theorem u144_647 : ev d 144 647 lo st h = ev d 144 648 lo (.int (-1) :: st) h := (ev_s (f := mx_push (.int (-1))) n144_647 rfl rfl).trans es_push
theorem n144_648 : mx_ins 144 648 = some (.iastore, 1) := mx_ins_of mi144 dX20_init_648 rfl
theorem u144_648 : ev d 144 648 lo st h = evI d 144 648 649 lo st h .iastore := ev_u n144_648 rfl
theorem n144_649 : mx_ins 144 649 = some (.dup, 1) := mx_ins_of mi144 dX20_init_649 rfl
theorem u144_649 : ev d 144 649 lo st h = evI d 144 649 650 lo st h .dup := ev_u n144_649 rfl
theorem n144_650 : mx_ins 144 650 = some ((.iconst 2), 1) := mx_ins_of mi144 dX20_init_650 rfl
theorem u144_650 : ev d 144 650 lo st h = ev d 144 651 lo (.int 2 :: st) h := (ev_s (f := mx_push (.int 2)) n144_650 rfl rfl).trans es_push
theorem n144_651 : mx_ins 144 651 = some ((.iconst (-1)), 1) := mx_ins_of mi144 dX20_init_651 rfl
theorem u144_651 : ev d 144 651 lo st h = ev d 144 652 lo (.int (-1) :: st) h := (ev_s (f := mx_push (.int (-1))) n144_651 rfl rfl).trans es_push
theorem n144_652 : mx_ins 144 652 = some (.iastore, 1) := mx_ins_of mi144 dX20_init_652 rfl
theorem u144_652 : ev d 144 652 lo st h = evI d 144 652 653 lo st h .iastore := ev_u n144_652 rfl
theorem n144_653 : mx_ins 144 653 = some (.dup, 1) := mx_ins_of mi144 dX20_init_653 rfl
theorem u144_653 : ev d 144 653 lo st h = evI d 144 653 654 lo st h .dup := ev_u n144_653 rfl
theorem n144_654 : mx_ins 144 654 = some ((.iconst 3), 1) := mx_ins_of mi144 dX20_init_654 rfl
theorem u144_654 : ev d 144 654 lo st h = ev d 144 655 lo (.int 3 :: st) h := (ev_s (f := mx_push (.int 3)) n144_654 rfl rfl).trans es_push
theorem n144_655 : mx_ins 144 655 = some ((.iconst (-1)), 1) := mx_ins_of mi144 dX20_init_655 rfl
theorem u144_655 : ev d 144 655 lo st h = ev d 144 656 lo (.int (-1) :: st) h := (ev_s (f := mx_push (.int (-1))) n144_655 rfl rfl).trans es_push
theorem n144_656 : mx_ins 144 656 = some (.iastore, 1) := mx_ins_of mi144 dX20_init_656 rfl
theorem u144_656 : ev d 144 656 lo st h = evI d 144 656 657 lo st h .iastore := ev_u n144_656 rfl
theorem n144_657 : mx_ins 144 657 = some ((.putfield 72), 3) := mx_ins_of mi144 dX20_init_657 rfl
theorem u144_657 : ev d 144 657 lo st h = evS (mx_pf 20 72 true) d 144 660 lo st h := ev_s n144_657 rfl rfl
theorem n144_660 : mx_ins 144 660 = some ((.aload_n 0), 1) := mx_ins_of mi144 dX20_init_660 rfl
theorem u144_660 : ev d 144 660 lo st h = evS (mx_ldA 0) d 144 661 lo st h := ev_s n144_660 rfl rfl
theorem n144_661 : mx_ins 144 661 = some ((.iconst 4), 1) := mx_ins_of mi144 dX20_init_661 rfl
theorem u144_661 : ev d 144 661 lo st h = ev d 144 662 lo (.int 4 :: st) h := (ev_s (f := mx_push (.int 4)) n144_661 rfl rfl).trans es_push
theorem n144_662 : mx_ins 144 662 = some ((.newarray .int), 2) := mx_ins_of mi144 dX20_init_662 rfl
theorem u144_662 : ev d 144 662 lo st h = evI d 144 662 664 lo st h (.newarray .int) := ev_u n144_662 rfl
theorem n144_664 : mx_ins 144 664 = some ((.putfield 75), 3) := mx_ins_of mi144 dX20_init_664 rfl
theorem u144_664 : ev d 144 664 lo st h = evS (mx_pf 20 75 true) d 144 667 lo st h := ev_s n144_664 rfl rfl
theorem n144_667 : mx_ins 144 667 = some ((.aload_n 0), 1) := mx_ins_of mi144 dX20_init_667 rfl
theorem u144_667 : ev d 144 667 lo st h = evS (mx_ldA 0) d 144 668 lo st h := ev_s n144_667 rfl rfl
theorem n144_668 : mx_ins 144 668 = some ((.sipush 160), 3) := mx_ins_of mi144 dX20_init_668 rfl
theorem u144_668 : ev d 144 668 lo st h = ev d 144 671 lo (.int 160 :: st) h := (ev_s (f := mx_push (.int 160)) n144_668 rfl rfl).trans es_push
theorem n144_671 : mx_ins 144 671 = some ((.newarray .long), 2) := mx_ins_of mi144 dX20_init_671 rfl
theorem u144_671 : ev d 144 671 lo st h = evI d 144 671 673 lo st h (.newarray .long) := ev_u n144_671 rfl
theorem n144_673 : mx_ins 144 673 = some ((.putfield 78), 3) := mx_ins_of mi144 dX20_init_673 rfl
theorem u144_673 : ev d 144 673 lo st h = evS (mx_pf 20 78 true) d 144 676 lo st h := ev_s n144_673 rfl rfl
theorem n144_676 : mx_ins 144 676 = some ((.aload_n 0), 1) := mx_ins_of mi144 dX20_init_676 rfl
theorem u144_676 : ev d 144 676 lo st h = evS (mx_ldA 0) d 144 677 lo st h := ev_s n144_676 rfl rfl
theorem n144_677 : mx_ins 144 677 = some ((.iconst 4), 1) := mx_ins_of mi144 dX20_init_677 rfl
theorem u144_677 : ev d 144 677 lo st h = ev d 144 678 lo (.int 4 :: st) h := (ev_s (f := mx_push (.int 4)) n144_677 rfl rfl).trans es_push
theorem n144_678 : mx_ins 144 678 = some ((.newarray .int), 2) := mx_ins_of mi144 dX20_init_678 rfl
theorem u144_678 : ev d 144 678 lo st h = evI d 144 678 680 lo st h (.newarray .int) := ev_u n144_678 rfl
theorem n144_680 : mx_ins 144 680 = some (.dup, 1) := mx_ins_of mi144 dX20_init_680 rfl
theorem u144_680 : ev d 144 680 lo st h = evI d 144 680 681 lo st h .dup := ev_u n144_680 rfl
theorem n144_681 : mx_ins 144 681 = some ((.iconst 0), 1) := mx_ins_of mi144 dX20_init_681 rfl
theorem u144_681 : ev d 144 681 lo st h = ev d 144 682 lo (.int 0 :: st) h := (ev_s (f := mx_push (.int 0)) n144_681 rfl rfl).trans es_push
theorem n144_682 : mx_ins 144 682 = some ((.iconst (-1)), 1) := mx_ins_of mi144 dX20_init_682 rfl
theorem u144_682 : ev d 144 682 lo st h = ev d 144 683 lo (.int (-1) :: st) h := (ev_s (f := mx_push (.int (-1))) n144_682 rfl rfl).trans es_push
theorem n144_683 : mx_ins 144 683 = some (.iastore, 1) := mx_ins_of mi144 dX20_init_683 rfl
theorem u144_683 : ev d 144 683 lo st h = evI d 144 683 684 lo st h .iastore := ev_u n144_683 rfl
theorem n144_684 : mx_ins 144 684 = some (.dup, 1) := mx_ins_of mi144 dX20_init_684 rfl
theorem u144_684 : ev d 144 684 lo st h = evI d 144 684 685 lo st h .dup := ev_u n144_684 rfl
theorem n144_685 : mx_ins 144 685 = some ((.iconst 1), 1) := mx_ins_of mi144 dX20_init_685 rfl
theorem u144_685 : ev d 144 685 lo st h = ev d 144 686 lo (.int 1 :: st) h := (ev_s (f := mx_push (.int 1)) n144_685 rfl rfl).trans es_push
theorem n144_686 : mx_ins 144 686 = some ((.iconst (-1)), 1) := mx_ins_of mi144 dX20_init_686 rfl
theorem u144_686 : ev d 144 686 lo st h = ev d 144 687 lo (.int (-1) :: st) h := (ev_s (f := mx_push (.int (-1))) n144_686 rfl rfl).trans es_push
theorem n144_687 : mx_ins 144 687 = some (.iastore, 1) := mx_ins_of mi144 dX20_init_687 rfl
theorem u144_687 : ev d 144 687 lo st h = evI d 144 687 688 lo st h .iastore := ev_u n144_687 rfl
theorem n144_688 : mx_ins 144 688 = some (.dup, 1) := mx_ins_of mi144 dX20_init_688 rfl
theorem u144_688 : ev d 144 688 lo st h = evI d 144 688 689 lo st h .dup := ev_u n144_688 rfl
theorem n144_689 : mx_ins 144 689 = some ((.iconst 2), 1) := mx_ins_of mi144 dX20_init_689 rfl
theorem u144_689 : ev d 144 689 lo st h = ev d 144 690 lo (.int 2 :: st) h := (ev_s (f := mx_push (.int 2)) n144_689 rfl rfl).trans es_push
theorem n144_690 : mx_ins 144 690 = some ((.iconst (-1)), 1) := mx_ins_of mi144 dX20_init_690 rfl
theorem u144_690 : ev d 144 690 lo st h = ev d 144 691 lo (.int (-1) :: st) h := (ev_s (f := mx_push (.int (-1))) n144_690 rfl rfl).trans es_push
theorem n144_691 : mx_ins 144 691 = some (.iastore, 1) := mx_ins_of mi144 dX20_init_691 rfl
theorem u144_691 : ev d 144 691 lo st h = evI d 144 691 692 lo st h .iastore := ev_u n144_691 rfl
theorem n144_692 : mx_ins 144 692 = some (.dup, 1) := mx_ins_of mi144 dX20_init_692 rfl
theorem u144_692 : ev d 144 692 lo st h = evI d 144 692 693 lo st h .dup := ev_u n144_692 rfl
theorem n144_693 : mx_ins 144 693 = some ((.iconst 3), 1) := mx_ins_of mi144 dX20_init_693 rfl
theorem u144_693 : ev d 144 693 lo st h = ev d 144 694 lo (.int 3 :: st) h := (ev_s (f := mx_push (.int 3)) n144_693 rfl rfl).trans es_push
theorem n144_694 : mx_ins 144 694 = some ((.iconst (-1)), 1) := mx_ins_of mi144 dX20_init_694 rfl
theorem u144_694 : ev d 144 694 lo st h = ev d 144 695 lo (.int (-1) :: st) h := (ev_s (f := mx_push (.int (-1))) n144_694 rfl rfl).trans es_push
theorem n144_695 : mx_ins 144 695 = some (.iastore, 1) := mx_ins_of mi144 dX20_init_695 rfl
theorem u144_695 : ev d 144 695 lo st h = evI d 144 695 696 lo st h .iastore := ev_u n144_695 rfl
theorem n144_696 : mx_ins 144 696 = some ((.putfield 82), 3) := mx_ins_of mi144 dX20_init_696 rfl
theorem u144_696 : ev d 144 696 lo st h = evS (mx_pf 20 82 true) d 144 699 lo st h := ev_s n144_696 rfl rfl
theorem n144_699 : mx_ins 144 699 = some ((.aload_n 0), 1) := mx_ins_of mi144 dX20_init_699 rfl
theorem u144_699 : ev d 144 699 lo st h = evS (mx_ldA 0) d 144 700 lo st h := ev_s n144_699 rfl rfl
theorem n144_700 : mx_ins 144 700 = some ((.iconst 4), 1) := mx_ins_of mi144 dX20_init_700 rfl
theorem u144_700 : ev d 144 700 lo st h = ev d 144 701 lo (.int 4 :: st) h := (ev_s (f := mx_push (.int 4)) n144_700 rfl rfl).trans es_push
theorem n144_701 : mx_ins 144 701 = some ((.newarray .int), 2) := mx_ins_of mi144 dX20_init_701 rfl
theorem u144_701 : ev d 144 701 lo st h = evI d 144 701 703 lo st h (.newarray .int) := ev_u n144_701 rfl
theorem n144_703 : mx_ins 144 703 = some ((.putfield 85), 3) := mx_ins_of mi144 dX20_init_703 rfl
theorem u144_703 : ev d 144 703 lo st h = evS (mx_pf 20 85 true) d 144 706 lo st h := ev_s n144_703 rfl rfl
theorem n144_706 : mx_ins 144 706 = some ((.aload_n 0), 1) := mx_ins_of mi144 dX20_init_706 rfl
theorem u144_706 : ev d 144 706 lo st h = evS (mx_ldA 0) d 144 707 lo st h := ev_s n144_706 rfl rfl
theorem n144_707 : mx_ins 144 707 = some ((.iconst 4), 1) := mx_ins_of mi144 dX20_init_707 rfl
theorem u144_707 : ev d 144 707 lo st h = ev d 144 708 lo (.int 4 :: st) h := (ev_s (f := mx_push (.int 4)) n144_707 rfl rfl).trans es_push
theorem n144_708 : mx_ins 144 708 = some ((.newarray .int), 2) := mx_ins_of mi144 dX20_init_708 rfl
theorem u144_708 : ev d 144 708 lo st h = evI d 144 708 710 lo st h (.newarray .int) := ev_u n144_708 rfl
theorem n144_710 : mx_ins 144 710 = some ((.putfield 88), 3) := mx_ins_of mi144 dX20_init_710 rfl
theorem u144_710 : ev d 144 710 lo st h = evS (mx_pf 20 88 true) d 144 713 lo st h := ev_s n144_710 rfl rfl
theorem n144_713 : mx_ins 144 713 = some ((.aload_n 0), 1) := mx_ins_of mi144 dX20_init_713 rfl
theorem u144_713 : ev d 144 713 lo st h = evS (mx_ldA 0) d 144 714 lo st h := ev_s n144_713 rfl rfl
theorem n144_714 : mx_ins 144 714 = some ((.bipush 30), 2) := mx_ins_of mi144 dX20_init_714 rfl
theorem u144_714 : ev d 144 714 lo st h = ev d 144 716 lo (.int 30 :: st) h := (ev_s (f := mx_push (.int 30)) n144_714 rfl rfl).trans es_push
theorem n144_716 : mx_ins 144 716 = some ((.newarray .int), 2) := mx_ins_of mi144 dX20_init_716 rfl
theorem u144_716 : ev d 144 716 lo st h = evI d 144 716 718 lo st h (.newarray .int) := ev_u n144_716 rfl
theorem n144_718 : mx_ins 144 718 = some ((.putfield 91), 3) := mx_ins_of mi144 dX20_init_718 rfl
theorem u144_718 : ev d 144 718 lo st h = evS (mx_pf 20 91 true) d 144 721 lo st h := ev_s n144_718 rfl rfl
theorem n144_721 : mx_ins 144 721 = some ((.aload_n 0), 1) := mx_ins_of mi144 dX20_init_721 rfl
theorem u144_721 : ev d 144 721 lo st h = evS (mx_ldA 0) d 144 722 lo st h := ev_s n144_721 rfl rfl
theorem n144_722 : mx_ins 144 722 = some ((.sipush 310), 3) := mx_ins_of mi144 dX20_init_722 rfl
theorem u144_722 : ev d 144 722 lo st h = ev d 144 725 lo (.int 310 :: st) h := (ev_s (f := mx_push (.int 310)) n144_722 rfl rfl).trans es_push
theorem n144_725 : mx_ins 144 725 = some ((.newarray .int), 2) := mx_ins_of mi144 dX20_init_725 rfl
theorem u144_725 : ev d 144 725 lo st h = evI d 144 725 727 lo st h (.newarray .int) := ev_u n144_725 rfl
theorem n144_727 : mx_ins 144 727 = some ((.putfield 94), 3) := mx_ins_of mi144 dX20_init_727 rfl
theorem u144_727 : ev d 144 727 lo st h = evS (mx_pf 20 94 true) d 144 730 lo st h := ev_s n144_727 rfl rfl
theorem n144_730 : mx_ins 144 730 = some ((.aload_n 0), 1) := mx_ins_of mi144 dX20_init_730 rfl
theorem u144_730 : ev d 144 730 lo st h = evS (mx_ldA 0) d 144 731 lo st h := ev_s n144_730 rfl rfl
theorem n144_731 : mx_ins 144 731 = some ((.iconst 3), 1) := mx_ins_of mi144 dX20_init_731 rfl
theorem u144_731 : ev d 144 731 lo st h = ev d 144 732 lo (.int 3 :: st) h := (ev_s (f := mx_push (.int 3)) n144_731 rfl rfl).trans es_push
theorem n144_732 : mx_ins 144 732 = some ((.newarray .int), 2) := mx_ins_of mi144 dX20_init_732 rfl
theorem u144_732 : ev d 144 732 lo st h = evI d 144 732 734 lo st h (.newarray .int) := ev_u n144_732 rfl
theorem n144_734 : mx_ins 144 734 = some ((.putfield 97), 3) := mx_ins_of mi144 dX20_init_734 rfl
theorem u144_734 : ev d 144 734 lo st h = evS (mx_pf 20 97 true) d 144 737 lo st h := ev_s n144_734 rfl rfl
theorem n144_737 : mx_ins 144 737 = some (.return_, 1) := mx_ins_of mi144 dX20_init_737 rfl
theorem u144_737 : ev d 144 737 lo st h = evI d 144 737 738 lo st h .return_ := ev_u n144_737 rfl
theorem mi145 : mx_mi 145 = some (yX20_feed, cX20_feed, 5, (Option.some Jvm.ClassFile.FieldType.int), 20, 3, []) := rfl
theorem ow145 : mx_own 145 = 20 := mx_mi_own mi145
theorem mm145 : mx_max 145 = 5 := mx_mi_max mi145
theorem rt145 : mx_ret 145 = (Option.some Jvm.ClassFile.FieldType.int) := mx_mi_ret mi145
theorem hn145 : mx_hnd 145 = [] := mx_mi_hnd mi145
theorem n145_0 : mx_ins 145 0 = some ((.iload_n 3), 1) := mx_ins_of mi145 dX20_feed_0 rfl
theorem u145_0 : ev d 145 0 lo st h = evS (mx_ldI 3) d 145 1 lo st h := ev_s n145_0 rfl rfl
theorem n145_1 : mx_ins 145 1 = some ((.iconst 1), 1) := mx_ins_of mi145 dX20_feed_1 rfl
theorem u145_1 : ev d 145 1 lo st h = ev d 145 2 lo (.int 1 :: st) h := (ev_s (f := mx_push (.int 1)) n145_1 rfl rfl).trans es_push
theorem n145_2 : mx_ins 145 2 = some ((.bipush 8), 2) := mx_ins_of mi145 dX20_feed_2 rfl
theorem u145_2 : ev d 145 2 lo st h = ev d 145 4 lo (.int 8 :: st) h := (ev_s (f := mx_push (.int 8)) n145_2 rfl rfl).trans es_push
theorem n145_4 : mx_ins 145 4 = some ((.invokestatic 100), 3) := mx_ins_of mi145 dX20_feed_4 rfl
theorem u145_4 : ev d 145 4 lo st h = evIn d 145 4 7 20 100 3 true lo st h := ev_inv n145_4 rfl rfl ow145 ia20_100
theorem n145_7 : mx_ins 145 7 = some ((.ifCond .ne 5), 3) := mx_ins_of mi145 dX20_feed_7 rfl
theorem u145_7 : ev d 145 7 lo st h = evJ .ne d 145 12 10 lo st h := ev_if n145_7 rfl rfl
theorem n145_10 : mx_ins 145 10 = some ((.iconst (-1)), 1) := mx_ins_of mi145 dX20_feed_10 rfl
theorem u145_10 : ev d 145 10 lo st h = ev d 145 11 lo (.int (-1) :: st) h := (ev_s (f := mx_push (.int (-1))) n145_10 rfl rfl).trans es_push
theorem n145_11 : mx_ins 145 11 = some (.ireturn, 1) := mx_ins_of mi145 dX20_feed_11 rfl
theorem u145_11 : ev d 145 11 lo st h = evI d 145 11 12 lo st h .ireturn := ev_u n145_11 rfl
theorem n145_12 : mx_ins 145 12 = some ((.aload_n 0), 1) := mx_ins_of mi145 dX20_feed_12 rfl
theorem u145_12 : ev d 145 12 lo st h = evS (mx_ldA 0) d 145 13 lo st h := ev_s n145_12 rfl rfl
theorem n145_13 : mx_ins 145 13 = some ((.getfield 107), 3) := mx_ins_of mi145 dX20_feed_13 rfl
theorem u145_13 : ev d 145 13 lo st h = evS (mx_gf 20 107) d 145 16 lo st h := ev_s n145_13 rfl rfl
theorem n145_16 : mx_ins 145 16 = some ((.iload_n 3), 1) := mx_ins_of mi145 dX20_feed_16 rfl
theorem u145_16 : ev d 145 16 lo st h = evS (mx_ldI 3) d 145 17 lo st h := ev_s n145_16 rfl rfl
theorem n145_17 : mx_ins 145 17 = some (.iadd, 1) := mx_ins_of mi145 dX20_feed_17 rfl
theorem u145_17 : ev d 145 17 lo st h = evI d 145 17 18 lo st h .iadd := ev_u n145_17 rfl
theorem n145_18 : mx_ins 145 18 = some ((.sipush 200), 3) := mx_ins_of mi145 dX20_feed_18 rfl
theorem u145_18 : ev d 145 18 lo st h = ev d 145 21 lo (.int 200 :: st) h := (ev_s (f := mx_push (.int 200)) n145_18 rfl rfl).trans es_push
theorem n145_21 : mx_ins 145 21 = some ((.if_icmp .le 6), 3) := mx_ins_of mi145 dX20_feed_21 rfl
theorem u145_21 : ev d 145 21 lo st h = evK .le d 145 27 24 lo st h := ev_ic n145_21 rfl rfl
theorem n145_24 : mx_ins 145 24 = some ((.bipush (-2)), 2) := mx_ins_of mi145 dX20_feed_24 rfl
theorem u145_24 : ev d 145 24 lo st h = ev d 145 26 lo (.int (-2) :: st) h := (ev_s (f := mx_push (.int (-2))) n145_24 rfl rfl).trans es_push
theorem n145_26 : mx_ins 145 26 = some (.ireturn, 1) := mx_ins_of mi145 dX20_feed_26 rfl
theorem u145_26 : ev d 145 26 lo st h = evI d 145 26 27 lo st h .ireturn := ev_u n145_26 rfl
theorem n145_27 : mx_ins 145 27 = some ((.iconst 0), 1) := mx_ins_of mi145 dX20_feed_27 rfl
theorem u145_27 : ev d 145 27 lo st h = ev d 145 28 lo (.int 0 :: st) h := (ev_s (f := mx_push (.int 0)) n145_27 rfl rfl).trans es_push
theorem n145_28 : mx_ins 145 28 = some ((.istore 4), 2) := mx_ins_of mi145 dX20_feed_28 rfl
theorem u145_28 : ev d 145 28 lo st h = evS (mx_stI 4) d 145 30 lo st h := ev_s n145_28 rfl rfl
theorem n145_30 : mx_ins 145 30 = some ((.iload 4), 2) := mx_ins_of mi145 dX20_feed_30 rfl
theorem u145_30 : ev d 145 30 lo st h = evS (mx_ldI 4) d 145 32 lo st h := ev_s n145_30 rfl rfl
theorem n145_32 : mx_ins 145 32 = some ((.iload_n 3), 1) := mx_ins_of mi145 dX20_feed_32 rfl
theorem u145_32 : ev d 145 32 lo st h = evS (mx_ldI 3) d 145 33 lo st h := ev_s n145_32 rfl rfl
theorem n145_33 : mx_ins 145 33 = some ((.if_icmp .ge 40), 3) := mx_ins_of mi145 dX20_feed_33 rfl
theorem u145_33 : ev d 145 33 lo st h = evK .ge d 145 73 36 lo st h := ev_ic n145_33 rfl rfl
theorem n145_36 : mx_ins 145 36 = some ((.aload_n 0), 1) := mx_ins_of mi145 dX20_feed_36 rfl
theorem u145_36 : ev d 145 36 lo st h = evS (mx_ldA 0) d 145 37 lo st h := ev_s n145_36 rfl rfl
theorem n145_37 : mx_ins 145 37 = some ((.getfield 47), 3) := mx_ins_of mi145 dX20_feed_37 rfl
theorem u145_37 : ev d 145 37 lo st h = evS (mx_gf 20 47) d 145 40 lo st h := ev_s n145_37 rfl rfl
theorem n145_40 : mx_ins 145 40 = some ((.aload_n 0), 1) := mx_ins_of mi145 dX20_feed_40 rfl
theorem u145_40 : ev d 145 40 lo st h = evS (mx_ldA 0) d 145 41 lo st h := ev_s n145_40 rfl rfl
theorem n145_41 : mx_ins 145 41 = some ((.getfield 107), 3) := mx_ins_of mi145 dX20_feed_41 rfl
theorem u145_41 : ev d 145 41 lo st h = evS (mx_gf 20 107) d 145 44 lo st h := ev_s n145_41 rfl rfl
theorem n145_44 : mx_ins 145 44 = some ((.lload_n 1), 1) := mx_ins_of mi145 dX20_feed_44 rfl
theorem u145_44 : ev d 145 44 lo st h = evS (mx_ldL 1) d 145 45 lo st h := ev_s n145_44 rfl rfl
theorem n145_45 : mx_ins 145 45 = some ((.bipush 8), 2) := mx_ins_of mi145 dX20_feed_45 rfl
theorem u145_45 : ev d 145 45 lo st h = ev d 145 47 lo (.int 8 :: st) h := (ev_s (f := mx_push (.int 8)) n145_45 rfl rfl).trans es_push
theorem n145_47 : mx_ins 145 47 = some ((.iload 4), 2) := mx_ins_of mi145 dX20_feed_47 rfl
theorem u145_47 : ev d 145 47 lo st h = evS (mx_ldI 4) d 145 49 lo st h := ev_s n145_47 rfl rfl
theorem n145_49 : mx_ins 145 49 = some (.imul, 1) := mx_ins_of mi145 dX20_feed_49 rfl
theorem u145_49 : ev d 145 49 lo st h = evI d 145 49 50 lo st h .imul := ev_u n145_49 rfl
theorem n145_50 : mx_ins 145 50 = some (.lshr, 1) := mx_ins_of mi145 dX20_feed_50 rfl
theorem u145_50 : ev d 145 50 lo st h = evI d 145 50 51 lo st h .lshr := ev_u n145_50 rfl
theorem n145_51 : mx_ins 145 51 = some ((.ldc2_w 110), 3) := mx_ins_of mi145 dX20_feed_51 rfl
theorem u145_51 : ev d 145 51 lo st h = ev d 145 54 lo (.long 255 :: st) h := (ev_s (f := mx_push (.long 255)) n145_51 rfl rfl).trans es_push
theorem n145_54 : mx_ins 145 54 = some (.land, 1) := mx_ins_of mi145 dX20_feed_54 rfl
theorem u145_54 : ev d 145 54 lo st h = evI d 145 54 55 lo st h .land := ev_u n145_54 rfl
theorem n145_55 : mx_ins 145 55 = some (.l2i, 1) := mx_ins_of mi145 dX20_feed_55 rfl
theorem u145_55 : ev d 145 55 lo st h = evI d 145 55 56 lo st h .l2i := ev_u n145_55 rfl
theorem n145_56 : mx_ins 145 56 = some (.iastore, 1) := mx_ins_of mi145 dX20_feed_56 rfl
theorem u145_56 : ev d 145 56 lo st h = evI d 145 56 57 lo st h .iastore := ev_u n145_56 rfl
theorem n145_57 : mx_ins 145 57 = some ((.aload_n 0), 1) := mx_ins_of mi145 dX20_feed_57 rfl
theorem u145_57 : ev d 145 57 lo st h = evS (mx_ldA 0) d 145 58 lo st h := ev_s n145_57 rfl rfl
theorem n145_58 : mx_ins 145 58 = some (.dup, 1) := mx_ins_of mi145 dX20_feed_58 rfl
theorem u145_58 : ev d 145 58 lo st h = evI d 145 58 59 lo st h .dup := ev_u n145_58 rfl
theorem n145_59 : mx_ins 145 59 = some ((.getfield 107), 3) := mx_ins_of mi145 dX20_feed_59 rfl
theorem u145_59 : ev d 145 59 lo st h = evS (mx_gf 20 107) d 145 62 lo st h := ev_s n145_59 rfl rfl
theorem n145_62 : mx_ins 145 62 = some ((.iconst 1), 1) := mx_ins_of mi145 dX20_feed_62 rfl
theorem u145_62 : ev d 145 62 lo st h = ev d 145 63 lo (.int 1 :: st) h := (ev_s (f := mx_push (.int 1)) n145_62 rfl rfl).trans es_push
theorem n145_63 : mx_ins 145 63 = some (.iadd, 1) := mx_ins_of mi145 dX20_feed_63 rfl
theorem u145_63 : ev d 145 63 lo st h = evI d 145 63 64 lo st h .iadd := ev_u n145_63 rfl
theorem n145_64 : mx_ins 145 64 = some ((.putfield 107), 3) := mx_ins_of mi145 dX20_feed_64 rfl
theorem u145_64 : ev d 145 64 lo st h = evS (mx_pf 20 107 false) d 145 67 lo st h := ev_s n145_64 rfl rfl
theorem n145_67 : mx_ins 145 67 = some ((.iinc 4 1), 3) := mx_ins_of mi145 dX20_feed_67 rfl
theorem u145_67 : ev d 145 67 lo st h = evS (mx_inc 4 (1)) d 145 70 lo st h := ev_s n145_67 rfl rfl
theorem n145_70 : mx_ins 145 70 = some ((.goto (-40)), 3) := mx_ins_of mi145 dX20_feed_70 rfl
theorem u145_70 : ev d 145 70 lo st h = ev d 145 30 lo st h := ev_goto n145_70 rfl
theorem n145_73 : mx_ins 145 73 = some ((.aload_n 0), 1) := mx_ins_of mi145 dX20_feed_73 rfl
theorem u145_73 : ev d 145 73 lo st h = evS (mx_ldA 0) d 145 74 lo st h := ev_s n145_73 rfl rfl
theorem n145_74 : mx_ins 145 74 = some ((.getfield 107), 3) := mx_ins_of mi145 dX20_feed_74 rfl
theorem u145_74 : ev d 145 74 lo st h = evS (mx_gf 20 107) d 145 77 lo st h := ev_s n145_74 rfl rfl
theorem n145_77 : mx_ins 145 77 = some (.ireturn, 1) := mx_ins_of mi145 dX20_feed_77 rfl
theorem u145_77 : ev d 145 77 lo st h = evI d 145 77 78 lo st h .ireturn := ev_u n145_77 rfl
theorem mi146 : mx_mi 146 = some (yX20_in, cX20_in, 3, (Option.some Jvm.ClassFile.FieldType.boolean), 20, 3, []) := rfl
theorem ow146 : mx_own 146 = 20 := mx_mi_own mi146
theorem mm146 : mx_max 146 = 3 := mx_mi_max mi146
theorem rt146 : mx_ret 146 = (Option.some Jvm.ClassFile.FieldType.boolean) := mx_mi_ret mi146
theorem hn146 : mx_hnd 146 = [] := mx_mi_hnd mi146
theorem n146_0 : mx_ins 146 0 = some ((.iload_n 0), 1) := mx_ins_of mi146 dX20_in_0 rfl
theorem u146_0 : ev d 146 0 lo st h = evS (mx_ldI 0) d 146 1 lo st h := ev_s n146_0 rfl rfl
theorem n146_1 : mx_ins 146 1 = some ((.iload_n 1), 1) := mx_ins_of mi146 dX20_in_1 rfl
theorem u146_1 : ev d 146 1 lo st h = evS (mx_ldI 1) d 146 2 lo st h := ev_s n146_1 rfl rfl
theorem n146_2 : mx_ins 146 2 = some ((.if_icmp .lt 12), 3) := mx_ins_of mi146 dX20_in_2 rfl
theorem u146_2 : ev d 146 2 lo st h = evK .lt d 146 14 5 lo st h := ev_ic n146_2 rfl rfl
theorem n146_5 : mx_ins 146 5 = some ((.iload_n 0), 1) := mx_ins_of mi146 dX20_in_5 rfl
theorem u146_5 : ev d 146 5 lo st h = evS (mx_ldI 0) d 146 6 lo st h := ev_s n146_5 rfl rfl
theorem n146_6 : mx_ins 146 6 = some ((.iload_n 2), 1) := mx_ins_of mi146 dX20_in_6 rfl
theorem u146_6 : ev d 146 6 lo st h = evS (mx_ldI 2) d 146 7 lo st h := ev_s n146_6 rfl rfl
theorem n146_7 : mx_ins 146 7 = some ((.if_icmp .gt 7), 3) := mx_ins_of mi146 dX20_in_7 rfl
theorem u146_7 : ev d 146 7 lo st h = evK .gt d 146 14 10 lo st h := ev_ic n146_7 rfl rfl
theorem n146_10 : mx_ins 146 10 = some ((.iconst 1), 1) := mx_ins_of mi146 dX20_in_10 rfl
theorem u146_10 : ev d 146 10 lo st h = ev d 146 11 lo (.int 1 :: st) h := (ev_s (f := mx_push (.int 1)) n146_10 rfl rfl).trans es_push
theorem n146_11 : mx_ins 146 11 = some ((.goto 4), 3) := mx_ins_of mi146 dX20_in_11 rfl
theorem u146_11 : ev d 146 11 lo st h = ev d 146 15 lo st h := ev_goto n146_11 rfl
theorem n146_14 : mx_ins 146 14 = some ((.iconst 0), 1) := mx_ins_of mi146 dX20_in_14 rfl
theorem u146_14 : ev d 146 14 lo st h = ev d 146 15 lo (.int 0 :: st) h := (ev_s (f := mx_push (.int 0)) n146_14 rfl rfl).trans es_push
theorem n146_15 : mx_ins 146 15 = some (.ireturn, 1) := mx_ins_of mi146 dX20_in_15 rfl
theorem u146_15 : ev d 146 15 lo st h = evI d 146 15 16 lo st h .ireturn := ev_u n146_15 rfl
theorem mi147 : mx_mi 147 = some (yX20_plan, cX20_plan, 3, (Option.some Jvm.ClassFile.FieldType.int), 20, 1, []) := rfl
theorem ow147 : mx_own 147 = 20 := mx_mi_own mi147
theorem mm147 : mx_max 147 = 3 := mx_mi_max mi147
theorem rt147 : mx_ret 147 = (Option.some Jvm.ClassFile.FieldType.int) := mx_mi_ret mi147
theorem hn147 : mx_hnd 147 = [] := mx_mi_hnd mi147
theorem n147_0 : mx_ins 147 0 = some ((.aload_n 0), 1) := mx_ins_of mi147 dX20_plan_0 rfl
theorem u147_0 : ev d 147 0 lo st h = evS (mx_ldA 0) d 147 1 lo st h := ev_s n147_0 rfl rfl
theorem n147_1 : mx_ins 147 1 = some ((.iconst 0), 1) := mx_ins_of mi147 dX20_plan_1 rfl
theorem u147_1 : ev d 147 1 lo st h = ev d 147 2 lo (.int 0 :: st) h := (ev_s (f := mx_push (.int 0)) n147_1 rfl rfl).trans es_push
theorem n147_2 : mx_ins 147 2 = some ((.putfield 112), 3) := mx_ins_of mi147 dX20_plan_2 rfl
theorem u147_2 : ev d 147 2 lo st h = evS (mx_pf 20 112 false) d 147 5 lo st h := ev_s n147_2 rfl rfl
theorem n147_5 : mx_ins 147 5 = some ((.aload_n 0), 1) := mx_ins_of mi147 dX20_plan_5 rfl
theorem u147_5 : ev d 147 5 lo st h = evS (mx_ldA 0) d 147 6 lo st h := ev_s n147_5 rfl rfl
theorem n147_6 : mx_ins 147 6 = some ((.iconst 1), 1) := mx_ins_of mi147 dX20_plan_6 rfl
theorem u147_6 : ev d 147 6 lo st h = ev d 147 7 lo (.int 1 :: st) h := (ev_s (f := mx_push (.int 1)) n147_6 rfl rfl).trans es_push
theorem n147_7 : mx_ins 147 7 = some ((.putfield 178), 3) := mx_ins_of mi147 dX20_plan_7 rfl
theorem u147_7 : ev d 147 7 lo st h = evS (mx_pf 20 178 false) d 147 10 lo st h := ev_s n147_7 rfl rfl
theorem n147_10 : mx_ins 147 10 = some ((.aload_n 0), 1) := mx_ins_of mi147 dX20_plan_10 rfl
theorem u147_10 : ev d 147 10 lo st h = evS (mx_ldA 0) d 147 11 lo st h := ev_s n147_10 rfl rfl
theorem n147_11 : mx_ins 147 11 = some ((.iconst 0), 1) := mx_ins_of mi147 dX20_plan_11 rfl
theorem u147_11 : ev d 147 11 lo st h = ev d 147 12 lo (.int 0 :: st) h := (ev_s (f := mx_push (.int 0)) n147_11 rfl rfl).trans es_push
theorem n147_12 : mx_ins 147 12 = some ((.putfield 161), 3) := mx_ins_of mi147 dX20_plan_12 rfl
theorem u147_12 : ev d 147 12 lo st h = evS (mx_pf 20 161 false) d 147 15 lo st h := ev_s n147_12 rfl rfl
theorem n147_15 : mx_ins 147 15 = some ((.iconst 0), 1) := mx_ins_of mi147 dX20_plan_15 rfl
theorem u147_15 : ev d 147 15 lo st h = ev d 147 16 lo (.int 0 :: st) h := (ev_s (f := mx_push (.int 0)) n147_15 rfl rfl).trans es_push
theorem n147_16 : mx_ins 147 16 = some ((.istore_n 1), 1) := mx_ins_of mi147 dX20_plan_16 rfl
theorem u147_16 : ev d 147 16 lo st h = evS (mx_stI 1) d 147 17 lo st h := ev_s n147_16 rfl rfl
theorem n147_17 : mx_ins 147 17 = some ((.aload_n 0), 1) := mx_ins_of mi147 dX20_plan_17 rfl
theorem u147_17 : ev d 147 17 lo st h = evS (mx_ldA 0) d 147 18 lo st h := ev_s n147_17 rfl rfl
theorem n147_18 : mx_ins 147 18 = some ((.invokevirtual 182), 3) := mx_ins_of mi147 dX20_plan_18 rfl
theorem u147_18 : ev d 147 18 lo st h = evIn d 147 18 21 20 182 1 false lo st h := ev_inv n147_18 rfl rfl ow147 ia20_182
theorem n147_21 : mx_ins 147 21 = some ((.aload_n 0), 1) := mx_ins_of mi147 dX20_plan_21 rfl
theorem u147_21 : ev d 147 21 lo st h = evS (mx_ldA 0) d 147 22 lo st h := ev_s n147_21 rfl rfl
theorem n147_22 : mx_ins 147 22 = some ((.getfield 178), 3) := mx_ins_of mi147 dX20_plan_22 rfl
theorem u147_22 : ev d 147 22 lo st h = evS (mx_gf 20 178) d 147 25 lo st h := ev_s n147_22 rfl rfl
theorem n147_25 : mx_ins 147 25 = some ((.ifCond .eq 21), 3) := mx_ins_of mi147 dX20_plan_25 rfl
theorem u147_25 : ev d 147 25 lo st h = evJ .eq d 147 46 28 lo st h := ev_if n147_25 rfl rfl
theorem n147_28 : mx_ins 147 28 = some ((.aload_n 0), 1) := mx_ins_of mi147 dX20_plan_28 rfl
theorem u147_28 : ev d 147 28 lo st h = evS (mx_ldA 0) d 147 29 lo st h := ev_s n147_28 rfl rfl
theorem n147_29 : mx_ins 147 29 = some ((.getfield 129), 3) := mx_ins_of mi147 dX20_plan_29 rfl
theorem u147_29 : ev d 147 29 lo st h = evS (mx_gf 20 129) d 147 32 lo st h := ev_s n147_29 rfl rfl
theorem n147_32 : mx_ins 147 32 = some ((.ifCond .eq 14), 3) := mx_ins_of mi147 dX20_plan_32 rfl
theorem u147_32 : ev d 147 32 lo st h = evJ .eq d 147 46 35 lo st h := ev_if n147_32 rfl rfl
theorem n147_35 : mx_ins 147 35 = some ((.aload_n 0), 1) := mx_ins_of mi147 dX20_plan_35 rfl
theorem u147_35 : ev d 147 35 lo st h = evS (mx_ldA 0) d 147 36 lo st h := ev_s n147_35 rfl rfl
theorem n147_36 : mx_ins 147 36 = some ((.iload_n 1), 1) := mx_ins_of mi147 dX20_plan_36 rfl
theorem u147_36 : ev d 147 36 lo st h = evS (mx_ldI 1) d 147 37 lo st h := ev_s n147_36 rfl rfl
theorem n147_37 : mx_ins 147 37 = some ((.invokevirtual 232), 3) := mx_ins_of mi147 dX20_plan_37 rfl
theorem u147_37 : ev d 147 37 lo st h = evIn d 147 37 40 20 232 2 false lo st h := ev_inv n147_37 rfl rfl ow147 ia20_232
theorem n147_40 : mx_ins 147 40 = some ((.iinc 1 1), 3) := mx_ins_of mi147 dX20_plan_40 rfl
theorem u147_40 : ev d 147 40 lo st h = evS (mx_inc 1 (1)) d 147 43 lo st h := ev_s n147_40 rfl rfl
theorem n147_43 : mx_ins 147 43 = some ((.goto (-22)), 3) := mx_ins_of mi147 dX20_plan_43 rfl
theorem u147_43 : ev d 147 43 lo st h = ev d 147 21 lo st h := ev_goto n147_43 rfl
theorem n147_46 : mx_ins 147 46 = some ((.aload_n 0), 1) := mx_ins_of mi147 dX20_plan_46 rfl
theorem u147_46 : ev d 147 46 lo st h = evS (mx_ldA 0) d 147 47 lo st h := ev_s n147_46 rfl rfl
theorem n147_47 : mx_ins 147 47 = some ((.iconst 0), 1) := mx_ins_of mi147 dX20_plan_47 rfl
theorem u147_47 : ev d 147 47 lo st h = ev d 147 48 lo (.int 0 :: st) h := (ev_s (f := mx_push (.int 0)) n147_47 rfl rfl).trans es_push
theorem n147_48 : mx_ins 147 48 = some ((.putfield 107), 3) := mx_ins_of mi147 dX20_plan_48 rfl
theorem u147_48 : ev d 147 48 lo st h = evS (mx_pf 20 107 false) d 147 51 lo st h := ev_s n147_48 rfl rfl
theorem n147_51 : mx_ins 147 51 = some ((.aload_n 0), 1) := mx_ins_of mi147 dX20_plan_51 rfl
theorem u147_51 : ev d 147 51 lo st h = evS (mx_ldA 0) d 147 52 lo st h := ev_s n147_51 rfl rfl
theorem n147_52 : mx_ins 147 52 = some ((.getfield 178), 3) := mx_ins_of mi147 dX20_plan_52 rfl
theorem u147_52 : ev d 147 52 lo st h = evS (mx_gf 20 178) d 147 55 lo st h := ev_s n147_52 rfl rfl
theorem n147_55 : mx_ins 147 55 = some ((.ifCond .ne 11), 3) := mx_ins_of mi147 dX20_plan_55 rfl
theorem u147_55 : ev d 147 55 lo st h = evJ .ne d 147 66 58 lo st h := ev_if n147_55 rfl rfl
theorem n147_58 : mx_ins 147 58 = some ((.bipush (-100)), 2) := mx_ins_of mi147 dX20_plan_58 rfl
theorem u147_58 : ev d 147 58 lo st h = ev d 147 60 lo (.int (-100) :: st) h := (ev_s (f := mx_push (.int (-100))) n147_58 rfl rfl).trans es_push
theorem n147_60 : mx_ins 147 60 = some ((.aload_n 0), 1) := mx_ins_of mi147 dX20_plan_60 rfl
theorem u147_60 : ev d 147 60 lo st h = evS (mx_ldA 0) d 147 61 lo st h := ev_s n147_60 rfl rfl
theorem n147_61 : mx_ins 147 61 = some ((.getfield 115), 3) := mx_ins_of mi147 dX20_plan_61 rfl
theorem u147_61 : ev d 147 61 lo st h = evS (mx_gf 20 115) d 147 64 lo st h := ev_s n147_61 rfl rfl
theorem n147_64 : mx_ins 147 64 = some (.isub, 1) := mx_ins_of mi147 dX20_plan_64 rfl
theorem u147_64 : ev d 147 64 lo st h = evI d 147 64 65 lo st h .isub := ev_u n147_64 rfl
theorem n147_65 : mx_ins 147 65 = some (.ireturn, 1) := mx_ins_of mi147 dX20_plan_65 rfl
theorem u147_65 : ev d 147 65 lo st h = evI d 147 65 66 lo st h .ireturn := ev_u n147_65 rfl
theorem n147_66 : mx_ins 147 66 = some ((.aload_n 0), 1) := mx_ins_of mi147 dX20_plan_66 rfl
theorem u147_66 : ev d 147 66 lo st h = evS (mx_ldA 0) d 147 67 lo st h := ev_s n147_66 rfl rfl
theorem n147_67 : mx_ins 147 67 = some ((.iload_n 1), 1) := mx_ins_of mi147 dX20_plan_67 rfl
theorem u147_67 : ev d 147 67 lo st h = evS (mx_ldI 1) d 147 68 lo st h := ev_s n147_67 rfl rfl
theorem n147_68 : mx_ins 147 68 = some ((.putfield 235), 3) := mx_ins_of mi147 dX20_plan_68 rfl
theorem u147_68 : ev d 147 68 lo st h = evS (mx_pf 20 235 false) d 147 71 lo st h := ev_s n147_68 rfl rfl
theorem n147_71 : mx_ins 147 71 = some ((.iconst 0), 1) := mx_ins_of mi147 dX20_plan_71 rfl
theorem u147_71 : ev d 147 71 lo st h = ev d 147 72 lo (.int 0 :: st) h := (ev_s (f := mx_push (.int 0)) n147_71 rfl rfl).trans es_push
theorem n147_72 : mx_ins 147 72 = some ((.istore_n 2), 1) := mx_ins_of mi147 dX20_plan_72 rfl
theorem u147_72 : ev d 147 72 lo st h = evS (mx_stI 2) d 147 73 lo st h := ev_s n147_72 rfl rfl
theorem n147_73 : mx_ins 147 73 = some ((.iload_n 2), 1) := mx_ins_of mi147 dX20_plan_73 rfl
theorem u147_73 : ev d 147 73 lo st h = evS (mx_ldI 2) d 147 74 lo st h := ev_s n147_73 rfl rfl
theorem n147_74 : mx_ins 147 74 = some ((.bipush 24), 2) := mx_ins_of mi147 dX20_plan_74 rfl
theorem u147_74 : ev d 147 74 lo st h = ev d 147 76 lo (.int 24 :: st) h := (ev_s (f := mx_push (.int 24)) n147_74 rfl rfl).trans es_push
theorem n147_76 : mx_ins 147 76 = some ((.if_icmp .ge 21), 3) := mx_ins_of mi147 dX20_plan_76 rfl
theorem u147_76 : ev d 147 76 lo st h = evK .ge d 147 97 79 lo st h := ev_ic n147_76 rfl rfl
theorem n147_79 : mx_ins 147 79 = some ((.aload_n 0), 1) := mx_ins_of mi147 dX20_plan_79 rfl
theorem u147_79 : ev d 147 79 lo st h = evS (mx_ldA 0) d 147 80 lo st h := ev_s n147_79 rfl rfl
theorem n147_80 : mx_ins 147 80 = some ((.getfield 37), 3) := mx_ins_of mi147 dX20_plan_80 rfl
theorem u147_80 : ev d 147 80 lo st h = evS (mx_gf 20 37) d 147 83 lo st h := ev_s n147_80 rfl rfl
theorem n147_83 : mx_ins 147 83 = some ((.iload_n 2), 1) := mx_ins_of mi147 dX20_plan_83 rfl
theorem u147_83 : ev d 147 83 lo st h = evS (mx_ldI 2) d 147 84 lo st h := ev_s n147_83 rfl rfl
theorem n147_84 : mx_ins 147 84 = some ((.aload_n 0), 1) := mx_ins_of mi147 dX20_plan_84 rfl
theorem u147_84 : ev d 147 84 lo st h = evS (mx_ldA 0) d 147 85 lo st h := ev_s n147_84 rfl rfl
theorem n147_85 : mx_ins 147 85 = some ((.getfield 63), 3) := mx_ins_of mi147 dX20_plan_85 rfl
theorem u147_85 : ev d 147 85 lo st h = evS (mx_gf 20 63) d 147 88 lo st h := ev_s n147_85 rfl rfl
theorem n147_88 : mx_ins 147 88 = some ((.iload_n 2), 1) := mx_ins_of mi147 dX20_plan_88 rfl
theorem u147_88 : ev d 147 88 lo st h = evS (mx_ldI 2) d 147 89 lo st h := ev_s n147_88 rfl rfl
theorem n147_89 : mx_ins 147 89 = some (.iaload, 1) := mx_ins_of mi147 dX20_plan_89 rfl
theorem u147_89 : ev d 147 89 lo st h = evI d 147 89 90 lo st h .iaload := ev_u n147_89 rfl
theorem n147_90 : mx_ins 147 90 = some (.iastore, 1) := mx_ins_of mi147 dX20_plan_90 rfl
theorem u147_90 : ev d 147 90 lo st h = evI d 147 90 91 lo st h .iastore := ev_u n147_90 rfl
theorem n147_91 : mx_ins 147 91 = some ((.iinc 2 1), 3) := mx_ins_of mi147 dX20_plan_91 rfl
theorem u147_91 : ev d 147 91 lo st h = evS (mx_inc 2 (1)) d 147 94 lo st h := ev_s n147_91 rfl rfl
theorem n147_94 : mx_ins 147 94 = some ((.goto (-21)), 3) := mx_ins_of mi147 dX20_plan_94 rfl
theorem u147_94 : ev d 147 94 lo st h = ev d 147 73 lo st h := ev_goto n147_94 rfl
theorem n147_97 : mx_ins 147 97 = some ((.iconst 0), 1) := mx_ins_of mi147 dX20_plan_97 rfl
theorem u147_97 : ev d 147 97 lo st h = ev d 147 98 lo (.int 0 :: st) h := (ev_s (f := mx_push (.int 0)) n147_97 rfl rfl).trans es_push
theorem n147_98 : mx_ins 147 98 = some ((.istore_n 2), 1) := mx_ins_of mi147 dX20_plan_98 rfl
theorem u147_98 : ev d 147 98 lo st h = evS (mx_stI 2) d 147 99 lo st h := ev_s n147_98 rfl rfl
theorem n147_99 : mx_ins 147 99 = some ((.iload_n 2), 1) := mx_ins_of mi147 dX20_plan_99 rfl
theorem u147_99 : ev d 147 99 lo st h = evS (mx_ldI 2) d 147 100 lo st h := ev_s n147_99 rfl rfl
theorem n147_100 : mx_ins 147 100 = some ((.aload_n 0), 1) := mx_ins_of mi147 dX20_plan_100 rfl
theorem u147_100 : ev d 147 100 lo st h = evS (mx_ldA 0) d 147 101 lo st h := ev_s n147_100 rfl rfl
theorem n147_101 : mx_ins 147 101 = some ((.getfield 161), 3) := mx_ins_of mi147 dX20_plan_101 rfl
theorem u147_101 : ev d 147 101 lo st h = evS (mx_gf 20 161) d 147 104 lo st h := ev_s n147_101 rfl rfl
theorem n147_104 : mx_ins 147 104 = some ((.if_icmp .ge 21), 3) := mx_ins_of mi147 dX20_plan_104 rfl
theorem u147_104 : ev d 147 104 lo st h = evK .ge d 147 125 107 lo st h := ev_ic n147_104 rfl rfl
theorem n147_107 : mx_ins 147 107 = some ((.aload_n 0), 1) := mx_ins_of mi147 dX20_plan_107 rfl
theorem u147_107 : ev d 147 107 lo st h = evS (mx_ldA 0) d 147 108 lo st h := ev_s n147_107 rfl rfl
theorem n147_108 : mx_ins 147 108 = some ((.getfield 40), 3) := mx_ins_of mi147 dX20_plan_108 rfl
theorem u147_108 : ev d 147 108 lo st h = evS (mx_gf 20 40) d 147 111 lo st h := ev_s n147_108 rfl rfl
theorem n147_111 : mx_ins 147 111 = some ((.iload_n 2), 1) := mx_ins_of mi147 dX20_plan_111 rfl
theorem u147_111 : ev d 147 111 lo st h = evS (mx_ldI 2) d 147 112 lo st h := ev_s n147_111 rfl rfl
theorem n147_112 : mx_ins 147 112 = some ((.aload_n 0), 1) := mx_ins_of mi147 dX20_plan_112 rfl
theorem u147_112 : ev d 147 112 lo st h = evS (mx_ldA 0) d 147 113 lo st h := ev_s n147_112 rfl rfl
theorem n147_113 : mx_ins 147 113 = some ((.getfield 53), 3) := mx_ins_of mi147 dX20_plan_113 rfl
theorem u147_113 : ev d 147 113 lo st h = evS (mx_gf 20 53) d 147 116 lo st h := ev_s n147_113 rfl rfl
theorem n147_116 : mx_ins 147 116 = some ((.iload_n 2), 1) := mx_ins_of mi147 dX20_plan_116 rfl
theorem u147_116 : ev d 147 116 lo st h = evS (mx_ldI 2) d 147 117 lo st h := ev_s n147_116 rfl rfl
theorem n147_117 : mx_ins 147 117 = some (.iaload, 1) := mx_ins_of mi147 dX20_plan_117 rfl
theorem u147_117 : ev d 147 117 lo st h = evI d 147 117 118 lo st h .iaload := ev_u n147_117 rfl
theorem n147_118 : mx_ins 147 118 = some (.iastore, 1) := mx_ins_of mi147 dX20_plan_118 rfl
theorem u147_118 : ev d 147 118 lo st h = evI d 147 118 119 lo st h .iastore := ev_u n147_118 rfl
theorem n147_119 : mx_ins 147 119 = some ((.iinc 2 1), 3) := mx_ins_of mi147 dX20_plan_119 rfl
theorem u147_119 : ev d 147 119 lo st h = evS (mx_inc 2 (1)) d 147 122 lo st h := ev_s n147_119 rfl rfl
theorem n147_122 : mx_ins 147 122 = some ((.goto (-23)), 3) := mx_ins_of mi147 dX20_plan_122 rfl
theorem u147_122 : ev d 147 122 lo st h = ev d 147 99 lo st h := ev_goto n147_122 rfl
theorem n147_125 : mx_ins 147 125 = some ((.aload_n 0), 1) := mx_ins_of mi147 dX20_plan_125 rfl
theorem u147_125 : ev d 147 125 lo st h = evS (mx_ldA 0) d 147 126 lo st h := ev_s n147_125 rfl rfl
theorem n147_126 : mx_ins 147 126 = some ((.getfield 235), 3) := mx_ins_of mi147 dX20_plan_126 rfl
theorem u147_126 : ev d 147 126 lo st h = evS (mx_gf 20 235) d 147 129 lo st h := ev_s n147_126 rfl rfl
theorem n147_129 : mx_ins 147 129 = some (.ireturn, 1) := mx_ins_of mi147 dX20_plan_129 rfl
theorem u147_129 : ev d 147 129 lo st h = evI d 147 129 130 lo st h .ireturn := ev_u n147_129 rfl
theorem mi148 : mx_mi 148 = some (yX20_advance, cX20_advance, 2, (none : Option FieldType), 20, 1, []) := rfl
theorem ow148 : mx_own 148 = 20 := mx_mi_own mi148
theorem mm148 : mx_max 148 = 2 := mx_mi_max mi148
theorem rt148 : mx_ret 148 = (none : Option FieldType) := mx_mi_ret mi148
theorem hn148 : mx_hnd 148 = [] := mx_mi_hnd mi148
theorem n148_0 : mx_ins 148 0 = some ((.aload_n 0), 1) := mx_ins_of mi148 dX20_advance_0 rfl
theorem u148_0 : ev d 148 0 lo st h = evS (mx_ldA 0) d 148 1 lo st h := ev_s n148_0 rfl rfl
theorem n148_1 : mx_ins 148 1 = some ((.aload_n 0), 1) := mx_ins_of mi148 dX20_advance_1 rfl
theorem u148_1 : ev d 148 1 lo st h = evS (mx_ldA 0) d 148 2 lo st h := ev_s n148_1 rfl rfl
theorem n148_2 : mx_ins 148 2 = some ((.getfield 112), 3) := mx_ins_of mi148 dX20_advance_2 rfl
theorem u148_2 : ev d 148 2 lo st h = evS (mx_gf 20 112) d 148 5 lo st h := ev_s n148_2 rfl rfl
theorem n148_5 : mx_ins 148 5 = some ((.putfield 115), 3) := mx_ins_of mi148 dX20_advance_5 rfl
theorem u148_5 : ev d 148 5 lo st h = evS (mx_pf 20 115 false) d 148 8 lo st h := ev_s n148_5 rfl rfl
theorem n148_8 : mx_ins 148 8 = some ((.aload_n 0), 1) := mx_ins_of mi148 dX20_advance_8 rfl
theorem u148_8 : ev d 148 8 lo st h = evS (mx_ldA 0) d 148 9 lo st h := ev_s n148_8 rfl rfl
theorem n148_9 : mx_ins 148 9 = some ((.aload_n 0), 1) := mx_ins_of mi148 dX20_advance_9 rfl
theorem u148_9 : ev d 148 9 lo st h = evS (mx_ldA 0) d 148 10 lo st h := ev_s n148_9 rfl rfl
theorem n148_10 : mx_ins 148 10 = some ((.getfield 115), 3) := mx_ins_of mi148 dX20_advance_10 rfl
theorem u148_10 : ev d 148 10 lo st h = evS (mx_gf 20 115) d 148 13 lo st h := ev_s n148_10 rfl rfl
theorem n148_13 : mx_ins 148 13 = some ((.invokevirtual 118), 3) := mx_ins_of mi148 dX20_advance_13 rfl
theorem u148_13 : ev d 148 13 lo st h = evIn d 148 13 16 20 118 2 false lo st h := ev_inv n148_13 rfl rfl ow148 ia20_118
theorem n148_16 : mx_ins 148 16 = some ((.bipush 32), 2) := mx_ins_of mi148 dX20_advance_16 rfl
theorem u148_16 : ev d 148 16 lo st h = ev d 148 18 lo (.int 32 :: st) h := (ev_s (f := mx_push (.int 32)) n148_16 rfl rfl).trans es_push
theorem n148_18 : mx_ins 148 18 = some ((.if_icmp .ne 16), 3) := mx_ins_of mi148 dX20_advance_18 rfl
theorem u148_18 : ev d 148 18 lo st h = evK .ne d 148 34 21 lo st h := ev_ic n148_18 rfl rfl
theorem n148_21 : mx_ins 148 21 = some ((.aload_n 0), 1) := mx_ins_of mi148 dX20_advance_21 rfl
theorem u148_21 : ev d 148 21 lo st h = evS (mx_ldA 0) d 148 22 lo st h := ev_s n148_21 rfl rfl
theorem n148_22 : mx_ins 148 22 = some (.dup, 1) := mx_ins_of mi148 dX20_advance_22 rfl
theorem u148_22 : ev d 148 22 lo st h = evI d 148 22 23 lo st h .dup := ev_u n148_22 rfl
theorem n148_23 : mx_ins 148 23 = some ((.getfield 115), 3) := mx_ins_of mi148 dX20_advance_23 rfl
theorem u148_23 : ev d 148 23 lo st h = evS (mx_gf 20 115) d 148 26 lo st h := ev_s n148_23 rfl rfl
theorem n148_26 : mx_ins 148 26 = some ((.iconst 1), 1) := mx_ins_of mi148 dX20_advance_26 rfl
theorem u148_26 : ev d 148 26 lo st h = ev d 148 27 lo (.int 1 :: st) h := (ev_s (f := mx_push (.int 1)) n148_26 rfl rfl).trans es_push
theorem n148_27 : mx_ins 148 27 = some (.iadd, 1) := mx_ins_of mi148 dX20_advance_27 rfl
theorem u148_27 : ev d 148 27 lo st h = evI d 148 27 28 lo st h .iadd := ev_u n148_27 rfl
theorem n148_28 : mx_ins 148 28 = some ((.putfield 115), 3) := mx_ins_of mi148 dX20_advance_28 rfl
theorem u148_28 : ev d 148 28 lo st h = evS (mx_pf 20 115 false) d 148 31 lo st h := ev_s n148_28 rfl rfl
theorem n148_31 : mx_ins 148 31 = some ((.goto (-23)), 3) := mx_ins_of mi148 dX20_advance_31 rfl
theorem u148_31 : ev d 148 31 lo st h = ev d 148 8 lo st h := ev_goto n148_31 rfl
theorem n148_34 : mx_ins 148 34 = some ((.aload_n 0), 1) := mx_ins_of mi148 dX20_advance_34 rfl
theorem u148_34 : ev d 148 34 lo st h = evS (mx_ldA 0) d 148 35 lo st h := ev_s n148_34 rfl rfl
theorem n148_35 : mx_ins 148 35 = some ((.aload_n 0), 1) := mx_ins_of mi148 dX20_advance_35 rfl
theorem u148_35 : ev d 148 35 lo st h = evS (mx_ldA 0) d 148 36 lo st h := ev_s n148_35 rfl rfl
theorem n148_36 : mx_ins 148 36 = some ((.getfield 115), 3) := mx_ins_of mi148 dX20_advance_36 rfl
theorem u148_36 : ev d 148 36 lo st h = evS (mx_gf 20 115) d 148 39 lo st h := ev_s n148_36 rfl rfl
theorem n148_39 : mx_ins 148 39 = some ((.putfield 112), 3) := mx_ins_of mi148 dX20_advance_39 rfl
theorem u148_39 : ev d 148 39 lo st h = evS (mx_pf 20 112 false) d 148 42 lo st h := ev_s n148_39 rfl rfl
theorem n148_42 : mx_ins 148 42 = some ((.aload_n 0), 1) := mx_ins_of mi148 dX20_advance_42 rfl
theorem u148_42 : ev d 148 42 lo st h = evS (mx_ldA 0) d 148 43 lo st h := ev_s n148_42 rfl rfl
theorem n148_43 : mx_ins 148 43 = some ((.aload_n 0), 1) := mx_ins_of mi148 dX20_advance_43 rfl
theorem u148_43 : ev d 148 43 lo st h = evS (mx_ldA 0) d 148 44 lo st h := ev_s n148_43 rfl rfl
theorem n148_44 : mx_ins 148 44 = some ((.getfield 115), 3) := mx_ins_of mi148 dX20_advance_44 rfl
theorem u148_44 : ev d 148 44 lo st h = evS (mx_gf 20 115) d 148 47 lo st h := ev_s n148_44 rfl rfl
theorem n148_47 : mx_ins 148 47 = some ((.invokevirtual 118), 3) := mx_ins_of mi148 dX20_advance_47 rfl
theorem u148_47 : ev d 148 47 lo st h = evIn d 148 47 50 20 118 2 false lo st h := ev_inv n148_47 rfl rfl ow148 ia20_118
theorem n148_50 : mx_ins 148 50 = some ((.istore_n 1), 1) := mx_ins_of mi148 dX20_advance_50 rfl
theorem u148_50 : ev d 148 50 lo st h = evS (mx_stI 1) d 148 51 lo st h := ev_s n148_50 rfl rfl
theorem n148_51 : mx_ins 148 51 = some ((.aload_n 0), 1) := mx_ins_of mi148 dX20_advance_51 rfl
theorem u148_51 : ev d 148 51 lo st h = evS (mx_ldA 0) d 148 52 lo st h := ev_s n148_51 rfl rfl
theorem n148_52 : mx_ins 148 52 = some ((.iload_n 1), 1) := mx_ins_of mi148 dX20_advance_52 rfl
theorem u148_52 : ev d 148 52 lo st h = evS (mx_ldI 1) d 148 53 lo st h := ev_s n148_52 rfl rfl
theorem n148_53 : mx_ins 148 53 = some ((.ifCond .ge 7), 3) := mx_ins_of mi148 dX20_advance_53 rfl
theorem u148_53 : ev d 148 53 lo st h = evJ .ge d 148 60 56 lo st h := ev_if n148_53 rfl rfl
theorem n148_56 : mx_ins 148 56 = some ((.iconst 0), 1) := mx_ins_of mi148 dX20_advance_56 rfl
theorem u148_56 : ev d 148 56 lo st h = ev d 148 57 lo (.int 0 :: st) h := (ev_s (f := mx_push (.int 0)) n148_56 rfl rfl).trans es_push
theorem n148_57 : mx_ins 148 57 = some ((.goto 26), 3) := mx_ins_of mi148 dX20_advance_57 rfl
theorem u148_57 : ev d 148 57 lo st h = ev d 148 83 lo st h := ev_goto n148_57 rfl
theorem n148_60 : mx_ins 148 60 = some ((.iload_n 1), 1) := mx_ins_of mi148 dX20_advance_60 rfl
theorem u148_60 : ev d 148 60 lo st h = evS (mx_ldI 1) d 148 61 lo st h := ev_s n148_60 rfl rfl
theorem n148_61 : mx_ins 148 61 = some ((.invokestatic 122), 3) := mx_ins_of mi148 dX20_advance_61 rfl
theorem u148_61 : ev d 148 61 lo st h = evIn d 148 61 64 20 122 1 true lo st h := ev_inv n148_61 rfl rfl ow148 ia20_122
theorem n148_64 : mx_ins 148 64 = some ((.ifCond .eq 7), 3) := mx_ins_of mi148 dX20_advance_64 rfl
theorem u148_64 : ev d 148 64 lo st h = evJ .eq d 148 71 67 lo st h := ev_if n148_64 rfl rfl
theorem n148_67 : mx_ins 148 67 = some ((.iconst 1), 1) := mx_ins_of mi148 dX20_advance_67 rfl
theorem u148_67 : ev d 148 67 lo st h = ev d 148 68 lo (.int 1 :: st) h := (ev_s (f := mx_push (.int 1)) n148_67 rfl rfl).trans es_push
theorem n148_68 : mx_ins 148 68 = some ((.goto 15), 3) := mx_ins_of mi148 dX20_advance_68 rfl
theorem u148_68 : ev d 148 68 lo st h = ev d 148 83 lo st h := ev_goto n148_68 rfl
theorem n148_71 : mx_ins 148 71 = some ((.iload_n 1), 1) := mx_ins_of mi148 dX20_advance_71 rfl
theorem u148_71 : ev d 148 71 lo st h = evS (mx_ldI 1) d 148 72 lo st h := ev_s n148_71 rfl rfl
theorem n148_72 : mx_ins 148 72 = some ((.invokestatic 126), 3) := mx_ins_of mi148 dX20_advance_72 rfl
theorem u148_72 : ev d 148 72 lo st h = evIn d 148 72 75 20 126 1 true lo st h := ev_inv n148_72 rfl rfl ow148 ia20_126
theorem n148_75 : mx_ins 148 75 = some ((.ifCond .eq 7), 3) := mx_ins_of mi148 dX20_advance_75 rfl
theorem u148_75 : ev d 148 75 lo st h = evJ .eq d 148 82 78 lo st h := ev_if n148_75 rfl rfl
theorem n148_78 : mx_ins 148 78 = some ((.iconst 2), 1) := mx_ins_of mi148 dX20_advance_78 rfl
theorem u148_78 : ev d 148 78 lo st h = ev d 148 79 lo (.int 2 :: st) h := (ev_s (f := mx_push (.int 2)) n148_78 rfl rfl).trans es_push
theorem n148_79 : mx_ins 148 79 = some ((.goto 4), 3) := mx_ins_of mi148 dX20_advance_79 rfl
theorem u148_79 : ev d 148 79 lo st h = ev d 148 83 lo st h := ev_goto n148_79 rfl
theorem n148_82 : mx_ins 148 82 = some ((.iconst 3), 1) := mx_ins_of mi148 dX20_advance_82 rfl
theorem u148_82 : ev d 148 82 lo st h = ev d 148 83 lo (.int 3 :: st) h := (ev_s (f := mx_push (.int 3)) n148_82 rfl rfl).trans es_push
theorem n148_83 : mx_ins 148 83 = some ((.putfield 129), 3) := mx_ins_of mi148 dX20_advance_83 rfl
theorem u148_83 : ev d 148 83 lo st h = evS (mx_pf 20 129 false) d 148 86 lo st h := ev_s n148_83 rfl rfl
theorem n148_86 : mx_ins 148 86 = some ((.aload_n 0), 1) := mx_ins_of mi148 dX20_advance_86 rfl
theorem u148_86 : ev d 148 86 lo st h = evS (mx_ldA 0) d 148 87 lo st h := ev_s n148_86 rfl rfl
theorem n148_87 : mx_ins 148 87 = some ((.lconst 0), 1) := mx_ins_of mi148 dX20_advance_87 rfl
theorem u148_87 : ev d 148 87 lo st h = ev d 148 88 lo (.long 0 :: st) h := (ev_s (f := mx_push (.long 0)) n148_87 rfl rfl).trans es_push
theorem n148_88 : mx_ins 148 88 = some ((.putfield 132), 3) := mx_ins_of mi148 dX20_advance_88 rfl
theorem u148_88 : ev d 148 88 lo st h = evS (mx_pf 20 132 false) d 148 91 lo st h := ev_s n148_88 rfl rfl
theorem n148_91 : mx_ins 148 91 = some ((.aload_n 0), 1) := mx_ins_of mi148 dX20_advance_91 rfl
theorem u148_91 : ev d 148 91 lo st h = evS (mx_ldA 0) d 148 92 lo st h := ev_s n148_91 rfl rfl
theorem n148_92 : mx_ins 148 92 = some ((.aload_n 0), 1) := mx_ins_of mi148 dX20_advance_92 rfl
theorem u148_92 : ev d 148 92 lo st h = evS (mx_ldA 0) d 148 93 lo st h := ev_s n148_92 rfl rfl
theorem n148_93 : mx_ins 148 93 = some ((.getfield 129), 3) := mx_ins_of mi148 dX20_advance_93 rfl
theorem u148_93 : ev d 148 93 lo st h = evS (mx_gf 20 129) d 148 96 lo st h := ev_s n148_93 rfl rfl
theorem n148_96 : mx_ins 148 96 = some ((.iconst 2), 1) := mx_ins_of mi148 dX20_advance_96 rfl
theorem u148_96 : ev d 148 96 lo st h = ev d 148 97 lo (.int 2 :: st) h := (ev_s (f := mx_push (.int 2)) n148_96 rfl rfl).trans es_push
theorem n148_97 : mx_ins 148 97 = some ((.if_icmp .ne 7), 3) := mx_ins_of mi148 dX20_advance_97 rfl
theorem u148_97 : ev d 148 97 lo st h = evK .ne d 148 104 100 lo st h := ev_ic n148_97 rfl rfl
theorem n148_100 : mx_ins 148 100 = some ((.iconst 0), 1) := mx_ins_of mi148 dX20_advance_100 rfl
theorem u148_100 : ev d 148 100 lo st h = ev d 148 101 lo (.int 0 :: st) h := (ev_s (f := mx_push (.int 0)) n148_100 rfl rfl).trans es_push
theorem n148_101 : mx_ins 148 101 = some ((.goto 4), 3) := mx_ins_of mi148 dX20_advance_101 rfl
theorem u148_101 : ev d 148 101 lo st h = ev d 148 105 lo st h := ev_goto n148_101 rfl
theorem n148_104 : mx_ins 148 104 = some ((.iload_n 1), 1) := mx_ins_of mi148 dX20_advance_104 rfl
theorem u148_104 : ev d 148 104 lo st h = evS (mx_ldI 1) d 148 105 lo st h := ev_s n148_104 rfl rfl
theorem n148_105 : mx_ins 148 105 = some ((.putfield 136), 3) := mx_ins_of mi148 dX20_advance_105 rfl
theorem u148_105 : ev d 148 105 lo st h = evS (mx_pf 20 136 false) d 148 108 lo st h := ev_s n148_105 rfl rfl
theorem n148_108 : mx_ins 148 108 = some ((.aload_n 0), 1) := mx_ins_of mi148 dX20_advance_108 rfl
theorem u148_108 : ev d 148 108 lo st h = evS (mx_ldA 0) d 148 109 lo st h := ev_s n148_108 rfl rfl
theorem n148_109 : mx_ins 148 109 = some ((.getfield 129), 3) := mx_ins_of mi148 dX20_advance_109 rfl
theorem u148_109 : ev d 148 109 lo st h = evS (mx_gf 20 129) d 148 112 lo st h := ev_s n148_109 rfl rfl
theorem n148_112 : mx_ins 148 112 = some ((.iconst 3), 1) := mx_ins_of mi148 dX20_advance_112 rfl
theorem u148_112 : ev d 148 112 lo st h = ev d 148 113 lo (.int 3 :: st) h := (ev_s (f := mx_push (.int 3)) n148_112 rfl rfl).trans es_push
theorem n148_113 : mx_ins 148 113 = some ((.if_icmp .ne 13), 3) := mx_ins_of mi148 dX20_advance_113 rfl
theorem u148_113 : ev d 148 113 lo st h = evK .ne d 148 126 116 lo st h := ev_ic n148_113 rfl rfl
theorem n148_116 : mx_ins 148 116 = some ((.aload_n 0), 1) := mx_ins_of mi148 dX20_advance_116 rfl
theorem u148_116 : ev d 148 116 lo st h = evS (mx_ldA 0) d 148 117 lo st h := ev_s n148_116 rfl rfl
theorem n148_117 : mx_ins 148 117 = some (.dup, 1) := mx_ins_of mi148 dX20_advance_117 rfl
theorem u148_117 : ev d 148 117 lo st h = evI d 148 117 118 lo st h .dup := ev_u n148_117 rfl
theorem n148_118 : mx_ins 148 118 = some ((.getfield 112), 3) := mx_ins_of mi148 dX20_advance_118 rfl
theorem u148_118 : ev d 148 118 lo st h = evS (mx_gf 20 112) d 148 121 lo st h := ev_s n148_118 rfl rfl
theorem n148_121 : mx_ins 148 121 = some ((.iconst 1), 1) := mx_ins_of mi148 dX20_advance_121 rfl
theorem u148_121 : ev d 148 121 lo st h = ev d 148 122 lo (.int 1 :: st) h := (ev_s (f := mx_push (.int 1)) n148_121 rfl rfl).trans es_push
theorem n148_122 : mx_ins 148 122 = some (.iadd, 1) := mx_ins_of mi148 dX20_advance_122 rfl
theorem u148_122 : ev d 148 122 lo st h = evI d 148 122 123 lo st h .iadd := ev_u n148_122 rfl
theorem n148_123 : mx_ins 148 123 = some ((.putfield 112), 3) := mx_ins_of mi148 dX20_advance_123 rfl
theorem u148_123 : ev d 148 123 lo st h = evS (mx_pf 20 112 false) d 148 126 lo st h := ev_s n148_123 rfl rfl
theorem n148_126 : mx_ins 148 126 = some ((.aload_n 0), 1) := mx_ins_of mi148 dX20_advance_126 rfl
theorem u148_126 : ev d 148 126 lo st h = evS (mx_ldA 0) d 148 127 lo st h := ev_s n148_126 rfl rfl
theorem n148_127 : mx_ins 148 127 = some ((.getfield 129), 3) := mx_ins_of mi148 dX20_advance_127 rfl
theorem u148_127 : ev d 148 127 lo st h = evS (mx_gf 20 129) d 148 130 lo st h := ev_s n148_127 rfl rfl
theorem n148_130 : mx_ins 148 130 = some ((.iconst 1), 1) := mx_ins_of mi148 dX20_advance_130 rfl
theorem u148_130 : ev d 148 130 lo st h = ev d 148 131 lo (.int 1 :: st) h := (ev_s (f := mx_push (.int 1)) n148_130 rfl rfl).trans es_push
theorem n148_131 : mx_ins 148 131 = some ((.if_icmp .ne 76), 3) := mx_ins_of mi148 dX20_advance_131 rfl
theorem u148_131 : ev d 148 131 lo st h = evK .ne d 148 207 134 lo st h := ev_ic n148_131 rfl rfl
theorem n148_134 : mx_ins 148 134 = some ((.aload_n 0), 1) := mx_ins_of mi148 dX20_advance_134 rfl
theorem u148_134 : ev d 148 134 lo st h = evS (mx_ldA 0) d 148 135 lo st h := ev_s n148_134 rfl rfl
theorem n148_135 : mx_ins 148 135 = some ((.aload_n 0), 1) := mx_ins_of mi148 dX20_advance_135 rfl
theorem u148_135 : ev d 148 135 lo st h = evS (mx_ldA 0) d 148 136 lo st h := ev_s n148_135 rfl rfl
theorem n148_136 : mx_ins 148 136 = some ((.getfield 112), 3) := mx_ins_of mi148 dX20_advance_136 rfl
theorem u148_136 : ev d 148 136 lo st h = evS (mx_gf 20 112) d 148 139 lo st h := ev_s n148_136 rfl rfl
theorem n148_139 : mx_ins 148 139 = some ((.invokevirtual 118), 3) := mx_ins_of mi148 dX20_advance_139 rfl
theorem u148_139 : ev d 148 139 lo st h = evIn d 148 139 142 20 118 2 false lo st h := ev_inv n148_139 rfl rfl ow148 ia20_118
theorem n148_142 : mx_ins 148 142 = some ((.invokestatic 122), 3) := mx_ins_of mi148 dX20_advance_142 rfl
theorem u148_142 : ev d 148 142 lo st h = evIn d 148 142 145 20 122 1 true lo st h := ev_inv n148_142 rfl rfl ow148 ia20_122
theorem n148_145 : mx_ins 148 145 = some ((.ifCond .eq 62), 3) := mx_ins_of mi148 dX20_advance_145 rfl
theorem u148_145 : ev d 148 145 lo st h = evJ .eq d 148 207 148 lo st h := ev_if n148_145 rfl rfl
theorem n148_148 : mx_ins 148 148 = some ((.aload_n 0), 1) := mx_ins_of mi148 dX20_advance_148 rfl
theorem u148_148 : ev d 148 148 lo st h = evS (mx_ldA 0) d 148 149 lo st h := ev_s n148_148 rfl rfl
theorem n148_149 : mx_ins 148 149 = some ((.aload_n 0), 1) := mx_ins_of mi148 dX20_advance_149 rfl
theorem u148_149 : ev d 148 149 lo st h = evS (mx_ldA 0) d 148 150 lo st h := ev_s n148_149 rfl rfl
theorem n148_150 : mx_ins 148 150 = some ((.getfield 112), 3) := mx_ins_of mi148 dX20_advance_150 rfl
theorem u148_150 : ev d 148 150 lo st h = evS (mx_gf 20 112) d 148 153 lo st h := ev_s n148_150 rfl rfl
theorem n148_153 : mx_ins 148 153 = some ((.aload_n 0), 1) := mx_ins_of mi148 dX20_advance_153 rfl
theorem u148_153 : ev d 148 153 lo st h = evS (mx_ldA 0) d 148 154 lo st h := ev_s n148_153 rfl rfl
theorem n148_154 : mx_ins 148 154 = some ((.getfield 115), 3) := mx_ins_of mi148 dX20_advance_154 rfl
theorem u148_154 : ev d 148 154 lo st h = evS (mx_gf 20 115) d 148 157 lo st h := ev_s n148_154 rfl rfl
theorem n148_157 : mx_ins 148 157 = some (.isub, 1) := mx_ins_of mi148 dX20_advance_157 rfl
theorem u148_157 : ev d 148 157 lo st h = evI d 148 157 158 lo st h .isub := ev_u n148_157 rfl
theorem n148_158 : mx_ins 148 158 = some ((.bipush 8), 2) := mx_ins_of mi148 dX20_advance_158 rfl
theorem u148_158 : ev d 148 158 lo st h = ev d 148 160 lo (.int 8 :: st) h := (ev_s (f := mx_push (.int 8)) n148_158 rfl rfl).trans es_push
theorem n148_160 : mx_ins 148 160 = some ((.if_icmp .ge 28), 3) := mx_ins_of mi148 dX20_advance_160 rfl
theorem u148_160 : ev d 148 160 lo st h = evK .ge d 148 188 163 lo st h := ev_ic n148_160 rfl rfl
theorem n148_163 : mx_ins 148 163 = some ((.ldc2_w 139), 3) := mx_ins_of mi148 dX20_advance_163 rfl
theorem u148_163 : ev d 148 163 lo st h = ev d 148 166 lo (.long 27 :: st) h := (ev_s (f := mx_push (.long 27)) n148_163 rfl rfl).trans es_push
theorem n148_166 : mx_ins 148 166 = some ((.aload_n 0), 1) := mx_ins_of mi148 dX20_advance_166 rfl
theorem u148_166 : ev d 148 166 lo st h = evS (mx_ldA 0) d 148 167 lo st h := ev_s n148_166 rfl rfl
theorem n148_167 : mx_ins 148 167 = some ((.getfield 132), 3) := mx_ins_of mi148 dX20_advance_167 rfl
theorem u148_167 : ev d 148 167 lo st h = evS (mx_gf 20 132) d 148 170 lo st h := ev_s n148_167 rfl rfl
theorem n148_170 : mx_ins 148 170 = some (.lmul, 1) := mx_ins_of mi148 dX20_advance_170 rfl
theorem u148_170 : ev d 148 170 lo st h = evI d 148 170 171 lo st h .lmul := ev_u n148_170 rfl
theorem n148_171 : mx_ins 148 171 = some ((.aload_n 0), 1) := mx_ins_of mi148 dX20_advance_171 rfl
theorem u148_171 : ev d 148 171 lo st h = evS (mx_ldA 0) d 148 172 lo st h := ev_s n148_171 rfl rfl
theorem n148_172 : mx_ins 148 172 = some ((.aload_n 0), 1) := mx_ins_of mi148 dX20_advance_172 rfl
theorem u148_172 : ev d 148 172 lo st h = evS (mx_ldA 0) d 148 173 lo st h := ev_s n148_172 rfl rfl
theorem n148_173 : mx_ins 148 173 = some ((.getfield 112), 3) := mx_ins_of mi148 dX20_advance_173 rfl
theorem u148_173 : ev d 148 173 lo st h = evS (mx_gf 20 112) d 148 176 lo st h := ev_s n148_173 rfl rfl
theorem n148_176 : mx_ins 148 176 = some ((.invokevirtual 118), 3) := mx_ins_of mi148 dX20_advance_176 rfl
theorem u148_176 : ev d 148 176 lo st h = evIn d 148 176 179 20 118 2 false lo st h := ev_inv n148_176 rfl rfl ow148 ia20_118
theorem n148_179 : mx_ins 148 179 = some (.i2l, 1) := mx_ins_of mi148 dX20_advance_179 rfl
theorem u148_179 : ev d 148 179 lo st h = evI d 148 179 180 lo st h .i2l := ev_u n148_179 rfl
theorem n148_180 : mx_ins 148 180 = some (.ladd, 1) := mx_ins_of mi148 dX20_advance_180 rfl
theorem u148_180 : ev d 148 180 lo st h = evI d 148 180 181 lo st h .ladd := ev_u n148_180 rfl
theorem n148_181 : mx_ins 148 181 = some ((.ldc2_w 141), 3) := mx_ins_of mi148 dX20_advance_181 rfl
theorem u148_181 : ev d 148 181 lo st h = ev d 148 184 lo (.long 96 :: st) h := (ev_s (f := mx_push (.long 96)) n148_181 rfl rfl).trans es_push
theorem n148_184 : mx_ins 148 184 = some (.lsub, 1) := mx_ins_of mi148 dX20_advance_184 rfl
theorem u148_184 : ev d 148 184 lo st h = evI d 148 184 185 lo st h .lsub := ev_u n148_184 rfl
theorem n148_185 : mx_ins 148 185 = some ((.goto 6), 3) := mx_ins_of mi148 dX20_advance_185 rfl
theorem u148_185 : ev d 148 185 lo st h = ev d 148 191 lo st h := ev_goto n148_185 rfl
theorem n148_188 : mx_ins 148 188 = some ((.ldc2_w 143), 3) := mx_ins_of mi148 dX20_advance_188 rfl
theorem u148_188 : ev d 148 188 lo st h = ev d 148 191 lo (.long (-1) :: st) h := (ev_s (f := mx_push (.long (-1))) n148_188 rfl rfl).trans es_push
theorem n148_191 : mx_ins 148 191 = some ((.putfield 132), 3) := mx_ins_of mi148 dX20_advance_191 rfl
theorem u148_191 : ev d 148 191 lo st h = evS (mx_pf 20 132 false) d 148 194 lo st h := ev_s n148_191 rfl rfl
theorem n148_194 : mx_ins 148 194 = some ((.aload_n 0), 1) := mx_ins_of mi148 dX20_advance_194 rfl
theorem u148_194 : ev d 148 194 lo st h = evS (mx_ldA 0) d 148 195 lo st h := ev_s n148_194 rfl rfl
theorem n148_195 : mx_ins 148 195 = some (.dup, 1) := mx_ins_of mi148 dX20_advance_195 rfl
theorem u148_195 : ev d 148 195 lo st h = evI d 148 195 196 lo st h .dup := ev_u n148_195 rfl
theorem n148_196 : mx_ins 148 196 = some ((.getfield 112), 3) := mx_ins_of mi148 dX20_advance_196 rfl
theorem u148_196 : ev d 148 196 lo st h = evS (mx_gf 20 112) d 148 199 lo st h := ev_s n148_196 rfl rfl
theorem n148_199 : mx_ins 148 199 = some ((.iconst 1), 1) := mx_ins_of mi148 dX20_advance_199 rfl
theorem u148_199 : ev d 148 199 lo st h = ev d 148 200 lo (.int 1 :: st) h := (ev_s (f := mx_push (.int 1)) n148_199 rfl rfl).trans es_push
theorem n148_200 : mx_ins 148 200 = some (.iadd, 1) := mx_ins_of mi148 dX20_advance_200 rfl
theorem u148_200 : ev d 148 200 lo st h = evI d 148 200 201 lo st h .iadd := ev_u n148_200 rfl
theorem n148_201 : mx_ins 148 201 = some ((.putfield 112), 3) := mx_ins_of mi148 dX20_advance_201 rfl
theorem u148_201 : ev d 148 201 lo st h = evS (mx_pf 20 112 false) d 148 204 lo st h := ev_s n148_201 rfl rfl
theorem n148_204 : mx_ins 148 204 = some ((.goto (-78)), 3) := mx_ins_of mi148 dX20_advance_204 rfl
theorem u148_204 : ev d 148 204 lo st h = ev d 148 126 lo st h := ev_goto n148_204 rfl
theorem n148_207 : mx_ins 148 207 = some ((.aload_n 0), 1) := mx_ins_of mi148 dX20_advance_207 rfl
theorem u148_207 : ev d 148 207 lo st h = evS (mx_ldA 0) d 148 208 lo st h := ev_s n148_207 rfl rfl
theorem n148_208 : mx_ins 148 208 = some ((.getfield 129), 3) := mx_ins_of mi148 dX20_advance_208 rfl
theorem u148_208 : ev d 148 208 lo st h = evS (mx_gf 20 129) d 148 211 lo st h := ev_s n148_208 rfl rfl
theorem n148_211 : mx_ins 148 211 = some ((.iconst 2), 1) := mx_ins_of mi148 dX20_advance_211 rfl
theorem u148_211 : ev d 148 211 lo st h = ev d 148 212 lo (.int 2 :: st) h := (ev_s (f := mx_push (.int 2)) n148_211 rfl rfl).trans es_push
theorem n148_212 : mx_ins 148 212 = some ((.if_icmp .ne 70), 3) := mx_ins_of mi148 dX20_advance_212 rfl
theorem u148_212 : ev d 148 212 lo st h = evK .ne d 148 282 215 lo st h := ev_ic n148_212 rfl rfl
theorem n148_215 : mx_ins 148 215 = some ((.aload_n 0), 1) := mx_ins_of mi148 dX20_advance_215 rfl
theorem u148_215 : ev d 148 215 lo st h = evS (mx_ldA 0) d 148 216 lo st h := ev_s n148_215 rfl rfl
theorem n148_216 : mx_ins 148 216 = some ((.aload_n 0), 1) := mx_ins_of mi148 dX20_advance_216 rfl
theorem u148_216 : ev d 148 216 lo st h = evS (mx_ldA 0) d 148 217 lo st h := ev_s n148_216 rfl rfl
theorem n148_217 : mx_ins 148 217 = some ((.getfield 112), 3) := mx_ins_of mi148 dX20_advance_217 rfl
theorem u148_217 : ev d 148 217 lo st h = evS (mx_gf 20 112) d 148 220 lo st h := ev_s n148_217 rfl rfl
theorem n148_220 : mx_ins 148 220 = some ((.invokevirtual 118), 3) := mx_ins_of mi148 dX20_advance_220 rfl
theorem u148_220 : ev d 148 220 lo st h = evIn d 148 220 223 20 118 2 false lo st h := ev_inv n148_220 rfl rfl ow148 ia20_118
theorem n148_223 : mx_ins 148 223 = some ((.invokestatic 126), 3) := mx_ins_of mi148 dX20_advance_223 rfl
theorem u148_223 : ev d 148 223 lo st h = evIn d 148 223 226 20 126 1 true lo st h := ev_inv n148_223 rfl rfl ow148 ia20_126
theorem n148_226 : mx_ins 148 226 = some ((.ifCond .eq 56), 3) := mx_ins_of mi148 dX20_advance_226 rfl
theorem u148_226 : ev d 148 226 lo st h = evJ .eq d 148 282 229 lo st h := ev_if n148_226 rfl rfl
theorem n148_229 : mx_ins 148 229 = some ((.aload_n 0), 1) := mx_ins_of mi148 dX20_advance_229 rfl
theorem u148_229 : ev d 148 229 lo st h = evS (mx_ldA 0) d 148 230 lo st h := ev_s n148_229 rfl rfl
theorem n148_230 : mx_ins 148 230 = some ((.aload_n 0), 1) := mx_ins_of mi148 dX20_advance_230 rfl
theorem u148_230 : ev d 148 230 lo st h = evS (mx_ldA 0) d 148 231 lo st h := ev_s n148_230 rfl rfl
theorem n148_231 : mx_ins 148 231 = some ((.getfield 112), 3) := mx_ins_of mi148 dX20_advance_231 rfl
theorem u148_231 : ev d 148 231 lo st h = evS (mx_gf 20 112) d 148 234 lo st h := ev_s n148_231 rfl rfl
theorem n148_234 : mx_ins 148 234 = some ((.aload_n 0), 1) := mx_ins_of mi148 dX20_advance_234 rfl
theorem u148_234 : ev d 148 234 lo st h = evS (mx_ldA 0) d 148 235 lo st h := ev_s n148_234 rfl rfl
theorem n148_235 : mx_ins 148 235 = some ((.getfield 115), 3) := mx_ins_of mi148 dX20_advance_235 rfl
theorem u148_235 : ev d 148 235 lo st h = evS (mx_gf 20 115) d 148 238 lo st h := ev_s n148_235 rfl rfl
theorem n148_238 : mx_ins 148 238 = some (.isub, 1) := mx_ins_of mi148 dX20_advance_238 rfl
theorem u148_238 : ev d 148 238 lo st h = evI d 148 238 239 lo st h .isub := ev_u n148_238 rfl
theorem n148_239 : mx_ins 148 239 = some ((.iconst 4), 1) := mx_ins_of mi148 dX20_advance_239 rfl
theorem u148_239 : ev d 148 239 lo st h = ev d 148 240 lo (.int 4 :: st) h := (ev_s (f := mx_push (.int 4)) n148_239 rfl rfl).trans es_push
theorem n148_240 : mx_ins 148 240 = some ((.if_icmp .ge 25), 3) := mx_ins_of mi148 dX20_advance_240 rfl
theorem u148_240 : ev d 148 240 lo st h = evK .ge d 148 265 243 lo st h := ev_ic n148_240 rfl rfl
theorem n148_243 : mx_ins 148 243 = some ((.bipush 10), 2) := mx_ins_of mi148 dX20_advance_243 rfl
theorem u148_243 : ev d 148 243 lo st h = ev d 148 245 lo (.int 10 :: st) h := (ev_s (f := mx_push (.int 10)) n148_243 rfl rfl).trans es_push
theorem n148_245 : mx_ins 148 245 = some ((.aload_n 0), 1) := mx_ins_of mi148 dX20_advance_245 rfl
theorem u148_245 : ev d 148 245 lo st h = evS (mx_ldA 0) d 148 246 lo st h := ev_s n148_245 rfl rfl
theorem n148_246 : mx_ins 148 246 = some ((.getfield 136), 3) := mx_ins_of mi148 dX20_advance_246 rfl
theorem u148_246 : ev d 148 246 lo st h = evS (mx_gf 20 136) d 148 249 lo st h := ev_s n148_246 rfl rfl
theorem n148_249 : mx_ins 148 249 = some (.imul, 1) := mx_ins_of mi148 dX20_advance_249 rfl
theorem u148_249 : ev d 148 249 lo st h = evI d 148 249 250 lo st h .imul := ev_u n148_249 rfl
theorem n148_250 : mx_ins 148 250 = some ((.aload_n 0), 1) := mx_ins_of mi148 dX20_advance_250 rfl
theorem u148_250 : ev d 148 250 lo st h = evS (mx_ldA 0) d 148 251 lo st h := ev_s n148_250 rfl rfl
theorem n148_251 : mx_ins 148 251 = some ((.aload_n 0), 1) := mx_ins_of mi148 dX20_advance_251 rfl
theorem u148_251 : ev d 148 251 lo st h = evS (mx_ldA 0) d 148 252 lo st h := ev_s n148_251 rfl rfl
theorem n148_252 : mx_ins 148 252 = some ((.getfield 112), 3) := mx_ins_of mi148 dX20_advance_252 rfl
theorem u148_252 : ev d 148 252 lo st h = evS (mx_gf 20 112) d 148 255 lo st h := ev_s n148_252 rfl rfl
theorem n148_255 : mx_ins 148 255 = some ((.invokevirtual 118), 3) := mx_ins_of mi148 dX20_advance_255 rfl
theorem u148_255 : ev d 148 255 lo st h = evIn d 148 255 258 20 118 2 false lo st h := ev_inv n148_255 rfl rfl ow148 ia20_118
theorem n148_258 : mx_ins 148 258 = some (.iadd, 1) := mx_ins_of mi148 dX20_advance_258 rfl
theorem u148_258 : ev d 148 258 lo st h = evI d 148 258 259 lo st h .iadd := ev_u n148_258 rfl
theorem n148_259 : mx_ins 148 259 = some ((.bipush 48), 2) := mx_ins_of mi148 dX20_advance_259 rfl
theorem u148_259 : ev d 148 259 lo st h = ev d 148 261 lo (.int 48 :: st) h := (ev_s (f := mx_push (.int 48)) n148_259 rfl rfl).trans es_push
theorem n148_261 : mx_ins 148 261 = some (.isub, 1) := mx_ins_of mi148 dX20_advance_261 rfl
theorem u148_261 : ev d 148 261 lo st h = evI d 148 261 262 lo st h .isub := ev_u n148_261 rfl
theorem n148_262 : mx_ins 148 262 = some ((.goto 4), 3) := mx_ins_of mi148 dX20_advance_262 rfl
theorem u148_262 : ev d 148 262 lo st h = ev d 148 266 lo st h := ev_goto n148_262 rfl
theorem n148_265 : mx_ins 148 265 = some ((.iconst (-1)), 1) := mx_ins_of mi148 dX20_advance_265 rfl
theorem u148_265 : ev d 148 265 lo st h = ev d 148 266 lo (.int (-1) :: st) h := (ev_s (f := mx_push (.int (-1))) n148_265 rfl rfl).trans es_push
theorem n148_266 : mx_ins 148 266 = some ((.putfield 136), 3) := mx_ins_of mi148 dX20_advance_266 rfl
theorem u148_266 : ev d 148 266 lo st h = evS (mx_pf 20 136 false) d 148 269 lo st h := ev_s n148_266 rfl rfl
theorem n148_269 : mx_ins 148 269 = some ((.aload_n 0), 1) := mx_ins_of mi148 dX20_advance_269 rfl
theorem u148_269 : ev d 148 269 lo st h = evS (mx_ldA 0) d 148 270 lo st h := ev_s n148_269 rfl rfl
theorem n148_270 : mx_ins 148 270 = some (.dup, 1) := mx_ins_of mi148 dX20_advance_270 rfl
theorem u148_270 : ev d 148 270 lo st h = evI d 148 270 271 lo st h .dup := ev_u n148_270 rfl
theorem n148_271 : mx_ins 148 271 = some ((.getfield 112), 3) := mx_ins_of mi148 dX20_advance_271 rfl
theorem u148_271 : ev d 148 271 lo st h = evS (mx_gf 20 112) d 148 274 lo st h := ev_s n148_271 rfl rfl
theorem n148_274 : mx_ins 148 274 = some ((.iconst 1), 1) := mx_ins_of mi148 dX20_advance_274 rfl
theorem u148_274 : ev d 148 274 lo st h = ev d 148 275 lo (.int 1 :: st) h := (ev_s (f := mx_push (.int 1)) n148_274 rfl rfl).trans es_push
theorem n148_275 : mx_ins 148 275 = some (.iadd, 1) := mx_ins_of mi148 dX20_advance_275 rfl
theorem u148_275 : ev d 148 275 lo st h = evI d 148 275 276 lo st h .iadd := ev_u n148_275 rfl
theorem n148_276 : mx_ins 148 276 = some ((.putfield 112), 3) := mx_ins_of mi148 dX20_advance_276 rfl
theorem u148_276 : ev d 148 276 lo st h = evS (mx_pf 20 112 false) d 148 279 lo st h := ev_s n148_276 rfl rfl
theorem n148_279 : mx_ins 148 279 = some ((.goto (-72)), 3) := mx_ins_of mi148 dX20_advance_279 rfl
theorem u148_279 : ev d 148 279 lo st h = ev d 148 207 lo st h := ev_goto n148_279 rfl
theorem n148_282 : mx_ins 148 282 = some (.return_, 1) := mx_ins_of mi148 dX20_advance_282 rfl
theorem u148_282 : ev d 148 282 lo st h = evI d 148 282 283 lo st h .return_ := ev_u n148_282 rfl
theorem mi149 : mx_mi 149 = some (yX20_byteAt, cX20_byteAt, 2, (Option.some Jvm.ClassFile.FieldType.int), 20, 2, []) := rfl
theorem ow149 : mx_own 149 = 20 := mx_mi_own mi149
theorem mm149 : mx_max 149 = 2 := mx_mi_max mi149
theorem rt149 : mx_ret 149 = (Option.some Jvm.ClassFile.FieldType.int) := mx_mi_ret mi149
theorem hn149 : mx_hnd 149 = [] := mx_mi_hnd mi149
theorem n149_0 : mx_ins 149 0 = some ((.iload_n 1), 1) := mx_ins_of mi149 dX20_byteAt_0 rfl
theorem u149_0 : ev d 149 0 lo st h = evS (mx_ldI 1) d 149 1 lo st h := ev_s n149_0 rfl rfl
theorem n149_1 : mx_ins 149 1 = some ((.aload_n 0), 1) := mx_ins_of mi149 dX20_byteAt_1 rfl
theorem u149_1 : ev d 149 1 lo st h = evS (mx_ldA 0) d 149 2 lo st h := ev_s n149_1 rfl rfl
theorem n149_2 : mx_ins 149 2 = some ((.getfield 107), 3) := mx_ins_of mi149 dX20_byteAt_2 rfl
theorem u149_2 : ev d 149 2 lo st h = evS (mx_gf 20 107) d 149 5 lo st h := ev_s n149_2 rfl rfl
theorem n149_5 : mx_ins 149 5 = some ((.if_icmp .ge 12), 3) := mx_ins_of mi149 dX20_byteAt_5 rfl
theorem u149_5 : ev d 149 5 lo st h = evK .ge d 149 17 8 lo st h := ev_ic n149_5 rfl rfl
theorem n149_8 : mx_ins 149 8 = some ((.aload_n 0), 1) := mx_ins_of mi149 dX20_byteAt_8 rfl
theorem u149_8 : ev d 149 8 lo st h = evS (mx_ldA 0) d 149 9 lo st h := ev_s n149_8 rfl rfl
theorem n149_9 : mx_ins 149 9 = some ((.getfield 47), 3) := mx_ins_of mi149 dX20_byteAt_9 rfl
theorem u149_9 : ev d 149 9 lo st h = evS (mx_gf 20 47) d 149 12 lo st h := ev_s n149_9 rfl rfl
theorem n149_12 : mx_ins 149 12 = some ((.iload_n 1), 1) := mx_ins_of mi149 dX20_byteAt_12 rfl
theorem u149_12 : ev d 149 12 lo st h = evS (mx_ldI 1) d 149 13 lo st h := ev_s n149_12 rfl rfl
theorem n149_13 : mx_ins 149 13 = some (.iaload, 1) := mx_ins_of mi149 dX20_byteAt_13 rfl
theorem u149_13 : ev d 149 13 lo st h = evI d 149 13 14 lo st h .iaload := ev_u n149_13 rfl
theorem n149_14 : mx_ins 149 14 = some ((.goto 4), 3) := mx_ins_of mi149 dX20_byteAt_14 rfl
theorem u149_14 : ev d 149 14 lo st h = ev d 149 18 lo st h := ev_goto n149_14 rfl
theorem n149_17 : mx_ins 149 17 = some ((.iconst (-1)), 1) := mx_ins_of mi149 dX20_byteAt_17 rfl
theorem u149_17 : ev d 149 17 lo st h = ev d 149 18 lo (.int (-1) :: st) h := (ev_s (f := mx_push (.int (-1))) n149_17 rfl rfl).trans es_push
theorem n149_18 : mx_ins 149 18 = some (.ireturn, 1) := mx_ins_of mi149 dX20_byteAt_18 rfl
theorem u149_18 : ev d 149 18 lo st h = evI d 149 18 19 lo st h .ireturn := ev_u n149_18 rfl
theorem mi150 : mx_mi 150 = some (yX20_isLetter, cX20_isLetter, 1, (Option.some Jvm.ClassFile.FieldType.boolean), 20, 1, []) := rfl
theorem ow150 : mx_own 150 = 20 := mx_mi_own mi150
theorem mm150 : mx_max 150 = 1 := mx_mi_max mi150
theorem rt150 : mx_ret 150 = (Option.some Jvm.ClassFile.FieldType.boolean) := mx_mi_ret mi150
theorem hn150 : mx_hnd 150 = [] := mx_mi_hnd mi150
theorem n150_0 : mx_ins 150 0 = some ((.iload_n 0), 1) := mx_ins_of mi150 dX20_isLetter_0 rfl
theorem u150_0 : ev d 150 0 lo st h = evS (mx_ldI 0) d 150 1 lo st h := ev_s n150_0 rfl rfl
theorem n150_1 : mx_ins 150 1 = some ((.bipush 97), 2) := mx_ins_of mi150 dX20_isLetter_1 rfl
theorem u150_1 : ev d 150 1 lo st h = ev d 150 3 lo (.int 97 :: st) h := (ev_s (f := mx_push (.int 97)) n150_1 rfl rfl).trans es_push
theorem n150_3 : mx_ins 150 3 = some ((.bipush 122), 2) := mx_ins_of mi150 dX20_isLetter_3 rfl
theorem u150_3 : ev d 150 3 lo st h = ev d 150 5 lo (.int 122 :: st) h := (ev_s (f := mx_push (.int 122)) n150_3 rfl rfl).trans es_push
theorem n150_5 : mx_ins 150 5 = some ((.invokestatic 100), 3) := mx_ins_of mi150 dX20_isLetter_5 rfl
theorem u150_5 : ev d 150 5 lo st h = evIn d 150 5 8 20 100 3 true lo st h := ev_inv n150_5 rfl rfl ow150 ia20_100
theorem n150_8 : mx_ins 150 8 = some (.ireturn, 1) := mx_ins_of mi150 dX20_isLetter_8 rfl
theorem u150_8 : ev d 150 8 lo st h = evI d 150 8 9 lo st h .ireturn := ev_u n150_8 rfl
theorem mi151 : mx_mi 151 = some (yX20_isDigit, cX20_isDigit, 1, (Option.some Jvm.ClassFile.FieldType.boolean), 20, 1, []) := rfl
theorem ow151 : mx_own 151 = 20 := mx_mi_own mi151
theorem mm151 : mx_max 151 = 1 := mx_mi_max mi151
theorem rt151 : mx_ret 151 = (Option.some Jvm.ClassFile.FieldType.boolean) := mx_mi_ret mi151
theorem hn151 : mx_hnd 151 = [] := mx_mi_hnd mi151
theorem n151_0 : mx_ins 151 0 = some ((.iload_n 0), 1) := mx_ins_of mi151 dX20_isDigit_0 rfl
theorem u151_0 : ev d 151 0 lo st h = evS (mx_ldI 0) d 151 1 lo st h := ev_s n151_0 rfl rfl
theorem n151_1 : mx_ins 151 1 = some ((.bipush 48), 2) := mx_ins_of mi151 dX20_isDigit_1 rfl
theorem u151_1 : ev d 151 1 lo st h = ev d 151 3 lo (.int 48 :: st) h := (ev_s (f := mx_push (.int 48)) n151_1 rfl rfl).trans es_push
theorem n151_3 : mx_ins 151 3 = some ((.bipush 57), 2) := mx_ins_of mi151 dX20_isDigit_3 rfl
theorem u151_3 : ev d 151 3 lo st h = ev d 151 5 lo (.int 57 :: st) h := (ev_s (f := mx_push (.int 57)) n151_3 rfl rfl).trans es_push
theorem n151_5 : mx_ins 151 5 = some ((.invokestatic 100), 3) := mx_ins_of mi151 dX20_isDigit_5 rfl
theorem u151_5 : ev d 151 5 lo st h = evIn d 151 5 8 20 100 3 true lo st h := ev_inv n151_5 rfl rfl ow151 ia20_100
theorem n151_8 : mx_ins 151 8 = some (.ireturn, 1) := mx_ins_of mi151 dX20_isDigit_8 rfl
theorem u151_8 : ev d 151 8 lo st h = evI d 151 8 9 lo st h .ireturn := ev_u n151_8 rfl
theorem mi152 : mx_mi 152 = some (yX20_wantClause, cX20_wantClause, 4, (none : Option FieldType), 20, 2, []) := rfl
theorem ow152 : mx_own 152 = 20 := mx_mi_own mi152
theorem mm152 : mx_max 152 = 4 := mx_mi_max mi152
theorem rt152 : mx_ret 152 = (none : Option FieldType) := mx_mi_ret mi152
theorem hn152 : mx_hnd 152 = [] := mx_mi_hnd mi152
theorem n152_0 : mx_ins 152 0 = some ((.aload_n 0), 1) := mx_ins_of mi152 dX20_wantClause_0 rfl
theorem u152_0 : ev d 152 0 lo st h = evS (mx_ldA 0) d 152 1 lo st h := ev_s n152_0 rfl rfl
theorem n152_1 : mx_ins 152 1 = some ((.invokevirtual 217), 3) := mx_ins_of mi152 dX20_wantClause_1 rfl
theorem u152_1 : ev d 152 1 lo st h = evIn d 152 1 4 20 217 1 false lo st h := ev_inv n152_1 rfl rfl ow152 ia20_217
theorem n152_4 : mx_ins 152 4 = some ((.istore_n 2), 1) := mx_ins_of mi152 dX20_wantClause_4 rfl
theorem u152_4 : ev d 152 4 lo st h = evS (mx_stI 2) d 152 5 lo st h := ev_s n152_4 rfl rfl
theorem n152_5 : mx_ins 152 5 = some ((.aload_n 0), 1) := mx_ins_of mi152 dX20_wantClause_5 rfl
theorem u152_5 : ev d 152 5 lo st h = evS (mx_ldA 0) d 152 6 lo st h := ev_s n152_5 rfl rfl
theorem n152_6 : mx_ins 152 6 = some ((.iload_n 1), 1) := mx_ins_of mi152 dX20_wantClause_6 rfl
theorem u152_6 : ev d 152 6 lo st h = evS (mx_ldI 1) d 152 7 lo st h := ev_s n152_6 rfl rfl
theorem n152_7 : mx_ins 152 7 = some ((.bipush 8), 2) := mx_ins_of mi152 dX20_wantClause_7 rfl
theorem u152_7 : ev d 152 7 lo st h = ev d 152 9 lo (.int 8 :: st) h := (ev_s (f := mx_push (.int 8)) n152_7 rfl rfl).trans es_push
theorem n152_9 : mx_ins 152 9 = some ((.if_icmp .ge 11), 3) := mx_ins_of mi152 dX20_wantClause_9 rfl
theorem u152_9 : ev d 152 9 lo st h = evK .ge d 152 20 12 lo st h := ev_ic n152_9 rfl rfl
theorem n152_12 : mx_ins 152 12 = some ((.iload_n 2), 1) := mx_ins_of mi152 dX20_wantClause_12 rfl
theorem u152_12 : ev d 152 12 lo st h = evS (mx_ldI 2) d 152 13 lo st h := ev_s n152_12 rfl rfl
theorem n152_13 : mx_ins 152 13 = some ((.ifCond .lt 7), 3) := mx_ins_of mi152 dX20_wantClause_13 rfl
theorem u152_13 : ev d 152 13 lo st h = evJ .lt d 152 20 16 lo st h := ev_if n152_13 rfl rfl
theorem n152_16 : mx_ins 152 16 = some ((.iconst 1), 1) := mx_ins_of mi152 dX20_wantClause_16 rfl
theorem u152_16 : ev d 152 16 lo st h = ev d 152 17 lo (.int 1 :: st) h := (ev_s (f := mx_push (.int 1)) n152_16 rfl rfl).trans es_push
theorem n152_17 : mx_ins 152 17 = some ((.goto 4), 3) := mx_ins_of mi152 dX20_wantClause_17 rfl
theorem u152_17 : ev d 152 17 lo st h = ev d 152 21 lo st h := ev_goto n152_17 rfl
theorem n152_20 : mx_ins 152 20 = some ((.iconst 0), 1) := mx_ins_of mi152 dX20_wantClause_20 rfl
theorem u152_20 : ev d 152 20 lo st h = ev d 152 21 lo (.int 0 :: st) h := (ev_s (f := mx_push (.int 0)) n152_20 rfl rfl).trans es_push
theorem n152_21 : mx_ins 152 21 = some ((.putfield 178), 3) := mx_ins_of mi152 dX20_wantClause_21 rfl
theorem u152_21 : ev d 152 21 lo st h = evS (mx_pf 20 178 false) d 152 24 lo st h := ev_s n152_21 rfl rfl
theorem n152_24 : mx_ins 152 24 = some ((.aload_n 0), 1) := mx_ins_of mi152 dX20_wantClause_24 rfl
theorem u152_24 : ev d 152 24 lo st h = evS (mx_ldA 0) d 152 25 lo st h := ev_s n152_24 rfl rfl
theorem n152_25 : mx_ins 152 25 = some ((.getfield 178), 3) := mx_ins_of mi152 dX20_wantClause_25 rfl
theorem u152_25 : ev d 152 25 lo st h = evS (mx_gf 20 178) d 152 28 lo st h := ev_s n152_25 rfl rfl
theorem n152_28 : mx_ins 152 28 = some ((.ifCond .eq 7), 3) := mx_ins_of mi152 dX20_wantClause_28 rfl
theorem u152_28 : ev d 152 28 lo st h = evJ .eq d 152 35 31 lo st h := ev_if n152_28 rfl rfl
theorem n152_31 : mx_ins 152 31 = some ((.aload_n 0), 1) := mx_ins_of mi152 dX20_wantClause_31 rfl
theorem u152_31 : ev d 152 31 lo st h = evS (mx_ldA 0) d 152 32 lo st h := ev_s n152_31 rfl rfl
theorem n152_32 : mx_ins 152 32 = some ((.invokevirtual 182), 3) := mx_ins_of mi152 dX20_wantClause_32 rfl
theorem u152_32 : ev d 152 32 lo st h = evIn d 152 32 35 20 182 1 false lo st h := ev_inv n152_32 rfl rfl ow152 ia20_182
theorem n152_35 : mx_ins 152 35 = some ((.aload_n 0), 1) := mx_ins_of mi152 dX20_wantClause_35 rfl
theorem u152_35 : ev d 152 35 lo st h = evS (mx_ldA 0) d 152 36 lo st h := ev_s n152_35 rfl rfl
theorem n152_36 : mx_ins 152 36 = some ((.getfield 161), 3) := mx_ins_of mi152 dX20_wantClause_36 rfl
theorem u152_36 : ev d 152 36 lo st h = evS (mx_gf 20 161) d 152 39 lo st h := ev_s n152_36 rfl rfl
theorem n152_39 : mx_ins 152 39 = some ((.istore_n 3), 1) := mx_ins_of mi152 dX20_wantClause_39 rfl
theorem u152_39 : ev d 152 39 lo st h = evS (mx_stI 3) d 152 40 lo st h := ev_s n152_39 rfl rfl
theorem n152_40 : mx_ins 152 40 = some ((.aload_n 0), 1) := mx_ins_of mi152 dX20_wantClause_40 rfl
theorem u152_40 : ev d 152 40 lo st h = evS (mx_ldA 0) d 152 41 lo st h := ev_s n152_40 rfl rfl
theorem n152_41 : mx_ins 152 41 = some ((.aload_n 0), 1) := mx_ins_of mi152 dX20_wantClause_41 rfl
theorem u152_41 : ev d 152 41 lo st h = evS (mx_ldA 0) d 152 42 lo st h := ev_s n152_41 rfl rfl
theorem n152_42 : mx_ins 152 42 = some ((.getfield 178), 3) := mx_ins_of mi152 dX20_wantClause_42 rfl
theorem u152_42 : ev d 152 42 lo st h = evS (mx_gf 20 178) d 152 45 lo st h := ev_s n152_42 rfl rfl
theorem n152_45 : mx_ins 152 45 = some ((.ifCond .eq 17), 3) := mx_ins_of mi152 dX20_wantClause_45 rfl
theorem u152_45 : ev d 152 45 lo st h = evJ .eq d 152 62 48 lo st h := ev_if n152_45 rfl rfl
theorem n152_48 : mx_ins 152 48 = some ((.aload_n 0), 1) := mx_ins_of mi152 dX20_wantClause_48 rfl
theorem u152_48 : ev d 152 48 lo st h = evS (mx_ldA 0) d 152 49 lo st h := ev_s n152_48 rfl rfl
theorem n152_49 : mx_ins 152 49 = some ((.ldc2_w 220), 3) := mx_ins_of mi152 dX20_wantClause_49 rfl
theorem u152_49 : ev d 152 49 lo st h = ev d 152 52 lo (.long 249 :: st) h := (ev_s (f := mx_push (.long 249)) n152_49 rfl rfl).trans es_push
theorem n152_52 : mx_ins 152 52 = some ((.invokevirtual 147), 3) := mx_ins_of mi152 dX20_wantClause_52 rfl
theorem u152_52 : ev d 152 52 lo st h = evIn d 152 52 55 20 147 2 false lo st h := ev_inv n152_52 rfl rfl ow152 ia20_147
theorem n152_55 : mx_ins 152 55 = some ((.ifCond .eq 7), 3) := mx_ins_of mi152 dX20_wantClause_55 rfl
theorem u152_55 : ev d 152 55 lo st h = evJ .eq d 152 62 58 lo st h := ev_if n152_55 rfl rfl
theorem n152_58 : mx_ins 152 58 = some ((.iconst 1), 1) := mx_ins_of mi152 dX20_wantClause_58 rfl
theorem u152_58 : ev d 152 58 lo st h = ev d 152 59 lo (.int 1 :: st) h := (ev_s (f := mx_push (.int 1)) n152_58 rfl rfl).trans es_push
theorem n152_59 : mx_ins 152 59 = some ((.goto 4), 3) := mx_ins_of mi152 dX20_wantClause_59 rfl
theorem u152_59 : ev d 152 59 lo st h = ev d 152 63 lo st h := ev_goto n152_59 rfl
theorem n152_62 : mx_ins 152 62 = some ((.iconst 0), 1) := mx_ins_of mi152 dX20_wantClause_62 rfl
theorem u152_62 : ev d 152 62 lo st h = ev d 152 63 lo (.int 0 :: st) h := (ev_s (f := mx_push (.int 0)) n152_62 rfl rfl).trans es_push
theorem n152_63 : mx_ins 152 63 = some ((.putfield 178), 3) := mx_ins_of mi152 dX20_wantClause_63 rfl
theorem u152_63 : ev d 152 63 lo st h = evS (mx_pf 20 178 false) d 152 66 lo st h := ev_s n152_63 rfl rfl
theorem n152_66 : mx_ins 152 66 = some ((.aload_n 0), 1) := mx_ins_of mi152 dX20_wantClause_66 rfl
theorem u152_66 : ev d 152 66 lo st h = evS (mx_ldA 0) d 152 67 lo st h := ev_s n152_66 rfl rfl
theorem n152_67 : mx_ins 152 67 = some ((.getfield 178), 3) := mx_ins_of mi152 dX20_wantClause_67 rfl
theorem u152_67 : ev d 152 67 lo st h = evS (mx_gf 20 178) d 152 70 lo st h := ev_s n152_67 rfl rfl
theorem n152_70 : mx_ins 152 70 = some ((.ifCond .eq 20), 3) := mx_ins_of mi152 dX20_wantClause_70 rfl
theorem u152_70 : ev d 152 70 lo st h = evJ .eq d 152 90 73 lo st h := ev_if n152_70 rfl rfl
theorem n152_73 : mx_ins 152 73 = some ((.aload_n 0), 1) := mx_ins_of mi152 dX20_wantClause_73 rfl
theorem u152_73 : ev d 152 73 lo st h = evS (mx_ldA 0) d 152 74 lo st h := ev_s n152_73 rfl rfl
theorem n152_74 : mx_ins 152 74 = some ((.invokevirtual 182), 3) := mx_ins_of mi152 dX20_wantClause_74 rfl
theorem u152_74 : ev d 152 74 lo st h = evIn d 152 74 77 20 182 1 false lo st h := ev_inv n152_74 rfl rfl ow152 ia20_182
theorem n152_77 : mx_ins 152 77 = some ((.aload_n 0), 1) := mx_ins_of mi152 dX20_wantClause_77 rfl
theorem u152_77 : ev d 152 77 lo st h = evS (mx_ldA 0) d 152 78 lo st h := ev_s n152_77 rfl rfl
theorem n152_78 : mx_ins 152 78 = some ((.ldc2_w 222), 3) := mx_ins_of mi152 dX20_wantClause_78 rfl
theorem u152_78 : ev d 152 78 lo st h = ev d 152 81 lo (.long 10631 :: st) h := (ev_s (f := mx_push (.long 10631)) n152_78 rfl rfl).trans es_push
theorem n152_81 : mx_ins 152 81 = some ((.ldc2_w 224), 3) := mx_ins_of mi152 dX20_wantClause_81 rfl
theorem u152_81 : ev d 152 81 lo st h = ev d 152 84 lo (.long 1111 :: st) h := (ev_s (f := mx_push (.long 1111)) n152_81 rfl rfl).trans es_push
theorem n152_84 : mx_ins 152 84 = some ((.ldc2_w 226), 3) := mx_ins_of mi152 dX20_wantClause_84 rfl
theorem u152_84 : ev d 152 84 lo st h = ev d 152 87 lo (.long 423 :: st) h := (ev_s (f := mx_push (.long 423)) n152_84 rfl rfl).trans es_push
theorem n152_87 : mx_ins 152 87 = some ((.invokevirtual 228), 3) := mx_ins_of mi152 dX20_wantClause_87 rfl
theorem u152_87 : ev d 152 87 lo st h = evIn d 152 87 90 20 228 4 false lo st h := ev_inv n152_87 rfl rfl ow152 ia20_228
theorem n152_90 : mx_ins 152 90 = some ((.aload_n 0), 1) := mx_ins_of mi152 dX20_wantClause_90 rfl
theorem u152_90 : ev d 152 90 lo st h = evS (mx_ldA 0) d 152 91 lo st h := ev_s n152_90 rfl rfl
theorem n152_91 : mx_ins 152 91 = some ((.aload_n 0), 1) := mx_ins_of mi152 dX20_wantClause_91 rfl
theorem u152_91 : ev d 152 91 lo st h = evS (mx_ldA 0) d 152 92 lo st h := ev_s n152_91 rfl rfl
theorem n152_92 : mx_ins 152 92 = some ((.getfield 178), 3) := mx_ins_of mi152 dX20_wantClause_92 rfl
theorem u152_92 : ev d 152 92 lo st h = evS (mx_gf 20 178) d 152 95 lo st h := ev_s n152_92 rfl rfl
theorem n152_95 : mx_ins 152 95 = some ((.ifCond .eq 16), 3) := mx_ins_of mi152 dX20_wantClause_95 rfl
theorem u152_95 : ev d 152 95 lo st h = evJ .eq d 152 111 98 lo st h := ev_if n152_95 rfl rfl
theorem n152_98 : mx_ins 152 98 = some ((.aload_n 0), 1) := mx_ins_of mi152 dX20_wantClause_98 rfl
theorem u152_98 : ev d 152 98 lo st h = evS (mx_ldA 0) d 152 99 lo st h := ev_s n152_98 rfl rfl
theorem n152_99 : mx_ins 152 99 = some ((.bipush 59), 2) := mx_ins_of mi152 dX20_wantClause_99 rfl
theorem u152_99 : ev d 152 99 lo st h = ev d 152 101 lo (.int 59 :: st) h := (ev_s (f := mx_push (.int 59)) n152_99 rfl rfl).trans es_push
theorem n152_101 : mx_ins 152 101 = some ((.invokevirtual 188), 3) := mx_ins_of mi152 dX20_wantClause_101 rfl
theorem u152_101 : ev d 152 101 lo st h = evIn d 152 101 104 20 188 2 false lo st h := ev_inv n152_101 rfl rfl ow152 ia20_188
theorem n152_104 : mx_ins 152 104 = some ((.ifCond .eq 7), 3) := mx_ins_of mi152 dX20_wantClause_104 rfl
theorem u152_104 : ev d 152 104 lo st h = evJ .eq d 152 111 107 lo st h := ev_if n152_104 rfl rfl
theorem n152_107 : mx_ins 152 107 = some ((.iconst 1), 1) := mx_ins_of mi152 dX20_wantClause_107 rfl
theorem u152_107 : ev d 152 107 lo st h = ev d 152 108 lo (.int 1 :: st) h := (ev_s (f := mx_push (.int 1)) n152_107 rfl rfl).trans es_push
theorem n152_108 : mx_ins 152 108 = some ((.goto 4), 3) := mx_ins_of mi152 dX20_wantClause_108 rfl
theorem u152_108 : ev d 152 108 lo st h = ev d 152 112 lo st h := ev_goto n152_108 rfl
theorem n152_111 : mx_ins 152 111 = some ((.iconst 0), 1) := mx_ins_of mi152 dX20_wantClause_111 rfl
theorem u152_111 : ev d 152 111 lo st h = ev d 152 112 lo (.int 0 :: st) h := (ev_s (f := mx_push (.int 0)) n152_111 rfl rfl).trans es_push
theorem n152_112 : mx_ins 152 112 = some ((.putfield 178), 3) := mx_ins_of mi152 dX20_wantClause_112 rfl
theorem u152_112 : ev d 152 112 lo st h = evS (mx_pf 20 178 false) d 152 115 lo st h := ev_s n152_112 rfl rfl
theorem n152_115 : mx_ins 152 115 = some ((.aload_n 0), 1) := mx_ins_of mi152 dX20_wantClause_115 rfl
theorem u152_115 : ev d 152 115 lo st h = evS (mx_ldA 0) d 152 116 lo st h := ev_s n152_115 rfl rfl
theorem n152_116 : mx_ins 152 116 = some ((.getfield 178), 3) := mx_ins_of mi152 dX20_wantClause_116 rfl
theorem u152_116 : ev d 152 116 lo st h = evS (mx_gf 20 178) d 152 119 lo st h := ev_s n152_116 rfl rfl
theorem n152_119 : mx_ins 152 119 = some ((.ifCond .eq 41), 3) := mx_ins_of mi152 dX20_wantClause_119 rfl
theorem u152_119 : ev d 152 119 lo st h = evJ .eq d 152 160 122 lo st h := ev_if n152_119 rfl rfl
theorem n152_122 : mx_ins 152 122 = some ((.aload_n 0), 1) := mx_ins_of mi152 dX20_wantClause_122 rfl
theorem u152_122 : ev d 152 122 lo st h = evS (mx_ldA 0) d 152 123 lo st h := ev_s n152_122 rfl rfl
theorem n152_123 : mx_ins 152 123 = some ((.invokevirtual 182), 3) := mx_ins_of mi152 dX20_wantClause_123 rfl
theorem u152_123 : ev d 152 123 lo st h = evIn d 152 123 126 20 182 1 false lo st h := ev_inv n152_123 rfl rfl ow152 ia20_182
theorem n152_126 : mx_ins 152 126 = some ((.aload_n 0), 1) := mx_ins_of mi152 dX20_wantClause_126 rfl
theorem u152_126 : ev d 152 126 lo st h = evS (mx_ldA 0) d 152 127 lo st h := ev_s n152_126 rfl rfl
theorem n152_127 : mx_ins 152 127 = some ((.getfield 63), 3) := mx_ins_of mi152 dX20_wantClause_127 rfl
theorem u152_127 : ev d 152 127 lo st h = evS (mx_gf 20 63) d 152 130 lo st h := ev_s n152_127 rfl rfl
theorem n152_130 : mx_ins 152 130 = some ((.iconst 3), 1) := mx_ins_of mi152 dX20_wantClause_130 rfl
theorem u152_130 : ev d 152 130 lo st h = ev d 152 131 lo (.int 3 :: st) h := (ev_s (f := mx_push (.int 3)) n152_130 rfl rfl).trans es_push
theorem n152_131 : mx_ins 152 131 = some ((.iload_n 1), 1) := mx_ins_of mi152 dX20_wantClause_131 rfl
theorem u152_131 : ev d 152 131 lo st h = evS (mx_ldI 1) d 152 132 lo st h := ev_s n152_131 rfl rfl
theorem n152_132 : mx_ins 152 132 = some (.imul, 1) := mx_ins_of mi152 dX20_wantClause_132 rfl
theorem u152_132 : ev d 152 132 lo st h = evI d 152 132 133 lo st h .imul := ev_u n152_132 rfl
theorem n152_133 : mx_ins 152 133 = some ((.iload_n 2), 1) := mx_ins_of mi152 dX20_wantClause_133 rfl
theorem u152_133 : ev d 152 133 lo st h = evS (mx_ldI 2) d 152 134 lo st h := ev_s n152_133 rfl rfl
theorem n152_134 : mx_ins 152 134 = some (.iastore, 1) := mx_ins_of mi152 dX20_wantClause_134 rfl
theorem u152_134 : ev d 152 134 lo st h = evI d 152 134 135 lo st h .iastore := ev_u n152_134 rfl
theorem n152_135 : mx_ins 152 135 = some ((.aload_n 0), 1) := mx_ins_of mi152 dX20_wantClause_135 rfl
theorem u152_135 : ev d 152 135 lo st h = evS (mx_ldA 0) d 152 136 lo st h := ev_s n152_135 rfl rfl
theorem n152_136 : mx_ins 152 136 = some ((.getfield 63), 3) := mx_ins_of mi152 dX20_wantClause_136 rfl
theorem u152_136 : ev d 152 136 lo st h = evS (mx_gf 20 63) d 152 139 lo st h := ev_s n152_136 rfl rfl
theorem n152_139 : mx_ins 152 139 = some ((.iconst 3), 1) := mx_ins_of mi152 dX20_wantClause_139 rfl
theorem u152_139 : ev d 152 139 lo st h = ev d 152 140 lo (.int 3 :: st) h := (ev_s (f := mx_push (.int 3)) n152_139 rfl rfl).trans es_push
theorem n152_140 : mx_ins 152 140 = some ((.iload_n 1), 1) := mx_ins_of mi152 dX20_wantClause_140 rfl
theorem u152_140 : ev d 152 140 lo st h = evS (mx_ldI 1) d 152 141 lo st h := ev_s n152_140 rfl rfl
theorem n152_141 : mx_ins 152 141 = some (.imul, 1) := mx_ins_of mi152 dX20_wantClause_141 rfl
theorem u152_141 : ev d 152 141 lo st h = evI d 152 141 142 lo st h .imul := ev_u n152_141 rfl
theorem n152_142 : mx_ins 152 142 = some ((.iconst 1), 1) := mx_ins_of mi152 dX20_wantClause_142 rfl
theorem u152_142 : ev d 152 142 lo st h = ev d 152 143 lo (.int 1 :: st) h := (ev_s (f := mx_push (.int 1)) n152_142 rfl rfl).trans es_push
theorem n152_143 : mx_ins 152 143 = some (.iadd, 1) := mx_ins_of mi152 dX20_wantClause_143 rfl
theorem u152_143 : ev d 152 143 lo st h = evI d 152 143 144 lo st h .iadd := ev_u n152_143 rfl
theorem n152_144 : mx_ins 152 144 = some ((.iload_n 3), 1) := mx_ins_of mi152 dX20_wantClause_144 rfl
theorem u152_144 : ev d 152 144 lo st h = evS (mx_ldI 3) d 152 145 lo st h := ev_s n152_144 rfl rfl
theorem n152_145 : mx_ins 152 145 = some (.iastore, 1) := mx_ins_of mi152 dX20_wantClause_145 rfl
theorem u152_145 : ev d 152 145 lo st h = evI d 152 145 146 lo st h .iastore := ev_u n152_145 rfl
theorem n152_146 : mx_ins 152 146 = some ((.aload_n 0), 1) := mx_ins_of mi152 dX20_wantClause_146 rfl
theorem u152_146 : ev d 152 146 lo st h = evS (mx_ldA 0) d 152 147 lo st h := ev_s n152_146 rfl rfl
theorem n152_147 : mx_ins 152 147 = some ((.getfield 63), 3) := mx_ins_of mi152 dX20_wantClause_147 rfl
theorem u152_147 : ev d 152 147 lo st h = evS (mx_gf 20 63) d 152 150 lo st h := ev_s n152_147 rfl rfl
theorem n152_150 : mx_ins 152 150 = some ((.iconst 3), 1) := mx_ins_of mi152 dX20_wantClause_150 rfl
theorem u152_150 : ev d 152 150 lo st h = ev d 152 151 lo (.int 3 :: st) h := (ev_s (f := mx_push (.int 3)) n152_150 rfl rfl).trans es_push
theorem n152_151 : mx_ins 152 151 = some ((.iload_n 1), 1) := mx_ins_of mi152 dX20_wantClause_151 rfl
theorem u152_151 : ev d 152 151 lo st h = evS (mx_ldI 1) d 152 152 lo st h := ev_s n152_151 rfl rfl
theorem n152_152 : mx_ins 152 152 = some (.imul, 1) := mx_ins_of mi152 dX20_wantClause_152 rfl
theorem u152_152 : ev d 152 152 lo st h = evI d 152 152 153 lo st h .imul := ev_u n152_152 rfl
theorem n152_153 : mx_ins 152 153 = some ((.iconst 2), 1) := mx_ins_of mi152 dX20_wantClause_153 rfl
theorem u152_153 : ev d 152 153 lo st h = ev d 152 154 lo (.int 2 :: st) h := (ev_s (f := mx_push (.int 2)) n152_153 rfl rfl).trans es_push
theorem n152_154 : mx_ins 152 154 = some (.iadd, 1) := mx_ins_of mi152 dX20_wantClause_154 rfl
theorem u152_154 : ev d 152 154 lo st h = evI d 152 154 155 lo st h .iadd := ev_u n152_154 rfl
theorem n152_155 : mx_ins 152 155 = some ((.aload_n 0), 1) := mx_ins_of mi152 dX20_wantClause_155 rfl
theorem u152_155 : ev d 152 155 lo st h = evS (mx_ldA 0) d 152 156 lo st h := ev_s n152_155 rfl rfl
theorem n152_156 : mx_ins 152 156 = some ((.getfield 161), 3) := mx_ins_of mi152 dX20_wantClause_156 rfl
theorem u152_156 : ev d 152 156 lo st h = evS (mx_gf 20 161) d 152 159 lo st h := ev_s n152_156 rfl rfl
theorem n152_159 : mx_ins 152 159 = some (.iastore, 1) := mx_ins_of mi152 dX20_wantClause_159 rfl
theorem u152_159 : ev d 152 159 lo st h = evI d 152 159 160 lo st h .iastore := ev_u n152_159 rfl
theorem n152_160 : mx_ins 152 160 = some (.return_, 1) := mx_ins_of mi152 dX20_wantClause_160 rfl
theorem u152_160 : ev d 152 160 lo st h = evI d 152 160 161 lo st h .return_ := ev_u n152_160 rfl
theorem mi153 : mx_mi 153 = some (yX20_doingHere, cX20_doingHere, 1, (Option.some Jvm.ClassFile.FieldType.int), 20, 1, []) := rfl
theorem ow153 : mx_own 153 = 20 := mx_mi_own mi153
theorem mm153 : mx_max 153 = 1 := mx_mi_max mi153
theorem rt153 : mx_ret 153 = (Option.some Jvm.ClassFile.FieldType.int) := mx_mi_ret mi153
theorem hn153 : mx_hnd 153 = [] := mx_mi_hnd mi153
theorem n153_0 : mx_ins 153 0 = some ((.aload_n 0), 1) := mx_ins_of mi153 dX20_doingHere_0 rfl
theorem u153_0 : ev d 153 0 lo st h = evS (mx_ldA 0) d 153 1 lo st h := ev_s n153_0 rfl rfl
theorem n153_1 : mx_ins 153 1 = some ((.ldc2_w 207), 3) := mx_ins_of mi153 dX20_doingHere_1 rfl
theorem u153_1 : ev d 153 1 lo st h = ev d 153 4 lo (.long 453740 :: st) h := (ev_s (f := mx_push (.long 453740)) n153_1 rfl rfl).trans es_push
theorem n153_4 : mx_ins 153 4 = some ((.invokevirtual 147), 3) := mx_ins_of mi153 dX20_doingHere_4 rfl
theorem u153_4 : ev d 153 4 lo st h = evIn d 153 4 7 20 147 2 false lo st h := ev_inv n153_4 rfl rfl ow153 ia20_147
theorem n153_7 : mx_ins 153 7 = some ((.ifCond .eq 7), 3) := mx_ins_of mi153 dX20_doingHere_7 rfl
theorem u153_7 : ev d 153 7 lo st h = evJ .eq d 153 14 10 lo st h := ev_if n153_7 rfl rfl
theorem n153_10 : mx_ins 153 10 = some ((.iconst 0), 1) := mx_ins_of mi153 dX20_doingHere_10 rfl
theorem u153_10 : ev d 153 10 lo st h = ev d 153 11 lo (.int 0 :: st) h := (ev_s (f := mx_push (.int 0)) n153_10 rfl rfl).trans es_push
theorem n153_11 : mx_ins 153 11 = some ((.goto 60), 3) := mx_ins_of mi153 dX20_doingHere_11 rfl
theorem u153_11 : ev d 153 11 lo st h = ev d 153 71 lo st h := ev_goto n153_11 rfl
theorem n153_14 : mx_ins 153 14 = some ((.aload_n 0), 1) := mx_ins_of mi153 dX20_doingHere_14 rfl
theorem u153_14 : ev d 153 14 lo st h = evS (mx_ldA 0) d 153 15 lo st h := ev_s n153_14 rfl rfl
theorem n153_15 : mx_ins 153 15 = some ((.ldc2_w 209), 3) := mx_ins_of mi153 dX20_doingHere_15 rfl
theorem u153_15 : ev d 153 15 lo st h = ev d 153 18 lo (.long 379948 :: st) h := (ev_s (f := mx_push (.long 379948)) n153_15 rfl rfl).trans es_push
theorem n153_18 : mx_ins 153 18 = some ((.invokevirtual 147), 3) := mx_ins_of mi153 dX20_doingHere_18 rfl
theorem u153_18 : ev d 153 18 lo st h = evIn d 153 18 21 20 147 2 false lo st h := ev_inv n153_18 rfl rfl ow153 ia20_147
theorem n153_21 : mx_ins 153 21 = some ((.ifCond .eq 7), 3) := mx_ins_of mi153 dX20_doingHere_21 rfl
theorem u153_21 : ev d 153 21 lo st h = evJ .eq d 153 28 24 lo st h := ev_if n153_21 rfl rfl
theorem n153_24 : mx_ins 153 24 = some ((.iconst 1), 1) := mx_ins_of mi153 dX20_doingHere_24 rfl
theorem u153_24 : ev d 153 24 lo st h = ev d 153 25 lo (.int 1 :: st) h := (ev_s (f := mx_push (.int 1)) n153_24 rfl rfl).trans es_push
theorem n153_25 : mx_ins 153 25 = some ((.goto 46), 3) := mx_ins_of mi153 dX20_doingHere_25 rfl
theorem u153_25 : ev d 153 25 lo st h = ev d 153 71 lo st h := ev_goto n153_25 rfl
theorem n153_28 : mx_ins 153 28 = some ((.aload_n 0), 1) := mx_ins_of mi153 dX20_doingHere_28 rfl
theorem u153_28 : ev d 153 28 lo st h = evS (mx_ldA 0) d 153 29 lo st h := ev_s n153_28 rfl rfl
theorem n153_29 : mx_ins 153 29 = some ((.ldc2_w 211), 3) := mx_ins_of mi153 dX20_doingHere_29 rfl
theorem u153_29 : ev d 153 29 lo st h = ev d 153 32 lo (.long 1887 :: st) h := (ev_s (f := mx_push (.long 1887)) n153_29 rfl rfl).trans es_push
theorem n153_32 : mx_ins 153 32 = some ((.invokevirtual 147), 3) := mx_ins_of mi153 dX20_doingHere_32 rfl
theorem u153_32 : ev d 153 32 lo st h = evIn d 153 32 35 20 147 2 false lo st h := ev_inv n153_32 rfl rfl ow153 ia20_147
theorem n153_35 : mx_ins 153 35 = some ((.ifCond .eq 7), 3) := mx_ins_of mi153 dX20_doingHere_35 rfl
theorem u153_35 : ev d 153 35 lo st h = evJ .eq d 153 42 38 lo st h := ev_if n153_35 rfl rfl
theorem n153_38 : mx_ins 153 38 = some ((.iconst 2), 1) := mx_ins_of mi153 dX20_doingHere_38 rfl
theorem u153_38 : ev d 153 38 lo st h = ev d 153 39 lo (.int 2 :: st) h := (ev_s (f := mx_push (.int 2)) n153_38 rfl rfl).trans es_push
theorem n153_39 : mx_ins 153 39 = some ((.goto 32), 3) := mx_ins_of mi153 dX20_doingHere_39 rfl
theorem u153_39 : ev d 153 39 lo st h = ev d 153 71 lo st h := ev_goto n153_39 rfl
theorem n153_42 : mx_ins 153 42 = some ((.aload_n 0), 1) := mx_ins_of mi153 dX20_doingHere_42 rfl
theorem u153_42 : ev d 153 42 lo st h = evS (mx_ldA 0) d 153 43 lo st h := ev_s n153_42 rfl rfl
theorem n153_43 : mx_ins 153 43 = some ((.ldc2_w 213), 3) := mx_ins_of mi153 dX20_doingHere_43 rfl
theorem u153_43 : ev d 153 43 lo st h = ev d 153 46 lo (.long 95839637 :: st) h := (ev_s (f := mx_push (.long 95839637)) n153_43 rfl rfl).trans es_push
theorem n153_46 : mx_ins 153 46 = some ((.invokevirtual 147), 3) := mx_ins_of mi153 dX20_doingHere_46 rfl
theorem u153_46 : ev d 153 46 lo st h = evIn d 153 46 49 20 147 2 false lo st h := ev_inv n153_46 rfl rfl ow153 ia20_147
theorem n153_49 : mx_ins 153 49 = some ((.ifCond .eq 7), 3) := mx_ins_of mi153 dX20_doingHere_49 rfl
theorem u153_49 : ev d 153 49 lo st h = evJ .eq d 153 56 52 lo st h := ev_if n153_49 rfl rfl
theorem n153_52 : mx_ins 153 52 = some ((.iconst 3), 1) := mx_ins_of mi153 dX20_doingHere_52 rfl
theorem u153_52 : ev d 153 52 lo st h = ev d 153 53 lo (.int 3 :: st) h := (ev_s (f := mx_push (.int 3)) n153_52 rfl rfl).trans es_push
theorem n153_53 : mx_ins 153 53 = some ((.goto 18), 3) := mx_ins_of mi153 dX20_doingHere_53 rfl
theorem u153_53 : ev d 153 53 lo st h = ev d 153 71 lo st h := ev_goto n153_53 rfl
theorem n153_56 : mx_ins 153 56 = some ((.aload_n 0), 1) := mx_ins_of mi153 dX20_doingHere_56 rfl
theorem u153_56 : ev d 153 56 lo st h = evS (mx_ldA 0) d 153 57 lo st h := ev_s n153_56 rfl rfl
theorem n153_57 : mx_ins 153 57 = some ((.ldc2_w 215), 3) := mx_ins_of mi153 dX20_doingHere_57 rfl
theorem u153_57 : ev d 153 57 lo st h = ev d 153 60 lo (.long 110319223 :: st) h := (ev_s (f := mx_push (.long 110319223)) n153_57 rfl rfl).trans es_push
theorem n153_60 : mx_ins 153 60 = some ((.invokevirtual 147), 3) := mx_ins_of mi153 dX20_doingHere_60 rfl
theorem u153_60 : ev d 153 60 lo st h = evIn d 153 60 63 20 147 2 false lo st h := ev_inv n153_60 rfl rfl ow153 ia20_147
theorem n153_63 : mx_ins 153 63 = some ((.ifCond .eq 7), 3) := mx_ins_of mi153 dX20_doingHere_63 rfl
theorem u153_63 : ev d 153 63 lo st h = evJ .eq d 153 70 66 lo st h := ev_if n153_63 rfl rfl
theorem n153_66 : mx_ins 153 66 = some ((.iconst 4), 1) := mx_ins_of mi153 dX20_doingHere_66 rfl
theorem u153_66 : ev d 153 66 lo st h = ev d 153 67 lo (.int 4 :: st) h := (ev_s (f := mx_push (.int 4)) n153_66 rfl rfl).trans es_push
theorem n153_67 : mx_ins 153 67 = some ((.goto 4), 3) := mx_ins_of mi153 dX20_doingHere_67 rfl
theorem u153_67 : ev d 153 67 lo st h = ev d 153 71 lo st h := ev_goto n153_67 rfl
theorem n153_70 : mx_ins 153 70 = some ((.iconst (-1)), 1) := mx_ins_of mi153 dX20_doingHere_70 rfl
theorem u153_70 : ev d 153 70 lo st h = ev d 153 71 lo (.int (-1) :: st) h := (ev_s (f := mx_push (.int (-1))) n153_70 rfl rfl).trans es_push
theorem n153_71 : mx_ins 153 71 = some (.ireturn, 1) := mx_ins_of mi153 dX20_doingHere_71 rfl
theorem u153_71 : ev d 153 71 lo st h = evI d 153 71 72 lo st h .ireturn := ev_u n153_71 rfl
theorem mi154 : mx_mi 154 = some (yX20_isWord, cX20_isWord, 3, (Option.some Jvm.ClassFile.FieldType.boolean), 20, 2, []) := rfl
theorem ow154 : mx_own 154 = 20 := mx_mi_own mi154
theorem mm154 : mx_max 154 = 3 := mx_mi_max mi154
theorem rt154 : mx_ret 154 = (Option.some Jvm.ClassFile.FieldType.boolean) := mx_mi_ret mi154
theorem hn154 : mx_hnd 154 = [] := mx_mi_hnd mi154
theorem n154_0 : mx_ins 154 0 = some ((.aload_n 0), 1) := mx_ins_of mi154 dX20_isWord_0 rfl
theorem u154_0 : ev d 154 0 lo st h = evS (mx_ldA 0) d 154 1 lo st h := ev_s n154_0 rfl rfl
theorem n154_1 : mx_ins 154 1 = some ((.getfield 129), 3) := mx_ins_of mi154 dX20_isWord_1 rfl
theorem u154_1 : ev d 154 1 lo st h = evS (mx_gf 20 129) d 154 4 lo st h := ev_s n154_1 rfl rfl
theorem n154_4 : mx_ins 154 4 = some ((.iconst 1), 1) := mx_ins_of mi154 dX20_isWord_4 rfl
theorem u154_4 : ev d 154 4 lo st h = ev d 154 5 lo (.int 1 :: st) h := (ev_s (f := mx_push (.int 1)) n154_4 rfl rfl).trans es_push
theorem n154_5 : mx_ins 154 5 = some ((.if_icmp .ne 16), 3) := mx_ins_of mi154 dX20_isWord_5 rfl
theorem u154_5 : ev d 154 5 lo st h = evK .ne d 154 21 8 lo st h := ev_ic n154_5 rfl rfl
theorem n154_8 : mx_ins 154 8 = some ((.aload_n 0), 1) := mx_ins_of mi154 dX20_isWord_8 rfl
theorem u154_8 : ev d 154 8 lo st h = evS (mx_ldA 0) d 154 9 lo st h := ev_s n154_8 rfl rfl
theorem n154_9 : mx_ins 154 9 = some ((.getfield 132), 3) := mx_ins_of mi154 dX20_isWord_9 rfl
theorem u154_9 : ev d 154 9 lo st h = evS (mx_gf 20 132) d 154 12 lo st h := ev_s n154_9 rfl rfl
theorem n154_12 : mx_ins 154 12 = some ((.lload_n 1), 1) := mx_ins_of mi154 dX20_isWord_12 rfl
theorem u154_12 : ev d 154 12 lo st h = evS (mx_ldL 1) d 154 13 lo st h := ev_s n154_12 rfl rfl
theorem n154_13 : mx_ins 154 13 = some (.lcmp, 1) := mx_ins_of mi154 dX20_isWord_13 rfl
theorem u154_13 : ev d 154 13 lo st h = evI d 154 13 14 lo st h .lcmp := ev_u n154_13 rfl
theorem n154_14 : mx_ins 154 14 = some ((.ifCond .ne 7), 3) := mx_ins_of mi154 dX20_isWord_14 rfl
theorem u154_14 : ev d 154 14 lo st h = evJ .ne d 154 21 17 lo st h := ev_if n154_14 rfl rfl
theorem n154_17 : mx_ins 154 17 = some ((.iconst 1), 1) := mx_ins_of mi154 dX20_isWord_17 rfl
theorem u154_17 : ev d 154 17 lo st h = ev d 154 18 lo (.int 1 :: st) h := (ev_s (f := mx_push (.int 1)) n154_17 rfl rfl).trans es_push
theorem n154_18 : mx_ins 154 18 = some ((.goto 4), 3) := mx_ins_of mi154 dX20_isWord_18 rfl
theorem u154_18 : ev d 154 18 lo st h = ev d 154 22 lo st h := ev_goto n154_18 rfl
theorem n154_21 : mx_ins 154 21 = some ((.iconst 0), 1) := mx_ins_of mi154 dX20_isWord_21 rfl
theorem u154_21 : ev d 154 21 lo st h = ev d 154 22 lo (.int 0 :: st) h := (ev_s (f := mx_push (.int 0)) n154_21 rfl rfl).trans es_push
theorem n154_22 : mx_ins 154 22 = some (.ireturn, 1) := mx_ins_of mi154 dX20_isWord_22 rfl
theorem u154_22 : ev d 154 22 lo st h = evI d 154 22 23 lo st h .ireturn := ev_u n154_22 rfl
theorem mi155 : mx_mi 155 = some (yX20_wantCond, cX20_wantCond, 10, (none : Option FieldType), 20, 4, []) := rfl
theorem ow155 : mx_own 155 = 20 := mx_mi_own mi155
theorem mm155 : mx_max 155 = 10 := mx_mi_max mi155
theorem rt155 : mx_ret 155 = (none : Option FieldType) := mx_mi_ret mi155
theorem hn155 : mx_hnd 155 = [] := mx_mi_hnd mi155
theorem n155_0 : mx_ins 155 0 = some ((.aload_n 0), 1) := mx_ins_of mi155 dX20_wantCond_0 rfl
theorem u155_0 : ev d 155 0 lo st h = evS (mx_ldA 0) d 155 1 lo st h := ev_s n155_0 rfl rfl
theorem n155_1 : mx_ins 155 1 = some ((.iconst 0), 1) := mx_ins_of mi155 dX20_wantCond_1 rfl
theorem u155_1 : ev d 155 1 lo st h = ev d 155 2 lo (.int 0 :: st) h := (ev_s (f := mx_push (.int 0)) n155_1 rfl rfl).trans es_push
theorem n155_2 : mx_ins 155 2 = some ((.putfield 164), 3) := mx_ins_of mi155 dX20_wantCond_2 rfl
theorem u155_2 : ev d 155 2 lo st h = evS (mx_pf 20 164 false) d 155 5 lo st h := ev_s n155_2 rfl rfl
theorem n155_5 : mx_ins 155 5 = some ((.aload_n 0), 1) := mx_ins_of mi155 dX20_wantCond_5 rfl
theorem u155_5 : ev d 155 5 lo st h = evS (mx_ldA 0) d 155 6 lo st h := ev_s n155_5 rfl rfl
theorem n155_6 : mx_ins 155 6 = some ((.iconst 0), 1) := mx_ins_of mi155 dX20_wantCond_6 rfl
theorem u155_6 : ev d 155 6 lo st h = ev d 155 7 lo (.int 0 :: st) h := (ev_s (f := mx_push (.int 0)) n155_6 rfl rfl).trans es_push
theorem n155_7 : mx_ins 155 7 = some ((.putfield 195), 3) := mx_ins_of mi155 dX20_wantCond_7 rfl
theorem u155_7 : ev d 155 7 lo st h = evS (mx_pf 20 195 false) d 155 10 lo st h := ev_s n155_7 rfl rfl
theorem n155_10 : mx_ins 155 10 = some ((.iconst 1), 1) := mx_ins_of mi155 dX20_wantCond_10 rfl
theorem u155_10 : ev d 155 10 lo st h = ev d 155 11 lo (.int 1 :: st) h := (ev_s (f := mx_push (.int 1)) n155_10 rfl rfl).trans es_push
theorem n155_11 : mx_ins 155 11 = some ((.istore 7), 2) := mx_ins_of mi155 dX20_wantCond_11 rfl
theorem u155_11 : ev d 155 11 lo st h = evS (mx_stI 7) d 155 13 lo st h := ev_s n155_11 rfl rfl
theorem n155_13 : mx_ins 155 13 = some ((.iconst 1), 1) := mx_ins_of mi155 dX20_wantCond_13 rfl
theorem u155_13 : ev d 155 13 lo st h = ev d 155 14 lo (.int 1 :: st) h := (ev_s (f := mx_push (.int 1)) n155_13 rfl rfl).trans es_push
theorem n155_14 : mx_ins 155 14 = some ((.istore 8), 2) := mx_ins_of mi155 dX20_wantCond_14 rfl
theorem u155_14 : ev d 155 14 lo st h = evS (mx_stI 8) d 155 16 lo st h := ev_s n155_14 rfl rfl
theorem n155_16 : mx_ins 155 16 = some ((.aload_n 0), 1) := mx_ins_of mi155 dX20_wantCond_16 rfl
theorem u155_16 : ev d 155 16 lo st h = evS (mx_ldA 0) d 155 17 lo st h := ev_s n155_16 rfl rfl
theorem n155_17 : mx_ins 155 17 = some ((.getfield 178), 3) := mx_ins_of mi155 dX20_wantCond_17 rfl
theorem u155_17 : ev d 155 17 lo st h = evS (mx_gf 20 178) d 155 20 lo st h := ev_s n155_17 rfl rfl
theorem n155_20 : mx_ins 155 20 = some ((.ifCond .eq 265), 3) := mx_ins_of mi155 dX20_wantCond_20 rfl
theorem u155_20 : ev d 155 20 lo st h = evJ .eq d 155 285 23 lo st h := ev_if n155_20 rfl rfl
theorem n155_23 : mx_ins 155 23 = some ((.iload 8), 2) := mx_ins_of mi155 dX20_wantCond_23 rfl
theorem u155_23 : ev d 155 23 lo st h = evS (mx_ldI 8) d 155 25 lo st h := ev_s n155_23 rfl rfl
theorem n155_25 : mx_ins 155 25 = some ((.ifCond .eq 260), 3) := mx_ins_of mi155 dX20_wantCond_25 rfl
theorem u155_25 : ev d 155 25 lo st h = evJ .eq d 155 285 28 lo st h := ev_if n155_25 rfl rfl
theorem n155_28 : mx_ins 155 28 = some ((.iload 7), 2) := mx_ins_of mi155 dX20_wantCond_28 rfl
theorem u155_28 : ev d 155 28 lo st h = evS (mx_ldI 7) d 155 30 lo st h := ev_s n155_28 rfl rfl
theorem n155_30 : mx_ins 155 30 = some ((.ifCond .eq 24), 3) := mx_ins_of mi155 dX20_wantCond_30 rfl
theorem u155_30 : ev d 155 30 lo st h = evJ .eq d 155 54 33 lo st h := ev_if n155_30 rfl rfl
theorem n155_33 : mx_ins 155 33 = some ((.aload_n 0), 1) := mx_ins_of mi155 dX20_wantCond_33 rfl
theorem u155_33 : ev d 155 33 lo st h = evS (mx_ldA 0) d 155 34 lo st h := ev_s n155_33 rfl rfl
theorem n155_34 : mx_ins 155 34 = some ((.lload_n 1), 1) := mx_ins_of mi155 dX20_wantCond_34 rfl
theorem u155_34 : ev d 155 34 lo st h = evS (mx_ldL 1) d 155 35 lo st h := ev_s n155_34 rfl rfl
theorem n155_35 : mx_ins 155 35 = some ((.invokevirtual 147), 3) := mx_ins_of mi155 dX20_wantCond_35 rfl
theorem u155_35 : ev d 155 35 lo st h = evIn d 155 35 38 20 147 2 false lo st h := ev_inv n155_35 rfl rfl ow155 ia20_147
theorem n155_38 : mx_ins 155 38 = some ((.ifCond .eq 16), 3) := mx_ins_of mi155 dX20_wantCond_38 rfl
theorem u155_38 : ev d 155 38 lo st h = evJ .eq d 155 54 41 lo st h := ev_if n155_38 rfl rfl
theorem n155_41 : mx_ins 155 41 = some ((.aload_n 0), 1) := mx_ins_of mi155 dX20_wantCond_41 rfl
theorem u155_41 : ev d 155 41 lo st h = evS (mx_ldA 0) d 155 42 lo st h := ev_s n155_41 rfl rfl
theorem n155_42 : mx_ins 155 42 = some ((.ldc 191), 2) := mx_ins_of mi155 dX20_wantCond_42 rfl
theorem u155_42 : ev d 155 42 lo st h = ev d 155 44 lo (.int 40002 :: st) h := (ev_s (f := mx_push (.int 40002)) n155_42 rfl rfl).trans es_push
theorem n155_44 : mx_ins 155 44 = some ((.invokevirtual 198), 3) := mx_ins_of mi155 dX20_wantCond_44 rfl
theorem u155_44 : ev d 155 44 lo st h = evIn d 155 44 47 20 198 2 false lo st h := ev_inv n155_44 rfl rfl ow155 ia20_198
theorem n155_47 : mx_ins 155 47 = some ((.aload_n 0), 1) := mx_ins_of mi155 dX20_wantCond_47 rfl
theorem u155_47 : ev d 155 47 lo st h = evS (mx_ldA 0) d 155 48 lo st h := ev_s n155_47 rfl rfl
theorem n155_48 : mx_ins 155 48 = some ((.invokevirtual 182), 3) := mx_ins_of mi155 dX20_wantCond_48 rfl
theorem u155_48 : ev d 155 48 lo st h = evIn d 155 48 51 20 182 1 false lo st h := ev_inv n155_48 rfl rfl ow155 ia20_182
theorem n155_51 : mx_ins 155 51 = some ((.goto (-35)), 3) := mx_ins_of mi155 dX20_wantCond_51 rfl
theorem u155_51 : ev d 155 51 lo st h = ev d 155 16 lo st h := ev_goto n155_51 rfl
theorem n155_54 : mx_ins 155 54 = some ((.iload 7), 2) := mx_ins_of mi155 dX20_wantCond_54 rfl
theorem u155_54 : ev d 155 54 lo st h = evS (mx_ldI 7) d 155 56 lo st h := ev_s n155_54 rfl rfl
theorem n155_56 : mx_ins 155 56 = some ((.ifCond .eq 59), 3) := mx_ins_of mi155 dX20_wantCond_56 rfl
theorem u155_56 : ev d 155 56 lo st h = evJ .eq d 155 115 59 lo st h := ev_if n155_56 rfl rfl
theorem n155_59 : mx_ins 155 59 = some ((.aload_n 0), 1) := mx_ins_of mi155 dX20_wantCond_59 rfl
theorem u155_59 : ev d 155 59 lo st h = evS (mx_ldA 0) d 155 60 lo st h := ev_s n155_59 rfl rfl
theorem n155_60 : mx_ins 155 60 = some ((.bipush 40), 2) := mx_ins_of mi155 dX20_wantCond_60 rfl
theorem u155_60 : ev d 155 60 lo st h = ev d 155 62 lo (.int 40 :: st) h := (ev_s (f := mx_push (.int 40)) n155_60 rfl rfl).trans es_push
theorem n155_62 : mx_ins 155 62 = some ((.invokevirtual 188), 3) := mx_ins_of mi155 dX20_wantCond_62 rfl
theorem u155_62 : ev d 155 62 lo st h = evIn d 155 62 65 20 188 2 false lo st h := ev_inv n155_62 rfl rfl ow155 ia20_188
theorem n155_65 : mx_ins 155 65 = some ((.ifCond .eq 50), 3) := mx_ins_of mi155 dX20_wantCond_65 rfl
theorem u155_65 : ev d 155 65 lo st h = evJ .eq d 155 115 68 lo st h := ev_if n155_65 rfl rfl
theorem n155_68 : mx_ins 155 68 = some ((.aload_n 0), 1) := mx_ins_of mi155 dX20_wantCond_68 rfl
theorem u155_68 : ev d 155 68 lo st h = evS (mx_ldA 0) d 155 69 lo st h := ev_s n155_68 rfl rfl
theorem n155_69 : mx_ins 155 69 = some ((.aload_n 0), 1) := mx_ins_of mi155 dX20_wantCond_69 rfl
theorem u155_69 : ev d 155 69 lo st h = evS (mx_ldA 0) d 155 70 lo st h := ev_s n155_69 rfl rfl
theorem n155_70 : mx_ins 155 70 = some ((.getfield 195), 3) := mx_ins_of mi155 dX20_wantCond_70 rfl
theorem u155_70 : ev d 155 70 lo st h = evS (mx_gf 20 195) d 155 73 lo st h := ev_s n155_70 rfl rfl
theorem n155_73 : mx_ins 155 73 = some ((.iconst 3), 1) := mx_ins_of mi155 dX20_wantCond_73 rfl
theorem u155_73 : ev d 155 73 lo st h = ev d 155 74 lo (.int 3 :: st) h := (ev_s (f := mx_push (.int 3)) n155_73 rfl rfl).trans es_push
theorem n155_74 : mx_ins 155 74 = some ((.if_icmp .ge 7), 3) := mx_ins_of mi155 dX20_wantCond_74 rfl
theorem u155_74 : ev d 155 74 lo st h = evK .ge d 155 81 77 lo st h := ev_ic n155_74 rfl rfl
theorem n155_77 : mx_ins 155 77 = some ((.iconst 1), 1) := mx_ins_of mi155 dX20_wantCond_77 rfl
theorem u155_77 : ev d 155 77 lo st h = ev d 155 78 lo (.int 1 :: st) h := (ev_s (f := mx_push (.int 1)) n155_77 rfl rfl).trans es_push
theorem n155_78 : mx_ins 155 78 = some ((.goto 4), 3) := mx_ins_of mi155 dX20_wantCond_78 rfl
theorem u155_78 : ev d 155 78 lo st h = ev d 155 82 lo st h := ev_goto n155_78 rfl
theorem n155_81 : mx_ins 155 81 = some ((.iconst 0), 1) := mx_ins_of mi155 dX20_wantCond_81 rfl
theorem u155_81 : ev d 155 81 lo st h = ev d 155 82 lo (.int 0 :: st) h := (ev_s (f := mx_push (.int 0)) n155_81 rfl rfl).trans es_push
theorem n155_82 : mx_ins 155 82 = some ((.putfield 178), 3) := mx_ins_of mi155 dX20_wantCond_82 rfl
theorem u155_82 : ev d 155 82 lo st h = evS (mx_pf 20 178 false) d 155 85 lo st h := ev_s n155_82 rfl rfl
theorem n155_85 : mx_ins 155 85 = some ((.aload_n 0), 1) := mx_ins_of mi155 dX20_wantCond_85 rfl
theorem u155_85 : ev d 155 85 lo st h = evS (mx_ldA 0) d 155 86 lo st h := ev_s n155_85 rfl rfl
theorem n155_86 : mx_ins 155 86 = some ((.getfield 178), 3) := mx_ins_of mi155 dX20_wantCond_86 rfl
theorem u155_86 : ev d 155 86 lo st h = evS (mx_gf 20 178) d 155 89 lo st h := ev_s n155_86 rfl rfl
theorem n155_89 : mx_ins 155 89 = some ((.ifCond .eq (-73)), 3) := mx_ins_of mi155 dX20_wantCond_89 rfl
theorem u155_89 : ev d 155 89 lo st h = evJ .eq d 155 16 92 lo st h := ev_if n155_89 rfl rfl
theorem n155_92 : mx_ins 155 92 = some ((.aload_n 0), 1) := mx_ins_of mi155 dX20_wantCond_92 rfl
theorem u155_92 : ev d 155 92 lo st h = evS (mx_ldA 0) d 155 93 lo st h := ev_s n155_92 rfl rfl
theorem n155_93 : mx_ins 155 93 = some (.dup, 1) := mx_ins_of mi155 dX20_wantCond_93 rfl
theorem u155_93 : ev d 155 93 lo st h = evI d 155 93 94 lo st h .dup := ev_u n155_93 rfl
theorem n155_94 : mx_ins 155 94 = some ((.getfield 195), 3) := mx_ins_of mi155 dX20_wantCond_94 rfl
theorem u155_94 : ev d 155 94 lo st h = evS (mx_gf 20 195) d 155 97 lo st h := ev_s n155_94 rfl rfl
theorem n155_97 : mx_ins 155 97 = some ((.iconst 1), 1) := mx_ins_of mi155 dX20_wantCond_97 rfl
theorem u155_97 : ev d 155 97 lo st h = ev d 155 98 lo (.int 1 :: st) h := (ev_s (f := mx_push (.int 1)) n155_97 rfl rfl).trans es_push
theorem n155_98 : mx_ins 155 98 = some (.iadd, 1) := mx_ins_of mi155 dX20_wantCond_98 rfl
theorem u155_98 : ev d 155 98 lo st h = evI d 155 98 99 lo st h .iadd := ev_u n155_98 rfl
theorem n155_99 : mx_ins 155 99 = some ((.putfield 195), 3) := mx_ins_of mi155 dX20_wantCond_99 rfl
theorem u155_99 : ev d 155 99 lo st h = evS (mx_pf 20 195 false) d 155 102 lo st h := ev_s n155_99 rfl rfl
theorem n155_102 : mx_ins 155 102 = some ((.aload_n 0), 1) := mx_ins_of mi155 dX20_wantCond_102 rfl
theorem u155_102 : ev d 155 102 lo st h = evS (mx_ldA 0) d 155 103 lo st h := ev_s n155_102 rfl rfl
theorem n155_103 : mx_ins 155 103 = some ((.ldc 201), 2) := mx_ins_of mi155 dX20_wantCond_103 rfl
theorem u155_103 : ev d 155 103 lo st h = ev d 155 105 lo (.int 40003 :: st) h := (ev_s (f := mx_push (.int 40003)) n155_103 rfl rfl).trans es_push
theorem n155_105 : mx_ins 155 105 = some ((.invokevirtual 198), 3) := mx_ins_of mi155 dX20_wantCond_105 rfl
theorem u155_105 : ev d 155 105 lo st h = evIn d 155 105 108 20 198 2 false lo st h := ev_inv n155_105 rfl rfl ow155 ia20_198
theorem n155_108 : mx_ins 155 108 = some ((.aload_n 0), 1) := mx_ins_of mi155 dX20_wantCond_108 rfl
theorem u155_108 : ev d 155 108 lo st h = evS (mx_ldA 0) d 155 109 lo st h := ev_s n155_108 rfl rfl
theorem n155_109 : mx_ins 155 109 = some ((.invokevirtual 182), 3) := mx_ins_of mi155 dX20_wantCond_109 rfl
theorem u155_109 : ev d 155 109 lo st h = evIn d 155 109 112 20 182 1 false lo st h := ev_inv n155_109 rfl rfl ow155 ia20_182
theorem n155_112 : mx_ins 155 112 = some ((.goto (-96)), 3) := mx_ins_of mi155 dX20_wantCond_112 rfl
theorem u155_112 : ev d 155 112 lo st h = ev d 155 16 lo st h := ev_goto n155_112 rfl
theorem n155_115 : mx_ins 155 115 = some ((.iload 7), 2) := mx_ins_of mi155 dX20_wantCond_115 rfl
theorem u155_115 : ev d 155 115 lo st h = evS (mx_ldI 7) d 155 117 lo st h := ev_s n155_115 rfl rfl
theorem n155_117 : mx_ins 155 117 = some ((.ifCond .eq 13), 3) := mx_ins_of mi155 dX20_wantCond_117 rfl
theorem u155_117 : ev d 155 117 lo st h = evJ .eq d 155 130 120 lo st h := ev_if n155_117 rfl rfl
theorem n155_120 : mx_ins 155 120 = some ((.aload_n 0), 1) := mx_ins_of mi155 dX20_wantCond_120 rfl
theorem u155_120 : ev d 155 120 lo st h = evS (mx_ldA 0) d 155 121 lo st h := ev_s n155_120 rfl rfl
theorem n155_121 : mx_ins 155 121 = some ((.invokevirtual 202), 3) := mx_ins_of mi155 dX20_wantCond_121 rfl
theorem u155_121 : ev d 155 121 lo st h = evIn d 155 121 124 20 202 1 false lo st h := ev_inv n155_121 rfl rfl ow155 ia20_202
theorem n155_124 : mx_ins 155 124 = some ((.iconst 0), 1) := mx_ins_of mi155 dX20_wantCond_124 rfl
theorem u155_124 : ev d 155 124 lo st h = ev d 155 125 lo (.int 0 :: st) h := (ev_s (f := mx_push (.int 0)) n155_124 rfl rfl).trans es_push
theorem n155_125 : mx_ins 155 125 = some ((.istore 7), 2) := mx_ins_of mi155 dX20_wantCond_125 rfl
theorem u155_125 : ev d 155 125 lo st h = evS (mx_stI 7) d 155 127 lo st h := ev_s n155_125 rfl rfl
theorem n155_127 : mx_ins 155 127 = some ((.goto (-111)), 3) := mx_ins_of mi155 dX20_wantCond_127 rfl
theorem u155_127 : ev d 155 127 lo st h = ev d 155 16 lo st h := ev_goto n155_127 rfl
theorem n155_130 : mx_ins 155 130 = some ((.aload_n 0), 1) := mx_ins_of mi155 dX20_wantCond_130 rfl
theorem u155_130 : ev d 155 130 lo st h = evS (mx_ldA 0) d 155 131 lo st h := ev_s n155_130 rfl rfl
theorem n155_131 : mx_ins 155 131 = some ((.lload_n 3), 1) := mx_ins_of mi155 dX20_wantCond_131 rfl
theorem u155_131 : ev d 155 131 lo st h = evS (mx_ldL 3) d 155 132 lo st h := ev_s n155_131 rfl rfl
theorem n155_132 : mx_ins 155 132 = some ((.invokevirtual 147), 3) := mx_ins_of mi155 dX20_wantCond_132 rfl
theorem u155_132 : ev d 155 132 lo st h = evIn d 155 132 135 20 147 2 false lo st h := ev_inv n155_132 rfl rfl ow155 ia20_147
theorem n155_135 : mx_ins 155 135 = some ((.ifCond .ne 12), 3) := mx_ins_of mi155 dX20_wantCond_135 rfl
theorem u155_135 : ev d 155 135 lo st h = evJ .ne d 155 147 138 lo st h := ev_if n155_135 rfl rfl
theorem n155_138 : mx_ins 155 138 = some ((.aload_n 0), 1) := mx_ins_of mi155 dX20_wantCond_138 rfl
theorem u155_138 : ev d 155 138 lo st h = evS (mx_ldA 0) d 155 139 lo st h := ev_s n155_138 rfl rfl
theorem n155_139 : mx_ins 155 139 = some ((.lload 5), 2) := mx_ins_of mi155 dX20_wantCond_139 rfl
theorem u155_139 : ev d 155 139 lo st h = evS (mx_ldL 5) d 155 141 lo st h := ev_s n155_139 rfl rfl
theorem n155_141 : mx_ins 155 141 = some ((.invokevirtual 147), 3) := mx_ins_of mi155 dX20_wantCond_141 rfl
theorem u155_141 : ev d 155 141 lo st h = evIn d 155 141 144 20 147 2 false lo st h := ev_inv n155_141 rfl rfl ow155 ia20_147
theorem n155_144 : mx_ins 155 144 = some ((.ifCond .eq 53), 3) := mx_ins_of mi155 dX20_wantCond_144 rfl
theorem u155_144 : ev d 155 144 lo st h = evJ .eq d 155 197 147 lo st h := ev_if n155_144 rfl rfl
theorem n155_147 : mx_ins 155 147 = some ((.aload_n 0), 1) := mx_ins_of mi155 dX20_wantCond_147 rfl
theorem u155_147 : ev d 155 147 lo st h = evS (mx_ldA 0) d 155 148 lo st h := ev_s n155_147 rfl rfl
theorem n155_148 : mx_ins 155 148 = some ((.ldc 205), 2) := mx_ins_of mi155 dX20_wantCond_148 rfl
theorem u155_148 : ev d 155 148 lo st h = ev d 155 150 lo (.int 40000 :: st) h := (ev_s (f := mx_push (.int 40000)) n155_148 rfl rfl).trans es_push
theorem n155_150 : mx_ins 155 150 = some ((.invokevirtual 192), 3) := mx_ins_of mi155 dX20_wantCond_150 rfl
theorem u155_150 : ev d 155 150 lo st h = evIn d 155 150 153 20 192 2 false lo st h := ev_inv n155_150 rfl rfl ow155 ia20_192
theorem n155_153 : mx_ins 155 153 = some ((.aload_n 0), 1) := mx_ins_of mi155 dX20_wantCond_153 rfl
theorem u155_153 : ev d 155 153 lo st h = evS (mx_ldA 0) d 155 154 lo st h := ev_s n155_153 rfl rfl
theorem n155_154 : mx_ins 155 154 = some ((.lload_n 3), 1) := mx_ins_of mi155 dX20_wantCond_154 rfl
theorem u155_154 : ev d 155 154 lo st h = evS (mx_ldL 3) d 155 155 lo st h := ev_s n155_154 rfl rfl
theorem n155_155 : mx_ins 155 155 = some ((.invokevirtual 147), 3) := mx_ins_of mi155 dX20_wantCond_155 rfl
theorem u155_155 : ev d 155 155 lo st h = evIn d 155 155 158 20 147 2 false lo st h := ev_inv n155_155 rfl rfl ow155 ia20_147
theorem n155_158 : mx_ins 155 158 = some ((.istore 9), 2) := mx_ins_of mi155 dX20_wantCond_158 rfl
theorem u155_158 : ev d 155 158 lo st h = evS (mx_stI 9) d 155 160 lo st h := ev_s n155_158 rfl rfl
theorem n155_160 : mx_ins 155 160 = some ((.iload 9), 2) := mx_ins_of mi155 dX20_wantCond_160 rfl
theorem u155_160 : ev d 155 160 lo st h = evS (mx_ldI 9) d 155 162 lo st h := ev_s n155_160 rfl rfl
theorem n155_162 : mx_ins 155 162 = some ((.ifCond .ne 9), 3) := mx_ins_of mi155 dX20_wantCond_162 rfl
theorem u155_162 : ev d 155 162 lo st h = evJ .ne d 155 171 165 lo st h := ev_if n155_162 rfl rfl
theorem n155_165 : mx_ins 155 165 = some ((.aload_n 0), 1) := mx_ins_of mi155 dX20_wantCond_165 rfl
theorem u155_165 : ev d 155 165 lo st h = evS (mx_ldA 0) d 155 166 lo st h := ev_s n155_165 rfl rfl
theorem n155_166 : mx_ins 155 166 = some ((.ldc 206), 2) := mx_ins_of mi155 dX20_wantCond_166 rfl
theorem u155_166 : ev d 155 166 lo st h = ev d 155 168 lo (.int 40001 :: st) h := (ev_s (f := mx_push (.int 40001)) n155_166 rfl rfl).trans es_push
theorem n155_168 : mx_ins 155 168 = some ((.invokevirtual 192), 3) := mx_ins_of mi155 dX20_wantCond_168 rfl
theorem u155_168 : ev d 155 168 lo st h = evIn d 155 168 171 20 192 2 false lo st h := ev_inv n155_168 rfl rfl ow155 ia20_192
theorem n155_171 : mx_ins 155 171 = some ((.aload_n 0), 1) := mx_ins_of mi155 dX20_wantCond_171 rfl
theorem u155_171 : ev d 155 171 lo st h = evS (mx_ldA 0) d 155 172 lo st h := ev_s n155_171 rfl rfl
theorem n155_172 : mx_ins 155 172 = some ((.iload 9), 2) := mx_ins_of mi155 dX20_wantCond_172 rfl
theorem u155_172 : ev d 155 172 lo st h = evS (mx_ldI 9) d 155 174 lo st h := ev_s n155_172 rfl rfl
theorem n155_174 : mx_ins 155 174 = some ((.ifCond .eq 8), 3) := mx_ins_of mi155 dX20_wantCond_174 rfl
theorem u155_174 : ev d 155 174 lo st h = evJ .eq d 155 182 177 lo st h := ev_if n155_174 rfl rfl
theorem n155_177 : mx_ins 155 177 = some ((.ldc 205), 2) := mx_ins_of mi155 dX20_wantCond_177 rfl
theorem u155_177 : ev d 155 177 lo st h = ev d 155 179 lo (.int 40000 :: st) h := (ev_s (f := mx_push (.int 40000)) n155_177 rfl rfl).trans es_push
theorem n155_179 : mx_ins 155 179 = some ((.goto 5), 3) := mx_ins_of mi155 dX20_wantCond_179 rfl
theorem u155_179 : ev d 155 179 lo st h = ev d 155 184 lo st h := ev_goto n155_179 rfl
theorem n155_182 : mx_ins 155 182 = some ((.ldc 206), 2) := mx_ins_of mi155 dX20_wantCond_182 rfl
theorem u155_182 : ev d 155 182 lo st h = ev d 155 184 lo (.int 40001 :: st) h := (ev_s (f := mx_push (.int 40001)) n155_182 rfl rfl).trans es_push
theorem n155_184 : mx_ins 155 184 = some ((.invokevirtual 198), 3) := mx_ins_of mi155 dX20_wantCond_184 rfl
theorem u155_184 : ev d 155 184 lo st h = evIn d 155 184 187 20 198 2 false lo st h := ev_inv n155_184 rfl rfl ow155 ia20_198
theorem n155_187 : mx_ins 155 187 = some ((.aload_n 0), 1) := mx_ins_of mi155 dX20_wantCond_187 rfl
theorem u155_187 : ev d 155 187 lo st h = evS (mx_ldA 0) d 155 188 lo st h := ev_s n155_187 rfl rfl
theorem n155_188 : mx_ins 155 188 = some ((.invokevirtual 182), 3) := mx_ins_of mi155 dX20_wantCond_188 rfl
theorem u155_188 : ev d 155 188 lo st h = evIn d 155 188 191 20 182 1 false lo st h := ev_inv n155_188 rfl rfl ow155 ia20_182
theorem n155_191 : mx_ins 155 191 = some ((.iconst 1), 1) := mx_ins_of mi155 dX20_wantCond_191 rfl
theorem u155_191 : ev d 155 191 lo st h = ev d 155 192 lo (.int 1 :: st) h := (ev_s (f := mx_push (.int 1)) n155_191 rfl rfl).trans es_push
theorem n155_192 : mx_ins 155 192 = some ((.istore 7), 2) := mx_ins_of mi155 dX20_wantCond_192 rfl
theorem u155_192 : ev d 155 192 lo st h = evS (mx_stI 7) d 155 194 lo st h := ev_s n155_192 rfl rfl
theorem n155_194 : mx_ins 155 194 = some ((.goto (-178)), 3) := mx_ins_of mi155 dX20_wantCond_194 rfl
theorem u155_194 : ev d 155 194 lo st h = ev d 155 16 lo st h := ev_goto n155_194 rfl
theorem n155_197 : mx_ins 155 197 = some ((.aload_n 0), 1) := mx_ins_of mi155 dX20_wantCond_197 rfl
theorem u155_197 : ev d 155 197 lo st h = evS (mx_ldA 0) d 155 198 lo st h := ev_s n155_197 rfl rfl
theorem n155_198 : mx_ins 155 198 = some ((.ldc 205), 2) := mx_ins_of mi155 dX20_wantCond_198 rfl
theorem u155_198 : ev d 155 198 lo st h = ev d 155 200 lo (.int 40000 :: st) h := (ev_s (f := mx_push (.int 40000)) n155_198 rfl rfl).trans es_push
theorem n155_200 : mx_ins 155 200 = some ((.invokevirtual 192), 3) := mx_ins_of mi155 dX20_wantCond_200 rfl
theorem u155_200 : ev d 155 200 lo st h = evIn d 155 200 203 20 192 2 false lo st h := ev_inv n155_200 rfl rfl ow155 ia20_192
theorem n155_203 : mx_ins 155 203 = some ((.aload_n 0), 1) := mx_ins_of mi155 dX20_wantCond_203 rfl
theorem u155_203 : ev d 155 203 lo st h = evS (mx_ldA 0) d 155 204 lo st h := ev_s n155_203 rfl rfl
theorem n155_204 : mx_ins 155 204 = some ((.ldc 206), 2) := mx_ins_of mi155 dX20_wantCond_204 rfl
theorem u155_204 : ev d 155 204 lo st h = ev d 155 206 lo (.int 40001 :: st) h := (ev_s (f := mx_push (.int 40001)) n155_204 rfl rfl).trans es_push
theorem n155_206 : mx_ins 155 206 = some ((.invokevirtual 192), 3) := mx_ins_of mi155 dX20_wantCond_206 rfl
theorem u155_206 : ev d 155 206 lo st h = evIn d 155 206 209 20 192 2 false lo st h := ev_inv n155_206 rfl rfl ow155 ia20_192
theorem n155_209 : mx_ins 155 209 = some ((.aload_n 0), 1) := mx_ins_of mi155 dX20_wantCond_209 rfl
theorem u155_209 : ev d 155 209 lo st h = evS (mx_ldA 0) d 155 210 lo st h := ev_s n155_209 rfl rfl
theorem n155_210 : mx_ins 155 210 = some ((.ldc 201), 2) := mx_ins_of mi155 dX20_wantCond_210 rfl
theorem u155_210 : ev d 155 210 lo st h = ev d 155 212 lo (.int 40003 :: st) h := (ev_s (f := mx_push (.int 40003)) n155_210 rfl rfl).trans es_push
theorem n155_212 : mx_ins 155 212 = some ((.invokevirtual 167), 3) := mx_ins_of mi155 dX20_wantCond_212 rfl
theorem u155_212 : ev d 155 212 lo st h = evIn d 155 212 215 20 167 2 false lo st h := ev_inv n155_212 rfl rfl ow155 ia20_167
theorem n155_215 : mx_ins 155 215 = some ((.istore 8), 2) := mx_ins_of mi155 dX20_wantCond_215 rfl
theorem u155_215 : ev d 155 215 lo st h = evS (mx_stI 8) d 155 217 lo st h := ev_s n155_215 rfl rfl
theorem n155_217 : mx_ins 155 217 = some ((.aload_n 0), 1) := mx_ins_of mi155 dX20_wantCond_217 rfl
theorem u155_217 : ev d 155 217 lo st h = evS (mx_ldA 0) d 155 218 lo st h := ev_s n155_217 rfl rfl
theorem n155_218 : mx_ins 155 218 = some ((.iload 8), 2) := mx_ins_of mi155 dX20_wantCond_218 rfl
theorem u155_218 : ev d 155 218 lo st h = evS (mx_ldI 8) d 155 220 lo st h := ev_s n155_218 rfl rfl
theorem n155_220 : mx_ins 155 220 = some ((.ifCond .eq 12), 3) := mx_ins_of mi155 dX20_wantCond_220 rfl
theorem u155_220 : ev d 155 220 lo st h = evJ .eq d 155 232 223 lo st h := ev_if n155_220 rfl rfl
theorem n155_223 : mx_ins 155 223 = some ((.aload_n 0), 1) := mx_ins_of mi155 dX20_wantCond_223 rfl
theorem u155_223 : ev d 155 223 lo st h = evS (mx_ldA 0) d 155 224 lo st h := ev_s n155_223 rfl rfl
theorem n155_224 : mx_ins 155 224 = some ((.bipush 41), 2) := mx_ins_of mi155 dX20_wantCond_224 rfl
theorem u155_224 : ev d 155 224 lo st h = ev d 155 226 lo (.int 41 :: st) h := (ev_s (f := mx_push (.int 41)) n155_224 rfl rfl).trans es_push
theorem n155_226 : mx_ins 155 226 = some ((.invokevirtual 188), 3) := mx_ins_of mi155 dX20_wantCond_226 rfl
theorem u155_226 : ev d 155 226 lo st h = evIn d 155 226 229 20 188 2 false lo st h := ev_inv n155_226 rfl rfl ow155 ia20_188
theorem n155_229 : mx_ins 155 229 = some ((.ifCond .eq 7), 3) := mx_ins_of mi155 dX20_wantCond_229 rfl
theorem u155_229 : ev d 155 229 lo st h = evJ .eq d 155 236 232 lo st h := ev_if n155_229 rfl rfl
theorem n155_232 : mx_ins 155 232 = some ((.iconst 1), 1) := mx_ins_of mi155 dX20_wantCond_232 rfl
theorem u155_232 : ev d 155 232 lo st h = ev d 155 233 lo (.int 1 :: st) h := (ev_s (f := mx_push (.int 1)) n155_232 rfl rfl).trans es_push
theorem n155_233 : mx_ins 155 233 = some ((.goto 4), 3) := mx_ins_of mi155 dX20_wantCond_233 rfl
theorem u155_233 : ev d 155 233 lo st h = ev d 155 237 lo st h := ev_goto n155_233 rfl
theorem n155_236 : mx_ins 155 236 = some ((.iconst 0), 1) := mx_ins_of mi155 dX20_wantCond_236 rfl
theorem u155_236 : ev d 155 236 lo st h = ev d 155 237 lo (.int 0 :: st) h := (ev_s (f := mx_push (.int 0)) n155_236 rfl rfl).trans es_push
theorem n155_237 : mx_ins 155 237 = some ((.putfield 178), 3) := mx_ins_of mi155 dX20_wantCond_237 rfl
theorem u155_237 : ev d 155 237 lo st h = evS (mx_pf 20 178 false) d 155 240 lo st h := ev_s n155_237 rfl rfl
theorem n155_240 : mx_ins 155 240 = some ((.aload_n 0), 1) := mx_ins_of mi155 dX20_wantCond_240 rfl
theorem u155_240 : ev d 155 240 lo st h = evS (mx_ldA 0) d 155 241 lo st h := ev_s n155_240 rfl rfl
theorem n155_241 : mx_ins 155 241 = some ((.getfield 178), 3) := mx_ins_of mi155 dX20_wantCond_241 rfl
theorem u155_241 : ev d 155 241 lo st h = evS (mx_gf 20 178) d 155 244 lo st h := ev_s n155_241 rfl rfl
theorem n155_244 : mx_ins 155 244 = some ((.ifCond .eq (-228)), 3) := mx_ins_of mi155 dX20_wantCond_244 rfl
theorem u155_244 : ev d 155 244 lo st h = evJ .eq d 155 16 247 lo st h := ev_if n155_244 rfl rfl
theorem n155_247 : mx_ins 155 247 = some ((.iload 8), 2) := mx_ins_of mi155 dX20_wantCond_247 rfl
theorem u155_247 : ev d 155 247 lo st h = evS (mx_ldI 8) d 155 249 lo st h := ev_s n155_247 rfl rfl
theorem n155_249 : mx_ins 155 249 = some ((.ifCond .eq (-233)), 3) := mx_ins_of mi155 dX20_wantCond_249 rfl
theorem u155_249 : ev d 155 249 lo st h = evJ .eq d 155 16 252 lo st h := ev_if n155_249 rfl rfl
theorem n155_252 : mx_ins 155 252 = some ((.aload_n 0), 1) := mx_ins_of mi155 dX20_wantCond_252 rfl
theorem u155_252 : ev d 155 252 lo st h = evS (mx_ldA 0) d 155 253 lo st h := ev_s n155_252 rfl rfl
theorem n155_253 : mx_ins 155 253 = some (.dup, 1) := mx_ins_of mi155 dX20_wantCond_253 rfl
theorem u155_253 : ev d 155 253 lo st h = evI d 155 253 254 lo st h .dup := ev_u n155_253 rfl
theorem n155_254 : mx_ins 155 254 = some ((.getfield 164), 3) := mx_ins_of mi155 dX20_wantCond_254 rfl
theorem u155_254 : ev d 155 254 lo st h = evS (mx_gf 20 164) d 155 257 lo st h := ev_s n155_254 rfl rfl
theorem n155_257 : mx_ins 155 257 = some ((.iconst 1), 1) := mx_ins_of mi155 dX20_wantCond_257 rfl
theorem u155_257 : ev d 155 257 lo st h = ev d 155 258 lo (.int 1 :: st) h := (ev_s (f := mx_push (.int 1)) n155_257 rfl rfl).trans es_push
theorem n155_258 : mx_ins 155 258 = some (.isub, 1) := mx_ins_of mi155 dX20_wantCond_258 rfl
theorem u155_258 : ev d 155 258 lo st h = evI d 155 258 259 lo st h .isub := ev_u n155_258 rfl
theorem n155_259 : mx_ins 155 259 = some ((.putfield 164), 3) := mx_ins_of mi155 dX20_wantCond_259 rfl
theorem u155_259 : ev d 155 259 lo st h = evS (mx_pf 20 164 false) d 155 262 lo st h := ev_s n155_259 rfl rfl
theorem n155_262 : mx_ins 155 262 = some ((.aload_n 0), 1) := mx_ins_of mi155 dX20_wantCond_262 rfl
theorem u155_262 : ev d 155 262 lo st h = evS (mx_ldA 0) d 155 263 lo st h := ev_s n155_262 rfl rfl
theorem n155_263 : mx_ins 155 263 = some (.dup, 1) := mx_ins_of mi155 dX20_wantCond_263 rfl
theorem u155_263 : ev d 155 263 lo st h = evI d 155 263 264 lo st h .dup := ev_u n155_263 rfl
theorem n155_264 : mx_ins 155 264 = some ((.getfield 195), 3) := mx_ins_of mi155 dX20_wantCond_264 rfl
theorem u155_264 : ev d 155 264 lo st h = evS (mx_gf 20 195) d 155 267 lo st h := ev_s n155_264 rfl rfl
theorem n155_267 : mx_ins 155 267 = some ((.iconst 1), 1) := mx_ins_of mi155 dX20_wantCond_267 rfl
theorem u155_267 : ev d 155 267 lo st h = ev d 155 268 lo (.int 1 :: st) h := (ev_s (f := mx_push (.int 1)) n155_267 rfl rfl).trans es_push
theorem n155_268 : mx_ins 155 268 = some (.isub, 1) := mx_ins_of mi155 dX20_wantCond_268 rfl
theorem u155_268 : ev d 155 268 lo st h = evI d 155 268 269 lo st h .isub := ev_u n155_268 rfl
theorem n155_269 : mx_ins 155 269 = some ((.putfield 195), 3) := mx_ins_of mi155 dX20_wantCond_269 rfl
theorem u155_269 : ev d 155 269 lo st h = evS (mx_pf 20 195 false) d 155 272 lo st h := ev_s n155_269 rfl rfl
theorem n155_272 : mx_ins 155 272 = some ((.aload_n 0), 1) := mx_ins_of mi155 dX20_wantCond_272 rfl
theorem u155_272 : ev d 155 272 lo st h = evS (mx_ldA 0) d 155 273 lo st h := ev_s n155_272 rfl rfl
theorem n155_273 : mx_ins 155 273 = some ((.invokevirtual 182), 3) := mx_ins_of mi155 dX20_wantCond_273 rfl
theorem u155_273 : ev d 155 273 lo st h = evIn d 155 273 276 20 182 1 false lo st h := ev_inv n155_273 rfl rfl ow155 ia20_182
theorem n155_276 : mx_ins 155 276 = some ((.aload_n 0), 1) := mx_ins_of mi155 dX20_wantCond_276 rfl
theorem u155_276 : ev d 155 276 lo st h = evS (mx_ldA 0) d 155 277 lo st h := ev_s n155_276 rfl rfl
theorem n155_277 : mx_ins 155 277 = some ((.ldc 191), 2) := mx_ins_of mi155 dX20_wantCond_277 rfl
theorem u155_277 : ev d 155 277 lo st h = ev d 155 279 lo (.int 40002 :: st) h := (ev_s (f := mx_push (.int 40002)) n155_277 rfl rfl).trans es_push
theorem n155_279 : mx_ins 155 279 = some ((.invokevirtual 192), 3) := mx_ins_of mi155 dX20_wantCond_279 rfl
theorem u155_279 : ev d 155 279 lo st h = evIn d 155 279 282 20 192 2 false lo st h := ev_inv n155_279 rfl rfl ow155 ia20_192
theorem n155_282 : mx_ins 155 282 = some ((.goto (-266)), 3) := mx_ins_of mi155 dX20_wantCond_282 rfl
theorem u155_282 : ev d 155 282 lo st h = ev d 155 16 lo st h := ev_goto n155_282 rfl
theorem n155_285 : mx_ins 155 285 = some (.return_, 1) := mx_ins_of mi155 dX20_wantCond_285 rfl
theorem u155_285 : ev d 155 285 lo st h = evI d 155 285 286 lo st h .return_ := ev_u n155_285 rfl
theorem mi156 : mx_mi 156 = some (yX20_pend, cX20_pend, 2, (none : Option FieldType), 20, 2, []) := rfl
theorem ow156 : mx_own 156 = 20 := mx_mi_own mi156
theorem mm156 : mx_max 156 = 2 := mx_mi_max mi156
theorem rt156 : mx_ret 156 = (none : Option FieldType) := mx_mi_ret mi156
theorem hn156 : mx_hnd 156 = [] := mx_mi_hnd mi156
theorem n156_0 : mx_ins 156 0 = some ((.aload_n 0), 1) := mx_ins_of mi156 dX20_pend_0 rfl
theorem u156_0 : ev d 156 0 lo st h = evS (mx_ldA 0) d 156 1 lo st h := ev_s n156_0 rfl rfl
theorem n156_1 : mx_ins 156 1 = some ((.getfield 56), 3) := mx_ins_of mi156 dX20_pend_1 rfl
theorem u156_1 : ev d 156 1 lo st h = evS (mx_gf 20 56) d 156 4 lo st h := ev_s n156_1 rfl rfl
theorem n156_4 : mx_ins 156 4 = some ((.aload_n 0), 1) := mx_ins_of mi156 dX20_pend_4 rfl
theorem u156_4 : ev d 156 4 lo st h = evS (mx_ldA 0) d 156 5 lo st h := ev_s n156_4 rfl rfl
theorem n156_5 : mx_ins 156 5 = some ((.getfield 164), 3) := mx_ins_of mi156 dX20_pend_5 rfl
theorem u156_5 : ev d 156 5 lo st h = evS (mx_gf 20 164) d 156 8 lo st h := ev_s n156_5 rfl rfl
theorem n156_8 : mx_ins 156 8 = some ((.iload_n 1), 1) := mx_ins_of mi156 dX20_pend_8 rfl
theorem u156_8 : ev d 156 8 lo st h = evS (mx_ldI 1) d 156 9 lo st h := ev_s n156_8 rfl rfl
theorem n156_9 : mx_ins 156 9 = some (.iastore, 1) := mx_ins_of mi156 dX20_pend_9 rfl
theorem u156_9 : ev d 156 9 lo st h = evI d 156 9 10 lo st h .iastore := ev_u n156_9 rfl
theorem n156_10 : mx_ins 156 10 = some ((.aload_n 0), 1) := mx_ins_of mi156 dX20_pend_10 rfl
theorem u156_10 : ev d 156 10 lo st h = evS (mx_ldA 0) d 156 11 lo st h := ev_s n156_10 rfl rfl
theorem n156_11 : mx_ins 156 11 = some (.dup, 1) := mx_ins_of mi156 dX20_pend_11 rfl
theorem u156_11 : ev d 156 11 lo st h = evI d 156 11 12 lo st h .dup := ev_u n156_11 rfl
theorem n156_12 : mx_ins 156 12 = some ((.getfield 164), 3) := mx_ins_of mi156 dX20_pend_12 rfl
theorem u156_12 : ev d 156 12 lo st h = evS (mx_gf 20 164) d 156 15 lo st h := ev_s n156_12 rfl rfl
theorem n156_15 : mx_ins 156 15 = some ((.iconst 1), 1) := mx_ins_of mi156 dX20_pend_15 rfl
theorem u156_15 : ev d 156 15 lo st h = ev d 156 16 lo (.int 1 :: st) h := (ev_s (f := mx_push (.int 1)) n156_15 rfl rfl).trans es_push
theorem n156_16 : mx_ins 156 16 = some (.iadd, 1) := mx_ins_of mi156 dX20_pend_16 rfl
theorem u156_16 : ev d 156 16 lo st h = evI d 156 16 17 lo st h .iadd := ev_u n156_16 rfl
theorem n156_17 : mx_ins 156 17 = some ((.putfield 164), 3) := mx_ins_of mi156 dX20_pend_17 rfl
theorem u156_17 : ev d 156 17 lo st h = evS (mx_pf 20 164 false) d 156 20 lo st h := ev_s n156_17 rfl rfl
theorem n156_20 : mx_ins 156 20 = some (.return_, 1) := mx_ins_of mi156 dX20_pend_20 rfl
theorem u156_20 : ev d 156 20 lo st h = evI d 156 20 21 lo st h .return_ := ev_u n156_20 rfl
theorem mi157 : mx_mi 157 = some (yX20_isMark, cX20_isMark, 2, (Option.some Jvm.ClassFile.FieldType.boolean), 20, 2, []) := rfl
theorem ow157 : mx_own 157 = 20 := mx_mi_own mi157
theorem mm157 : mx_max 157 = 2 := mx_mi_max mi157
theorem rt157 : mx_ret 157 = (Option.some Jvm.ClassFile.FieldType.boolean) := mx_mi_ret mi157
theorem hn157 : mx_hnd 157 = [] := mx_mi_hnd mi157
theorem n157_0 : mx_ins 157 0 = some ((.aload_n 0), 1) := mx_ins_of mi157 dX20_isMark_0 rfl
theorem u157_0 : ev d 157 0 lo st h = evS (mx_ldA 0) d 157 1 lo st h := ev_s n157_0 rfl rfl
theorem n157_1 : mx_ins 157 1 = some ((.getfield 129), 3) := mx_ins_of mi157 dX20_isMark_1 rfl
theorem u157_1 : ev d 157 1 lo st h = evS (mx_gf 20 129) d 157 4 lo st h := ev_s n157_1 rfl rfl
theorem n157_4 : mx_ins 157 4 = some ((.iconst 3), 1) := mx_ins_of mi157 dX20_isMark_4 rfl
theorem u157_4 : ev d 157 4 lo st h = ev d 157 5 lo (.int 3 :: st) h := (ev_s (f := mx_push (.int 3)) n157_4 rfl rfl).trans es_push
theorem n157_5 : mx_ins 157 5 = some ((.if_icmp .ne 15), 3) := mx_ins_of mi157 dX20_isMark_5 rfl
theorem u157_5 : ev d 157 5 lo st h = evK .ne d 157 20 8 lo st h := ev_ic n157_5 rfl rfl
theorem n157_8 : mx_ins 157 8 = some ((.aload_n 0), 1) := mx_ins_of mi157 dX20_isMark_8 rfl
theorem u157_8 : ev d 157 8 lo st h = evS (mx_ldA 0) d 157 9 lo st h := ev_s n157_8 rfl rfl
theorem n157_9 : mx_ins 157 9 = some ((.getfield 136), 3) := mx_ins_of mi157 dX20_isMark_9 rfl
theorem u157_9 : ev d 157 9 lo st h = evS (mx_gf 20 136) d 157 12 lo st h := ev_s n157_9 rfl rfl
theorem n157_12 : mx_ins 157 12 = some ((.iload_n 1), 1) := mx_ins_of mi157 dX20_isMark_12 rfl
theorem u157_12 : ev d 157 12 lo st h = evS (mx_ldI 1) d 157 13 lo st h := ev_s n157_12 rfl rfl
theorem n157_13 : mx_ins 157 13 = some ((.if_icmp .ne 7), 3) := mx_ins_of mi157 dX20_isMark_13 rfl
theorem u157_13 : ev d 157 13 lo st h = evK .ne d 157 20 16 lo st h := ev_ic n157_13 rfl rfl
theorem n157_16 : mx_ins 157 16 = some ((.iconst 1), 1) := mx_ins_of mi157 dX20_isMark_16 rfl
theorem u157_16 : ev d 157 16 lo st h = ev d 157 17 lo (.int 1 :: st) h := (ev_s (f := mx_push (.int 1)) n157_16 rfl rfl).trans es_push
theorem n157_17 : mx_ins 157 17 = some ((.goto 4), 3) := mx_ins_of mi157 dX20_isMark_17 rfl
theorem u157_17 : ev d 157 17 lo st h = ev d 157 21 lo st h := ev_goto n157_17 rfl
theorem n157_20 : mx_ins 157 20 = some ((.iconst 0), 1) := mx_ins_of mi157 dX20_isMark_20 rfl
theorem u157_20 : ev d 157 20 lo st h = ev d 157 21 lo (.int 0 :: st) h := (ev_s (f := mx_push (.int 0)) n157_20 rfl rfl).trans es_push
theorem n157_21 : mx_ins 157 21 = some (.ireturn, 1) := mx_ins_of mi157 dX20_isMark_21 rfl
theorem u157_21 : ev d 157 21 lo st h = evI d 157 21 22 lo st h .ireturn := ev_u n157_21 rfl
theorem mi158 : mx_mi 158 = some (yX20_wantCompared, cX20_wantCompared, 2, (none : Option FieldType), 20, 1, []) := rfl
theorem ow158 : mx_own 158 = 20 := mx_mi_own mi158
theorem mm158 : mx_max 158 = 2 := mx_mi_max mi158
theorem rt158 : mx_ret 158 = (none : Option FieldType) := mx_mi_ret mi158
theorem hn158 : mx_hnd 158 = [] := mx_mi_hnd mi158
theorem n158_0 : mx_ins 158 0 = some ((.aload_n 0), 1) := mx_ins_of mi158 dX20_wantCompared_0 rfl
theorem u158_0 : ev d 158 0 lo st h = evS (mx_ldA 0) d 158 1 lo st h := ev_s n158_0 rfl rfl
theorem n158_1 : mx_ins 158 1 = some ((.invokevirtual 185), 3) := mx_ins_of mi158 dX20_wantCompared_1 rfl
theorem u158_1 : ev d 158 1 lo st h = evIn d 158 1 4 20 185 1 false lo st h := ev_inv n158_1 rfl rfl ow158 ia20_185
theorem n158_4 : mx_ins 158 4 = some ((.aload_n 0), 1) := mx_ins_of mi158 dX20_wantCompared_4 rfl
theorem u158_4 : ev d 158 4 lo st h = evS (mx_ldA 0) d 158 5 lo st h := ev_s n158_4 rfl rfl
theorem n158_5 : mx_ins 158 5 = some ((.getfield 136), 3) := mx_ins_of mi158 dX20_wantCompared_5 rfl
theorem u158_5 : ev d 158 5 lo st h = evS (mx_gf 20 136) d 158 8 lo st h := ev_s n158_5 rfl rfl
theorem n158_8 : mx_ins 158 8 = some ((.istore_n 1), 1) := mx_ins_of mi158 dX20_wantCompared_8 rfl
theorem u158_8 : ev d 158 8 lo st h = evS (mx_stI 1) d 158 9 lo st h := ev_s n158_8 rfl rfl
theorem n158_9 : mx_ins 158 9 = some ((.aload_n 0), 1) := mx_ins_of mi158 dX20_wantCompared_9 rfl
theorem u158_9 : ev d 158 9 lo st h = evS (mx_ldA 0) d 158 10 lo st h := ev_s n158_9 rfl rfl
theorem n158_10 : mx_ins 158 10 = some ((.aload_n 0), 1) := mx_ins_of mi158 dX20_wantCompared_10 rfl
theorem u158_10 : ev d 158 10 lo st h = evS (mx_ldA 0) d 158 11 lo st h := ev_s n158_10 rfl rfl
theorem n158_11 : mx_ins 158 11 = some ((.getfield 178), 3) := mx_ins_of mi158 dX20_wantCompared_11 rfl
theorem u158_11 : ev d 158 11 lo st h = evS (mx_gf 20 178) d 158 14 lo st h := ev_s n158_11 rfl rfl
theorem n158_14 : mx_ins 158 14 = some ((.ifCond .eq 34), 3) := mx_ins_of mi158 dX20_wantCompared_14 rfl
theorem u158_14 : ev d 158 14 lo st h = evJ .eq d 158 48 17 lo st h := ev_if n158_14 rfl rfl
theorem n158_17 : mx_ins 158 17 = some ((.aload_n 0), 1) := mx_ins_of mi158 dX20_wantCompared_17 rfl
theorem u158_17 : ev d 158 17 lo st h = evS (mx_ldA 0) d 158 18 lo st h := ev_s n158_17 rfl rfl
theorem n158_18 : mx_ins 158 18 = some ((.bipush 60), 2) := mx_ins_of mi158 dX20_wantCompared_18 rfl
theorem u158_18 : ev d 158 18 lo st h = ev d 158 20 lo (.int 60 :: st) h := (ev_s (f := mx_push (.int 60)) n158_18 rfl rfl).trans es_push
theorem n158_20 : mx_ins 158 20 = some ((.invokevirtual 188), 3) := mx_ins_of mi158 dX20_wantCompared_20 rfl
theorem u158_20 : ev d 158 20 lo st h = evIn d 158 20 23 20 188 2 false lo st h := ev_inv n158_20 rfl rfl ow158 ia20_188
theorem n158_23 : mx_ins 158 23 = some ((.ifCond .ne 21), 3) := mx_ins_of mi158 dX20_wantCompared_23 rfl
theorem u158_23 : ev d 158 23 lo st h = evJ .ne d 158 44 26 lo st h := ev_if n158_23 rfl rfl
theorem n158_26 : mx_ins 158 26 = some ((.aload_n 0), 1) := mx_ins_of mi158 dX20_wantCompared_26 rfl
theorem u158_26 : ev d 158 26 lo st h = evS (mx_ldA 0) d 158 27 lo st h := ev_s n158_26 rfl rfl
theorem n158_27 : mx_ins 158 27 = some ((.bipush 61), 2) := mx_ins_of mi158 dX20_wantCompared_27 rfl
theorem u158_27 : ev d 158 27 lo st h = ev d 158 29 lo (.int 61 :: st) h := (ev_s (f := mx_push (.int 61)) n158_27 rfl rfl).trans es_push
theorem n158_29 : mx_ins 158 29 = some ((.invokevirtual 188), 3) := mx_ins_of mi158 dX20_wantCompared_29 rfl
theorem u158_29 : ev d 158 29 lo st h = evIn d 158 29 32 20 188 2 false lo st h := ev_inv n158_29 rfl rfl ow158 ia20_188
theorem n158_32 : mx_ins 158 32 = some ((.ifCond .ne 12), 3) := mx_ins_of mi158 dX20_wantCompared_32 rfl
theorem u158_32 : ev d 158 32 lo st h = evJ .ne d 158 44 35 lo st h := ev_if n158_32 rfl rfl
theorem n158_35 : mx_ins 158 35 = some ((.aload_n 0), 1) := mx_ins_of mi158 dX20_wantCompared_35 rfl
theorem u158_35 : ev d 158 35 lo st h = evS (mx_ldA 0) d 158 36 lo st h := ev_s n158_35 rfl rfl
theorem n158_36 : mx_ins 158 36 = some ((.bipush 62), 2) := mx_ins_of mi158 dX20_wantCompared_36 rfl
theorem u158_36 : ev d 158 36 lo st h = ev d 158 38 lo (.int 62 :: st) h := (ev_s (f := mx_push (.int 62)) n158_36 rfl rfl).trans es_push
theorem n158_38 : mx_ins 158 38 = some ((.invokevirtual 188), 3) := mx_ins_of mi158 dX20_wantCompared_38 rfl
theorem u158_38 : ev d 158 38 lo st h = evIn d 158 38 41 20 188 2 false lo st h := ev_inv n158_38 rfl rfl ow158 ia20_188
theorem n158_41 : mx_ins 158 41 = some ((.ifCond .eq 7), 3) := mx_ins_of mi158 dX20_wantCompared_41 rfl
theorem u158_41 : ev d 158 41 lo st h = evJ .eq d 158 48 44 lo st h := ev_if n158_41 rfl rfl
theorem n158_44 : mx_ins 158 44 = some ((.iconst 1), 1) := mx_ins_of mi158 dX20_wantCompared_44 rfl
theorem u158_44 : ev d 158 44 lo st h = ev d 158 45 lo (.int 1 :: st) h := (ev_s (f := mx_push (.int 1)) n158_44 rfl rfl).trans es_push
theorem n158_45 : mx_ins 158 45 = some ((.goto 4), 3) := mx_ins_of mi158 dX20_wantCompared_45 rfl
theorem u158_45 : ev d 158 45 lo st h = ev d 158 49 lo st h := ev_goto n158_45 rfl
theorem n158_48 : mx_ins 158 48 = some ((.iconst 0), 1) := mx_ins_of mi158 dX20_wantCompared_48 rfl
theorem u158_48 : ev d 158 48 lo st h = ev d 158 49 lo (.int 0 :: st) h := (ev_s (f := mx_push (.int 0)) n158_48 rfl rfl).trans es_push
theorem n158_49 : mx_ins 158 49 = some ((.putfield 178), 3) := mx_ins_of mi158 dX20_wantCompared_49 rfl
theorem u158_49 : ev d 158 49 lo st h = evS (mx_pf 20 178 false) d 158 52 lo st h := ev_s n158_49 rfl rfl
theorem n158_52 : mx_ins 158 52 = some ((.aload_n 0), 1) := mx_ins_of mi158 dX20_wantCompared_52 rfl
theorem u158_52 : ev d 158 52 lo st h = evS (mx_ldA 0) d 158 53 lo st h := ev_s n158_52 rfl rfl
theorem n158_53 : mx_ins 158 53 = some ((.getfield 178), 3) := mx_ins_of mi158 dX20_wantCompared_53 rfl
theorem u158_53 : ev d 158 53 lo st h = evS (mx_gf 20 178) d 158 56 lo st h := ev_s n158_53 rfl rfl
theorem n158_56 : mx_ins 158 56 = some ((.ifCond .eq 12), 3) := mx_ins_of mi158 dX20_wantCompared_56 rfl
theorem u158_56 : ev d 158 56 lo st h = evJ .eq d 158 68 59 lo st h := ev_if n158_56 rfl rfl
theorem n158_59 : mx_ins 158 59 = some ((.aload_n 0), 1) := mx_ins_of mi158 dX20_wantCompared_59 rfl
theorem u158_59 : ev d 158 59 lo st h = evS (mx_ldA 0) d 158 60 lo st h := ev_s n158_59 rfl rfl
theorem n158_60 : mx_ins 158 60 = some ((.iload_n 1), 1) := mx_ins_of mi158 dX20_wantCompared_60 rfl
theorem u158_60 : ev d 158 60 lo st h = evS (mx_ldI 1) d 158 61 lo st h := ev_s n158_60 rfl rfl
theorem n158_61 : mx_ins 158 61 = some ((.invokevirtual 170), 3) := mx_ins_of mi158 dX20_wantCompared_61 rfl
theorem u158_61 : ev d 158 61 lo st h = evIn d 158 61 64 20 170 2 false lo st h := ev_inv n158_61 rfl rfl ow158 ia20_170
theorem n158_64 : mx_ins 158 64 = some ((.aload_n 0), 1) := mx_ins_of mi158 dX20_wantCompared_64 rfl
theorem u158_64 : ev d 158 64 lo st h = evS (mx_ldA 0) d 158 65 lo st h := ev_s n158_64 rfl rfl
theorem n158_65 : mx_ins 158 65 = some ((.invokevirtual 182), 3) := mx_ins_of mi158 dX20_wantCompared_65 rfl
theorem u158_65 : ev d 158 65 lo st h = evIn d 158 65 68 20 182 1 false lo st h := ev_inv n158_65 rfl rfl ow158 ia20_182
theorem n158_68 : mx_ins 158 68 = some ((.aload_n 0), 1) := mx_ins_of mi158 dX20_wantCompared_68 rfl
theorem u158_68 : ev d 158 68 lo st h = evS (mx_ldA 0) d 158 69 lo st h := ev_s n158_68 rfl rfl
theorem n158_69 : mx_ins 158 69 = some ((.invokevirtual 185), 3) := mx_ins_of mi158 dX20_wantCompared_69 rfl
theorem u158_69 : ev d 158 69 lo st h = evIn d 158 69 72 20 185 1 false lo st h := ev_inv n158_69 rfl rfl ow158 ia20_185
theorem n158_72 : mx_ins 158 72 = some ((.aload_n 0), 1) := mx_ins_of mi158 dX20_wantCompared_72 rfl
theorem u158_72 : ev d 158 72 lo st h = evS (mx_ldA 0) d 158 73 lo st h := ev_s n158_72 rfl rfl
theorem n158_73 : mx_ins 158 73 = some ((.ldc 191), 2) := mx_ins_of mi158 dX20_wantCompared_73 rfl
theorem u158_73 : ev d 158 73 lo st h = ev d 158 75 lo (.int 40002 :: st) h := (ev_s (f := mx_push (.int 40002)) n158_73 rfl rfl).trans es_push
theorem n158_75 : mx_ins 158 75 = some ((.invokevirtual 192), 3) := mx_ins_of mi158 dX20_wantCompared_75 rfl
theorem u158_75 : ev d 158 75 lo st h = evIn d 158 75 78 20 192 2 false lo st h := ev_inv n158_75 rfl rfl ow158 ia20_192
theorem n158_78 : mx_ins 158 78 = some (.return_, 1) := mx_ins_of mi158 dX20_wantCompared_78 rfl
theorem u158_78 : ev d 158 78 lo st h = evI d 158 78 79 lo st h .return_ := ev_u n158_78 rfl
theorem mi159 : mx_mi 159 = some (yX20_wantValue, cX20_wantValue, 2, (none : Option FieldType), 20, 1, []) := rfl
theorem ow159 : mx_own 159 = 20 := mx_mi_own mi159
theorem mm159 : mx_max 159 = 2 := mx_mi_max mi159
theorem rt159 : mx_ret 159 = (none : Option FieldType) := mx_mi_ret mi159
theorem hn159 : mx_hnd 159 = [] := mx_mi_hnd mi159
theorem n159_0 : mx_ins 159 0 = some ((.aload_n 0), 1) := mx_ins_of mi159 dX20_wantValue_0 rfl
theorem u159_0 : ev d 159 0 lo st h = evS (mx_ldA 0) d 159 1 lo st h := ev_s n159_0 rfl rfl
theorem n159_1 : mx_ins 159 1 = some ((.invokevirtual 174), 3) := mx_ins_of mi159 dX20_wantValue_1 rfl
theorem u159_1 : ev d 159 1 lo st h = evIn d 159 1 4 20 174 1 false lo st h := ev_inv n159_1 rfl rfl ow159 ia20_174
theorem n159_4 : mx_ins 159 4 = some ((.istore_n 1), 1) := mx_ins_of mi159 dX20_wantValue_4 rfl
theorem u159_4 : ev d 159 4 lo st h = evS (mx_stI 1) d 159 5 lo st h := ev_s n159_4 rfl rfl
theorem n159_5 : mx_ins 159 5 = some ((.aload_n 0), 1) := mx_ins_of mi159 dX20_wantValue_5 rfl
theorem u159_5 : ev d 159 5 lo st h = evS (mx_ldA 0) d 159 6 lo st h := ev_s n159_5 rfl rfl
theorem n159_6 : mx_ins 159 6 = some ((.aload_n 0), 1) := mx_ins_of mi159 dX20_wantValue_6 rfl
theorem u159_6 : ev d 159 6 lo st h = evS (mx_ldA 0) d 159 7 lo st h := ev_s n159_6 rfl rfl
theorem n159_7 : mx_ins 159 7 = some ((.getfield 178), 3) := mx_ins_of mi159 dX20_wantValue_7 rfl
theorem u159_7 : ev d 159 7 lo st h = evS (mx_gf 20 178) d 159 10 lo st h := ev_s n159_7 rfl rfl
theorem n159_10 : mx_ins 159 10 = some ((.ifCond .eq 26), 3) := mx_ins_of mi159 dX20_wantValue_10 rfl
theorem u159_10 : ev d 159 10 lo st h = evJ .eq d 159 36 13 lo st h := ev_if n159_10 rfl rfl
theorem n159_13 : mx_ins 159 13 = some ((.iload_n 1), 1) := mx_ins_of mi159 dX20_wantValue_13 rfl
theorem u159_13 : ev d 159 13 lo st h = evS (mx_ldI 1) d 159 14 lo st h := ev_s n159_13 rfl rfl
theorem n159_14 : mx_ins 159 14 = some ((.ifCond .ge 18), 3) := mx_ins_of mi159 dX20_wantValue_14 rfl
theorem u159_14 : ev d 159 14 lo st h = evJ .ge d 159 32 17 lo st h := ev_if n159_14 rfl rfl
theorem n159_17 : mx_ins 159 17 = some ((.aload_n 0), 1) := mx_ins_of mi159 dX20_wantValue_17 rfl
theorem u159_17 : ev d 159 17 lo st h = evS (mx_ldA 0) d 159 18 lo st h := ev_s n159_17 rfl rfl
theorem n159_18 : mx_ins 159 18 = some ((.getfield 129), 3) := mx_ins_of mi159 dX20_wantValue_18 rfl
theorem u159_18 : ev d 159 18 lo st h = evS (mx_gf 20 129) d 159 21 lo st h := ev_s n159_18 rfl rfl
theorem n159_21 : mx_ins 159 21 = some ((.iconst 2), 1) := mx_ins_of mi159 dX20_wantValue_21 rfl
theorem u159_21 : ev d 159 21 lo st h = ev d 159 22 lo (.int 2 :: st) h := (ev_s (f := mx_push (.int 2)) n159_21 rfl rfl).trans es_push
theorem n159_22 : mx_ins 159 22 = some ((.if_icmp .ne 14), 3) := mx_ins_of mi159 dX20_wantValue_22 rfl
theorem u159_22 : ev d 159 22 lo st h = evK .ne d 159 36 25 lo st h := ev_ic n159_22 rfl rfl
theorem n159_25 : mx_ins 159 25 = some ((.aload_n 0), 1) := mx_ins_of mi159 dX20_wantValue_25 rfl
theorem u159_25 : ev d 159 25 lo st h = evS (mx_ldA 0) d 159 26 lo st h := ev_s n159_25 rfl rfl
theorem n159_26 : mx_ins 159 26 = some ((.getfield 136), 3) := mx_ins_of mi159 dX20_wantValue_26 rfl
theorem u159_26 : ev d 159 26 lo st h = evS (mx_gf 20 136) d 159 29 lo st h := ev_s n159_26 rfl rfl
theorem n159_29 : mx_ins 159 29 = some ((.ifCond .lt 7), 3) := mx_ins_of mi159 dX20_wantValue_29 rfl
theorem u159_29 : ev d 159 29 lo st h = evJ .lt d 159 36 32 lo st h := ev_if n159_29 rfl rfl
theorem n159_32 : mx_ins 159 32 = some ((.iconst 1), 1) := mx_ins_of mi159 dX20_wantValue_32 rfl
theorem u159_32 : ev d 159 32 lo st h = ev d 159 33 lo (.int 1 :: st) h := (ev_s (f := mx_push (.int 1)) n159_32 rfl rfl).trans es_push
theorem n159_33 : mx_ins 159 33 = some ((.goto 4), 3) := mx_ins_of mi159 dX20_wantValue_33 rfl
theorem u159_33 : ev d 159 33 lo st h = ev d 159 37 lo st h := ev_goto n159_33 rfl
theorem n159_36 : mx_ins 159 36 = some ((.iconst 0), 1) := mx_ins_of mi159 dX20_wantValue_36 rfl
theorem u159_36 : ev d 159 36 lo st h = ev d 159 37 lo (.int 0 :: st) h := (ev_s (f := mx_push (.int 0)) n159_36 rfl rfl).trans es_push
theorem n159_37 : mx_ins 159 37 = some ((.putfield 178), 3) := mx_ins_of mi159 dX20_wantValue_37 rfl
theorem u159_37 : ev d 159 37 lo st h = evS (mx_pf 20 178 false) d 159 40 lo st h := ev_s n159_37 rfl rfl
theorem n159_40 : mx_ins 159 40 = some ((.aload_n 0), 1) := mx_ins_of mi159 dX20_wantValue_40 rfl
theorem u159_40 : ev d 159 40 lo st h = evS (mx_ldA 0) d 159 41 lo st h := ev_s n159_40 rfl rfl
theorem n159_41 : mx_ins 159 41 = some ((.getfield 178), 3) := mx_ins_of mi159 dX20_wantValue_41 rfl
theorem u159_41 : ev d 159 41 lo st h = evS (mx_gf 20 178) d 159 44 lo st h := ev_s n159_41 rfl rfl
theorem n159_44 : mx_ins 159 44 = some ((.ifCond .eq 27), 3) := mx_ins_of mi159 dX20_wantValue_44 rfl
theorem u159_44 : ev d 159 44 lo st h = evJ .eq d 159 71 47 lo st h := ev_if n159_44 rfl rfl
theorem n159_47 : mx_ins 159 47 = some ((.aload_n 0), 1) := mx_ins_of mi159 dX20_wantValue_47 rfl
theorem u159_47 : ev d 159 47 lo st h = evS (mx_ldA 0) d 159 48 lo st h := ev_s n159_47 rfl rfl
theorem n159_48 : mx_ins 159 48 = some ((.iload_n 1), 1) := mx_ins_of mi159 dX20_wantValue_48 rfl
theorem u159_48 : ev d 159 48 lo st h = evS (mx_ldI 1) d 159 49 lo st h := ev_s n159_48 rfl rfl
theorem n159_49 : mx_ins 159 49 = some ((.ifCond .lt 11), 3) := mx_ins_of mi159 dX20_wantValue_49 rfl
theorem u159_49 : ev d 159 49 lo st h = evJ .lt d 159 60 52 lo st h := ev_if n159_49 rfl rfl
theorem n159_52 : mx_ins 159 52 = some ((.sipush 20000), 3) := mx_ins_of mi159 dX20_wantValue_52 rfl
theorem u159_52 : ev d 159 52 lo st h = ev d 159 55 lo (.int 20000 :: st) h := (ev_s (f := mx_push (.int 20000)) n159_52 rfl rfl).trans es_push
theorem n159_55 : mx_ins 159 55 = some ((.iload_n 1), 1) := mx_ins_of mi159 dX20_wantValue_55 rfl
theorem u159_55 : ev d 159 55 lo st h = evS (mx_ldI 1) d 159 56 lo st h := ev_s n159_55 rfl rfl
theorem n159_56 : mx_ins 159 56 = some (.iadd, 1) := mx_ins_of mi159 dX20_wantValue_56 rfl
theorem u159_56 : ev d 159 56 lo st h = evI d 159 56 57 lo st h .iadd := ev_u n159_56 rfl
theorem n159_57 : mx_ins 159 57 = some ((.goto 7), 3) := mx_ins_of mi159 dX20_wantValue_57 rfl
theorem u159_57 : ev d 159 57 lo st h = ev d 159 64 lo st h := ev_goto n159_57 rfl
theorem n159_60 : mx_ins 159 60 = some ((.aload_n 0), 1) := mx_ins_of mi159 dX20_wantValue_60 rfl
theorem u159_60 : ev d 159 60 lo st h = evS (mx_ldA 0) d 159 61 lo st h := ev_s n159_60 rfl rfl
theorem n159_61 : mx_ins 159 61 = some ((.getfield 136), 3) := mx_ins_of mi159 dX20_wantValue_61 rfl
theorem u159_61 : ev d 159 61 lo st h = evS (mx_gf 20 136) d 159 64 lo st h := ev_s n159_61 rfl rfl
theorem n159_64 : mx_ins 159 64 = some ((.invokevirtual 170), 3) := mx_ins_of mi159 dX20_wantValue_64 rfl
theorem u159_64 : ev d 159 64 lo st h = evIn d 159 64 67 20 170 2 false lo st h := ev_inv n159_64 rfl rfl ow159 ia20_170
theorem n159_67 : mx_ins 159 67 = some ((.aload_n 0), 1) := mx_ins_of mi159 dX20_wantValue_67 rfl
theorem u159_67 : ev d 159 67 lo st h = evS (mx_ldA 0) d 159 68 lo st h := ev_s n159_67 rfl rfl
theorem n159_68 : mx_ins 159 68 = some ((.invokevirtual 182), 3) := mx_ins_of mi159 dX20_wantValue_68 rfl
theorem u159_68 : ev d 159 68 lo st h = evIn d 159 68 71 20 182 1 false lo st h := ev_inv n159_68 rfl rfl ow159 ia20_182
theorem n159_71 : mx_ins 159 71 = some (.return_, 1) := mx_ins_of mi159 dX20_wantValue_71 rfl
theorem u159_71 : ev d 159 71 lo st h = evI d 159 71 72 lo st h .return_ := ev_u n159_71 rfl
theorem mi160 : mx_mi 160 = some (yX20_factHere, cX20_factHere, 1, (Option.some Jvm.ClassFile.FieldType.int), 20, 1, []) := rfl
theorem ow160 : mx_own 160 = 20 := mx_mi_own mi160
theorem mm160 : mx_max 160 = 1 := mx_mi_max mi160
theorem rt160 : mx_ret 160 = (Option.some Jvm.ClassFile.FieldType.int) := mx_mi_ret mi160
theorem hn160 : mx_hnd 160 = [] := mx_mi_hnd mi160
theorem n160_0 : mx_ins 160 0 = some ((.aload_n 0), 1) := mx_ins_of mi160 dX20_factHere_0 rfl
theorem u160_0 : ev d 160 0 lo st h = evS (mx_ldA 0) d 160 1 lo st h := ev_s n160_0 rfl rfl
theorem n160_1 : mx_ins 160 1 = some ((.ldc2_w 145), 3) := mx_ins_of mi160 dX20_factHere_1 rfl
theorem u160_1 : ev d 160 1 lo st h = ev d 160 4 lo (.long 456500 :: st) h := (ev_s (f := mx_push (.long 456500)) n160_1 rfl rfl).trans es_push
theorem n160_4 : mx_ins 160 4 = some ((.invokevirtual 147), 3) := mx_ins_of mi160 dX20_factHere_4 rfl
theorem u160_4 : ev d 160 4 lo st h = evIn d 160 4 7 20 147 2 false lo st h := ev_inv n160_4 rfl rfl ow160 ia20_147
theorem n160_7 : mx_ins 160 7 = some ((.ifCond .eq 7), 3) := mx_ins_of mi160 dX20_factHere_7 rfl
theorem u160_7 : ev d 160 7 lo st h = evJ .eq d 160 14 10 lo st h := ev_if n160_7 rfl rfl
theorem n160_10 : mx_ins 160 10 = some ((.iconst 0), 1) := mx_ins_of mi160 dX20_factHere_10 rfl
theorem u160_10 : ev d 160 10 lo st h = ev d 160 11 lo (.int 0 :: st) h := (ev_s (f := mx_push (.int 0)) n160_10 rfl rfl).trans es_push
theorem n160_11 : mx_ins 160 11 = some ((.goto 74), 3) := mx_ins_of mi160 dX20_factHere_11 rfl
theorem u160_11 : ev d 160 11 lo st h = ev d 160 85 lo st h := ev_goto n160_11 rfl
theorem n160_14 : mx_ins 160 14 = some ((.aload_n 0), 1) := mx_ins_of mi160 dX20_factHere_14 rfl
theorem u160_14 : ev d 160 14 lo st h = evS (mx_ldA 0) d 160 15 lo st h := ev_s n160_14 rfl rfl
theorem n160_15 : mx_ins 160 15 = some ((.ldc2_w 151), 3) := mx_ins_of mi160 dX20_factHere_15 rfl
theorem u160_15 : ev d 160 15 lo st h = ev d 160 18 lo (.long 247663 :: st) h := (ev_s (f := mx_push (.long 247663)) n160_15 rfl rfl).trans es_push
theorem n160_18 : mx_ins 160 18 = some ((.invokevirtual 147), 3) := mx_ins_of mi160 dX20_factHere_18 rfl
theorem u160_18 : ev d 160 18 lo st h = evIn d 160 18 21 20 147 2 false lo st h := ev_inv n160_18 rfl rfl ow160 ia20_147
theorem n160_21 : mx_ins 160 21 = some ((.ifCond .eq 7), 3) := mx_ins_of mi160 dX20_factHere_21 rfl
theorem u160_21 : ev d 160 21 lo st h = evJ .eq d 160 28 24 lo st h := ev_if n160_21 rfl rfl
theorem n160_24 : mx_ins 160 24 = some ((.iconst 1), 1) := mx_ins_of mi160 dX20_factHere_24 rfl
theorem u160_24 : ev d 160 24 lo st h = ev d 160 25 lo (.int 1 :: st) h := (ev_s (f := mx_push (.int 1)) n160_24 rfl rfl).trans es_push
theorem n160_25 : mx_ins 160 25 = some ((.goto 60), 3) := mx_ins_of mi160 dX20_factHere_25 rfl
theorem u160_25 : ev d 160 25 lo st h = ev d 160 85 lo st h := ev_goto n160_25 rfl
theorem n160_28 : mx_ins 160 28 = some ((.aload_n 0), 1) := mx_ins_of mi160 dX20_factHere_28 rfl
theorem u160_28 : ev d 160 28 lo st h = evS (mx_ldA 0) d 160 29 lo st h := ev_s n160_28 rfl rfl
theorem n160_29 : mx_ins 160 29 = some ((.ldc2_w 153), 3) := mx_ins_of mi160 dX20_factHere_29 rfl
theorem u160_29 : ev d 160 29 lo st h = ev d 160 32 lo (.long 4421 :: st) h := (ev_s (f := mx_push (.long 4421)) n160_29 rfl rfl).trans es_push
theorem n160_32 : mx_ins 160 32 = some ((.invokevirtual 147), 3) := mx_ins_of mi160 dX20_factHere_32 rfl
theorem u160_32 : ev d 160 32 lo st h = evIn d 160 32 35 20 147 2 false lo st h := ev_inv n160_32 rfl rfl ow160 ia20_147
theorem n160_35 : mx_ins 160 35 = some ((.ifCond .eq 7), 3) := mx_ins_of mi160 dX20_factHere_35 rfl
theorem u160_35 : ev d 160 35 lo st h = evJ .eq d 160 42 38 lo st h := ev_if n160_35 rfl rfl
theorem n160_38 : mx_ins 160 38 = some ((.iconst 2), 1) := mx_ins_of mi160 dX20_factHere_38 rfl
theorem u160_38 : ev d 160 38 lo st h = ev d 160 39 lo (.int 2 :: st) h := (ev_s (f := mx_push (.int 2)) n160_38 rfl rfl).trans es_push
theorem n160_39 : mx_ins 160 39 = some ((.goto 46), 3) := mx_ins_of mi160 dX20_factHere_39 rfl
theorem u160_39 : ev d 160 39 lo st h = ev d 160 85 lo st h := ev_goto n160_39 rfl
theorem n160_42 : mx_ins 160 42 = some ((.aload_n 0), 1) := mx_ins_of mi160 dX20_factHere_42 rfl
theorem u160_42 : ev d 160 42 lo st h = evS (mx_ldA 0) d 160 43 lo st h := ev_s n160_42 rfl rfl
theorem n160_43 : mx_ins 160 43 = some ((.ldc2_w 155), 3) := mx_ins_of mi160 dX20_factHere_43 rfl
theorem u160_43 : ev d 160 43 lo st h = ev d 160 46 lo (.long 12257559 :: st) h := (ev_s (f := mx_push (.long 12257559)) n160_43 rfl rfl).trans es_push
theorem n160_46 : mx_ins 160 46 = some ((.invokevirtual 147), 3) := mx_ins_of mi160 dX20_factHere_46 rfl
theorem u160_46 : ev d 160 46 lo st h = evIn d 160 46 49 20 147 2 false lo st h := ev_inv n160_46 rfl rfl ow160 ia20_147
theorem n160_49 : mx_ins 160 49 = some ((.ifCond .eq 7), 3) := mx_ins_of mi160 dX20_factHere_49 rfl
theorem u160_49 : ev d 160 49 lo st h = evJ .eq d 160 56 52 lo st h := ev_if n160_49 rfl rfl
theorem n160_52 : mx_ins 160 52 = some ((.iconst 3), 1) := mx_ins_of mi160 dX20_factHere_52 rfl
theorem u160_52 : ev d 160 52 lo st h = ev d 160 53 lo (.int 3 :: st) h := (ev_s (f := mx_push (.int 3)) n160_52 rfl rfl).trans es_push
theorem n160_53 : mx_ins 160 53 = some ((.goto 32), 3) := mx_ins_of mi160 dX20_factHere_53 rfl
theorem u160_53 : ev d 160 53 lo st h = ev d 160 85 lo st h := ev_goto n160_53 rfl
theorem n160_56 : mx_ins 160 56 = some ((.aload_n 0), 1) := mx_ins_of mi160 dX20_factHere_56 rfl
theorem u160_56 : ev d 160 56 lo st h = evS (mx_ldA 0) d 160 57 lo st h := ev_s n160_56 rfl rfl
theorem n160_57 : mx_ins 160 57 = some ((.ldc2_w 157), 3) := mx_ins_of mi160 dX20_factHere_57 rfl
theorem u160_57 : ev d 160 57 lo st h = ev d 160 60 lo (.long 116794 :: st) h := (ev_s (f := mx_push (.long 116794)) n160_57 rfl rfl).trans es_push
theorem n160_60 : mx_ins 160 60 = some ((.invokevirtual 147), 3) := mx_ins_of mi160 dX20_factHere_60 rfl
theorem u160_60 : ev d 160 60 lo st h = evIn d 160 60 63 20 147 2 false lo st h := ev_inv n160_60 rfl rfl ow160 ia20_147
theorem n160_63 : mx_ins 160 63 = some ((.ifCond .eq 7), 3) := mx_ins_of mi160 dX20_factHere_63 rfl
theorem u160_63 : ev d 160 63 lo st h = evJ .eq d 160 70 66 lo st h := ev_if n160_63 rfl rfl
theorem n160_66 : mx_ins 160 66 = some ((.iconst 4), 1) := mx_ins_of mi160 dX20_factHere_66 rfl
theorem u160_66 : ev d 160 66 lo st h = ev d 160 67 lo (.int 4 :: st) h := (ev_s (f := mx_push (.int 4)) n160_66 rfl rfl).trans es_push
theorem n160_67 : mx_ins 160 67 = some ((.goto 18), 3) := mx_ins_of mi160 dX20_factHere_67 rfl
theorem u160_67 : ev d 160 67 lo st h = ev d 160 85 lo st h := ev_goto n160_67 rfl
theorem n160_70 : mx_ins 160 70 = some ((.aload_n 0), 1) := mx_ins_of mi160 dX20_factHere_70 rfl
theorem u160_70 : ev d 160 70 lo st h = evS (mx_ldA 0) d 160 71 lo st h := ev_s n160_70 rfl rfl
theorem n160_71 : mx_ins 160 71 = some ((.ldc2_w 159), 3) := mx_ins_of mi160 dX20_factHere_71 rfl
theorem u160_71 : ev d 160 71 lo st h = ev d 160 74 lo (.long 11522 :: st) h := (ev_s (f := mx_push (.long 11522)) n160_71 rfl rfl).trans es_push
theorem n160_74 : mx_ins 160 74 = some ((.invokevirtual 147), 3) := mx_ins_of mi160 dX20_factHere_74 rfl
theorem u160_74 : ev d 160 74 lo st h = evIn d 160 74 77 20 147 2 false lo st h := ev_inv n160_74 rfl rfl ow160 ia20_147
theorem n160_77 : mx_ins 160 77 = some ((.ifCond .eq 7), 3) := mx_ins_of mi160 dX20_factHere_77 rfl
theorem u160_77 : ev d 160 77 lo st h = evJ .eq d 160 84 80 lo st h := ev_if n160_77 rfl rfl
theorem n160_80 : mx_ins 160 80 = some ((.iconst 5), 1) := mx_ins_of mi160 dX20_factHere_80 rfl
theorem u160_80 : ev d 160 80 lo st h = ev d 160 81 lo (.int 5 :: st) h := (ev_s (f := mx_push (.int 5)) n160_80 rfl rfl).trans es_push
theorem n160_81 : mx_ins 160 81 = some ((.goto 4), 3) := mx_ins_of mi160 dX20_factHere_81 rfl
theorem u160_81 : ev d 160 81 lo st h = ev d 160 85 lo st h := ev_goto n160_81 rfl
theorem n160_84 : mx_ins 160 84 = some ((.iconst (-1)), 1) := mx_ins_of mi160 dX20_factHere_84 rfl
theorem u160_84 : ev d 160 84 lo st h = ev d 160 85 lo (.int (-1) :: st) h := (ev_s (f := mx_push (.int (-1))) n160_84 rfl rfl).trans es_push
theorem n160_85 : mx_ins 160 85 = some (.ireturn, 1) := mx_ins_of mi160 dX20_factHere_85 rfl
theorem u160_85 : ev d 160 85 lo st h = evI d 160 85 86 lo st h .ireturn := ev_u n160_85 rfl
theorem mi161 : mx_mi 161 = some (yX20_emit, cX20_emit, 2, (none : Option FieldType), 20, 2, []) := rfl
theorem ow161 : mx_own 161 = 20 := mx_mi_own mi161
theorem mm161 : mx_max 161 = 2 := mx_mi_max mi161
theorem rt161 : mx_ret 161 = (none : Option FieldType) := mx_mi_ret mi161
theorem hn161 : mx_hnd 161 = [] := mx_mi_hnd mi161
theorem n161_0 : mx_ins 161 0 = some ((.aload_n 0), 1) := mx_ins_of mi161 dX20_emit_0 rfl
theorem u161_0 : ev d 161 0 lo st h = evS (mx_ldA 0) d 161 1 lo st h := ev_s n161_0 rfl rfl
theorem n161_1 : mx_ins 161 1 = some ((.getfield 53), 3) := mx_ins_of mi161 dX20_emit_1 rfl
theorem u161_1 : ev d 161 1 lo st h = evS (mx_gf 20 53) d 161 4 lo st h := ev_s n161_1 rfl rfl
theorem n161_4 : mx_ins 161 4 = some ((.aload_n 0), 1) := mx_ins_of mi161 dX20_emit_4 rfl
theorem u161_4 : ev d 161 4 lo st h = evS (mx_ldA 0) d 161 5 lo st h := ev_s n161_4 rfl rfl
theorem n161_5 : mx_ins 161 5 = some ((.getfield 161), 3) := mx_ins_of mi161 dX20_emit_5 rfl
theorem u161_5 : ev d 161 5 lo st h = evS (mx_gf 20 161) d 161 8 lo st h := ev_s n161_5 rfl rfl
theorem n161_8 : mx_ins 161 8 = some ((.iload_n 1), 1) := mx_ins_of mi161 dX20_emit_8 rfl
theorem u161_8 : ev d 161 8 lo st h = evS (mx_ldI 1) d 161 9 lo st h := ev_s n161_8 rfl rfl
theorem n161_9 : mx_ins 161 9 = some (.iastore, 1) := mx_ins_of mi161 dX20_emit_9 rfl
theorem u161_9 : ev d 161 9 lo st h = evI d 161 9 10 lo st h .iastore := ev_u n161_9 rfl
theorem n161_10 : mx_ins 161 10 = some ((.aload_n 0), 1) := mx_ins_of mi161 dX20_emit_10 rfl
theorem u161_10 : ev d 161 10 lo st h = evS (mx_ldA 0) d 161 11 lo st h := ev_s n161_10 rfl rfl
theorem n161_11 : mx_ins 161 11 = some (.dup, 1) := mx_ins_of mi161 dX20_emit_11 rfl
theorem u161_11 : ev d 161 11 lo st h = evI d 161 11 12 lo st h .dup := ev_u n161_11 rfl
theorem n161_12 : mx_ins 161 12 = some ((.getfield 161), 3) := mx_ins_of mi161 dX20_emit_12 rfl
theorem u161_12 : ev d 161 12 lo st h = evS (mx_gf 20 161) d 161 15 lo st h := ev_s n161_12 rfl rfl
theorem n161_15 : mx_ins 161 15 = some ((.iconst 1), 1) := mx_ins_of mi161 dX20_emit_15 rfl
theorem u161_15 : ev d 161 15 lo st h = ev d 161 16 lo (.int 1 :: st) h := (ev_s (f := mx_push (.int 1)) n161_15 rfl rfl).trans es_push
theorem n161_16 : mx_ins 161 16 = some (.iadd, 1) := mx_ins_of mi161 dX20_emit_16 rfl
theorem u161_16 : ev d 161 16 lo st h = evI d 161 16 17 lo st h .iadd := ev_u n161_16 rfl
theorem n161_17 : mx_ins 161 17 = some ((.putfield 161), 3) := mx_ins_of mi161 dX20_emit_17 rfl
theorem u161_17 : ev d 161 17 lo st h = evS (mx_pf 20 161 false) d 161 20 lo st h := ev_s n161_17 rfl rfl
theorem n161_20 : mx_ins 161 20 = some (.return_, 1) := mx_ins_of mi161 dX20_emit_20 rfl
theorem u161_20 : ev d 161 20 lo st h = evI d 161 20 21 lo st h .return_ := ev_u n161_20 rfl
theorem mi162 : mx_mi 162 = some (yX20_settle, cX20_settle, 2, (none : Option FieldType), 20, 2, []) := rfl
theorem ow162 : mx_own 162 = 20 := mx_mi_own mi162
theorem mm162 : mx_max 162 = 2 := mx_mi_max mi162
theorem rt162 : mx_ret 162 = (none : Option FieldType) := mx_mi_ret mi162
theorem hn162 : mx_hnd 162 = [] := mx_mi_hnd mi162
theorem n162_0 : mx_ins 162 0 = some ((.aload_n 0), 1) := mx_ins_of mi162 dX20_settle_0 rfl
theorem u162_0 : ev d 162 0 lo st h = evS (mx_ldA 0) d 162 1 lo st h := ev_s n162_0 rfl rfl
theorem n162_1 : mx_ins 162 1 = some ((.iload_n 1), 1) := mx_ins_of mi162 dX20_settle_1 rfl
theorem u162_1 : ev d 162 1 lo st h = evS (mx_ldI 1) d 162 2 lo st h := ev_s n162_1 rfl rfl
theorem n162_2 : mx_ins 162 2 = some ((.invokevirtual 167), 3) := mx_ins_of mi162 dX20_settle_2 rfl
theorem u162_2 : ev d 162 2 lo st h = evIn d 162 2 5 20 167 2 false lo st h := ev_inv n162_2 rfl rfl ow162 ia20_167
theorem n162_5 : mx_ins 162 5 = some ((.ifCond .eq 21), 3) := mx_ins_of mi162 dX20_settle_5 rfl
theorem u162_5 : ev d 162 5 lo st h = evJ .eq d 162 26 8 lo st h := ev_if n162_5 rfl rfl
theorem n162_8 : mx_ins 162 8 = some ((.aload_n 0), 1) := mx_ins_of mi162 dX20_settle_8 rfl
theorem u162_8 : ev d 162 8 lo st h = evS (mx_ldA 0) d 162 9 lo st h := ev_s n162_8 rfl rfl
theorem n162_9 : mx_ins 162 9 = some ((.iload_n 1), 1) := mx_ins_of mi162 dX20_settle_9 rfl
theorem u162_9 : ev d 162 9 lo st h = evS (mx_ldI 1) d 162 10 lo st h := ev_s n162_9 rfl rfl
theorem n162_10 : mx_ins 162 10 = some ((.invokevirtual 170), 3) := mx_ins_of mi162 dX20_settle_10 rfl
theorem u162_10 : ev d 162 10 lo st h = evIn d 162 10 13 20 170 2 false lo st h := ev_inv n162_10 rfl rfl ow162 ia20_170
theorem n162_13 : mx_ins 162 13 = some ((.aload_n 0), 1) := mx_ins_of mi162 dX20_settle_13 rfl
theorem u162_13 : ev d 162 13 lo st h = evS (mx_ldA 0) d 162 14 lo st h := ev_s n162_13 rfl rfl
theorem n162_14 : mx_ins 162 14 = some (.dup, 1) := mx_ins_of mi162 dX20_settle_14 rfl
theorem u162_14 : ev d 162 14 lo st h = evI d 162 14 15 lo st h .dup := ev_u n162_14 rfl
theorem n162_15 : mx_ins 162 15 = some ((.getfield 164), 3) := mx_ins_of mi162 dX20_settle_15 rfl
theorem u162_15 : ev d 162 15 lo st h = evS (mx_gf 20 164) d 162 18 lo st h := ev_s n162_15 rfl rfl
theorem n162_18 : mx_ins 162 18 = some ((.iconst 1), 1) := mx_ins_of mi162 dX20_settle_18 rfl
theorem u162_18 : ev d 162 18 lo st h = ev d 162 19 lo (.int 1 :: st) h := (ev_s (f := mx_push (.int 1)) n162_18 rfl rfl).trans es_push
theorem n162_19 : mx_ins 162 19 = some (.isub, 1) := mx_ins_of mi162 dX20_settle_19 rfl
theorem u162_19 : ev d 162 19 lo st h = evI d 162 19 20 lo st h .isub := ev_u n162_19 rfl
theorem n162_20 : mx_ins 162 20 = some ((.putfield 164), 3) := mx_ins_of mi162 dX20_settle_20 rfl
theorem u162_20 : ev d 162 20 lo st h = evS (mx_pf 20 164 false) d 162 23 lo st h := ev_s n162_20 rfl rfl
theorem n162_23 : mx_ins 162 23 = some ((.goto (-23)), 3) := mx_ins_of mi162 dX20_settle_23 rfl
theorem u162_23 : ev d 162 23 lo st h = ev d 162 0 lo st h := ev_goto n162_23 rfl
theorem n162_26 : mx_ins 162 26 = some (.return_, 1) := mx_ins_of mi162 dX20_settle_26 rfl
theorem u162_26 : ev d 162 26 lo st h = evI d 162 26 27 lo st h .return_ := ev_u n162_26 rfl
theorem mi163 : mx_mi 163 = some (yX20_isTop, cX20_isTop, 2, (Option.some Jvm.ClassFile.FieldType.boolean), 20, 2, []) := rfl
theorem ow163 : mx_own 163 = 20 := mx_mi_own mi163
theorem mm163 : mx_max 163 = 2 := mx_mi_max mi163
theorem rt163 : mx_ret 163 = (Option.some Jvm.ClassFile.FieldType.boolean) := mx_mi_ret mi163
theorem hn163 : mx_hnd 163 = [] := mx_mi_hnd mi163
theorem n163_0 : mx_ins 163 0 = some ((.aload_n 0), 1) := mx_ins_of mi163 dX20_isTop_0 rfl
theorem u163_0 : ev d 163 0 lo st h = evS (mx_ldA 0) d 163 1 lo st h := ev_s n163_0 rfl rfl
theorem n163_1 : mx_ins 163 1 = some ((.getfield 164), 3) := mx_ins_of mi163 dX20_isTop_1 rfl
theorem u163_1 : ev d 163 1 lo st h = evS (mx_gf 20 164) d 163 4 lo st h := ev_s n163_1 rfl rfl
theorem n163_4 : mx_ins 163 4 = some ((.ifCond .le 22), 3) := mx_ins_of mi163 dX20_isTop_4 rfl
theorem u163_4 : ev d 163 4 lo st h = evJ .le d 163 26 7 lo st h := ev_if n163_4 rfl rfl
theorem n163_7 : mx_ins 163 7 = some ((.aload_n 0), 1) := mx_ins_of mi163 dX20_isTop_7 rfl
theorem u163_7 : ev d 163 7 lo st h = evS (mx_ldA 0) d 163 8 lo st h := ev_s n163_7 rfl rfl
theorem n163_8 : mx_ins 163 8 = some ((.getfield 56), 3) := mx_ins_of mi163 dX20_isTop_8 rfl
theorem u163_8 : ev d 163 8 lo st h = evS (mx_gf 20 56) d 163 11 lo st h := ev_s n163_8 rfl rfl
theorem n163_11 : mx_ins 163 11 = some ((.aload_n 0), 1) := mx_ins_of mi163 dX20_isTop_11 rfl
theorem u163_11 : ev d 163 11 lo st h = evS (mx_ldA 0) d 163 12 lo st h := ev_s n163_11 rfl rfl
theorem n163_12 : mx_ins 163 12 = some ((.getfield 164), 3) := mx_ins_of mi163 dX20_isTop_12 rfl
theorem u163_12 : ev d 163 12 lo st h = evS (mx_gf 20 164) d 163 15 lo st h := ev_s n163_12 rfl rfl
theorem n163_15 : mx_ins 163 15 = some ((.iconst 1), 1) := mx_ins_of mi163 dX20_isTop_15 rfl
theorem u163_15 : ev d 163 15 lo st h = ev d 163 16 lo (.int 1 :: st) h := (ev_s (f := mx_push (.int 1)) n163_15 rfl rfl).trans es_push
theorem n163_16 : mx_ins 163 16 = some (.isub, 1) := mx_ins_of mi163 dX20_isTop_16 rfl
theorem u163_16 : ev d 163 16 lo st h = evI d 163 16 17 lo st h .isub := ev_u n163_16 rfl
theorem n163_17 : mx_ins 163 17 = some (.iaload, 1) := mx_ins_of mi163 dX20_isTop_17 rfl
theorem u163_17 : ev d 163 17 lo st h = evI d 163 17 18 lo st h .iaload := ev_u n163_17 rfl
theorem n163_18 : mx_ins 163 18 = some ((.iload_n 1), 1) := mx_ins_of mi163 dX20_isTop_18 rfl
theorem u163_18 : ev d 163 18 lo st h = evS (mx_ldI 1) d 163 19 lo st h := ev_s n163_18 rfl rfl
theorem n163_19 : mx_ins 163 19 = some ((.if_icmp .ne 7), 3) := mx_ins_of mi163 dX20_isTop_19 rfl
theorem u163_19 : ev d 163 19 lo st h = evK .ne d 163 26 22 lo st h := ev_ic n163_19 rfl rfl
theorem n163_22 : mx_ins 163 22 = some ((.iconst 1), 1) := mx_ins_of mi163 dX20_isTop_22 rfl
theorem u163_22 : ev d 163 22 lo st h = ev d 163 23 lo (.int 1 :: st) h := (ev_s (f := mx_push (.int 1)) n163_22 rfl rfl).trans es_push
theorem n163_23 : mx_ins 163 23 = some ((.goto 4), 3) := mx_ins_of mi163 dX20_isTop_23 rfl
theorem u163_23 : ev d 163 23 lo st h = ev d 163 27 lo st h := ev_goto n163_23 rfl
theorem n163_26 : mx_ins 163 26 = some ((.iconst 0), 1) := mx_ins_of mi163 dX20_isTop_26 rfl
theorem u163_26 : ev d 163 26 lo st h = ev d 163 27 lo (.int 0 :: st) h := (ev_s (f := mx_push (.int 0)) n163_26 rfl rfl).trans es_push
theorem n163_27 : mx_ins 163 27 = some (.ireturn, 1) := mx_ins_of mi163 dX20_isTop_27 rfl
theorem u163_27 : ev d 163 27 lo st h = evI d 163 27 28 lo st h .ireturn := ev_u n163_27 rfl
theorem mi164 : mx_mi 164 = some (yX20_out, cX20_out, 4, (Option.some Jvm.ClassFile.FieldType.int), 20, 3, []) := rfl
theorem ow164 : mx_own 164 = 20 := mx_mi_own mi164
theorem mm164 : mx_max 164 = 4 := mx_mi_max mi164
theorem rt164 : mx_ret 164 = (Option.some Jvm.ClassFile.FieldType.int) := mx_mi_ret mi164
theorem hn164 : mx_hnd 164 = [] := mx_mi_hnd mi164
theorem n164_0 : mx_ins 164 0 = some ((.iload_n 1), 1) := mx_ins_of mi164 dX20_out_0 rfl
theorem u164_0 : ev d 164 0 lo st h = evS (mx_ldI 1) d 164 1 lo st h := ev_s n164_0 rfl rfl
theorem n164_1 : mx_ins 164 1 = some ((.invokestatic 238), 3) := mx_ins_of mi164 dX20_out_1 rfl
theorem u164_1 : ev d 164 1 lo st h = evIn d 164 1 4 20 238 1 true lo st h := ev_inv n164_1 rfl rfl ow164 ia20_238
theorem n164_4 : mx_ins 164 4 = some ((.ifCond .eq 14), 3) := mx_ins_of mi164 dX20_out_4 rfl
theorem u164_4 : ev d 164 4 lo st h = evJ .eq d 164 18 7 lo st h := ev_if n164_4 rfl rfl
theorem n164_7 : mx_ins 164 7 = some ((.iload_n 2), 1) := mx_ins_of mi164 dX20_out_7 rfl
theorem u164_7 : ev d 164 7 lo st h = evS (mx_ldI 2) d 164 8 lo st h := ev_s n164_7 rfl rfl
theorem n164_8 : mx_ins 164 8 = some ((.bipush (-20)), 2) := mx_ins_of mi164 dX20_out_8 rfl
theorem u164_8 : ev d 164 8 lo st h = ev d 164 10 lo (.int (-20) :: st) h := (ev_s (f := mx_push (.int (-20))) n164_8 rfl rfl).trans es_push
theorem n164_10 : mx_ins 164 10 = some ((.bipush 30), 2) := mx_ins_of mi164 dX20_out_10 rfl
theorem u164_10 : ev d 164 10 lo st h = ev d 164 12 lo (.int 30 :: st) h := (ev_s (f := mx_push (.int 30)) n164_10 rfl rfl).trans es_push
theorem n164_12 : mx_ins 164 12 = some ((.invokestatic 100), 3) := mx_ins_of mi164 dX20_out_12 rfl
theorem u164_12 : ev d 164 12 lo st h = evIn d 164 12 15 20 100 3 true lo st h := ev_inv n164_12 rfl rfl ow164 ia20_100
theorem n164_15 : mx_ins 164 15 = some ((.ifCond .ne 6), 3) := mx_ins_of mi164 dX20_out_15 rfl
theorem u164_15 : ev d 164 15 lo st h = evJ .ne d 164 21 18 lo st h := ev_if n164_15 rfl rfl
theorem n164_18 : mx_ins 164 18 = some ((.ldc 241), 2) := mx_ins_of mi164 dX20_out_18 rfl
theorem u164_18 : ev d 164 18 lo st h = ev d 164 20 lo (.int (-2147483648) :: st) h := (ev_s (f := mx_push (.int (-2147483648))) n164_18 rfl rfl).trans es_push
theorem n164_20 : mx_ins 164 20 = some (.ireturn, 1) := mx_ins_of mi164 dX20_out_20 rfl
theorem u164_20 : ev d 164 20 lo st h = evI d 164 20 21 lo st h .ireturn := ev_u n164_20 rfl
theorem n164_21 : mx_ins 164 21 = some ((.aload_n 0), 1) := mx_ins_of mi164 dX20_out_21 rfl
theorem u164_21 : ev d 164 21 lo st h = evS (mx_ldA 0) d 164 22 lo st h := ev_s n164_21 rfl rfl
theorem n164_22 : mx_ins 164 22 = some ((.getfield 19), 3) := mx_ins_of mi164 dX20_out_22 rfl
theorem u164_22 : ev d 164 22 lo st h = evS (mx_gf 20 19) d 164 25 lo st h := ev_s n164_22 rfl rfl
theorem n164_25 : mx_ins 164 25 = some ((.iload_n 1), 1) := mx_ins_of mi164 dX20_out_25 rfl
theorem u164_25 : ev d 164 25 lo st h = evS (mx_ldI 1) d 164 26 lo st h := ev_s n164_25 rfl rfl
theorem n164_26 : mx_ins 164 26 = some (.iaload, 1) := mx_ins_of mi164 dX20_out_26 rfl
theorem u164_26 : ev d 164 26 lo st h = evI d 164 26 27 lo st h .iaload := ev_u n164_26 rfl
theorem n164_27 : mx_ins 164 27 = some ((.istore_n 3), 1) := mx_ins_of mi164 dX20_out_27 rfl
theorem u164_27 : ev d 164 27 lo st h = evS (mx_stI 3) d 164 28 lo st h := ev_s n164_27 rfl rfl
theorem n164_28 : mx_ins 164 28 = some ((.aload_n 0), 1) := mx_ins_of mi164 dX20_out_28 rfl
theorem u164_28 : ev d 164 28 lo st h = evS (mx_ldA 0) d 164 29 lo st h := ev_s n164_28 rfl rfl
theorem n164_29 : mx_ins 164 29 = some ((.getfield 19), 3) := mx_ins_of mi164 dX20_out_29 rfl
theorem u164_29 : ev d 164 29 lo st h = evS (mx_gf 20 19) d 164 32 lo st h := ev_s n164_29 rfl rfl
theorem n164_32 : mx_ins 164 32 = some ((.iload_n 1), 1) := mx_ins_of mi164 dX20_out_32 rfl
theorem u164_32 : ev d 164 32 lo st h = evS (mx_ldI 1) d 164 33 lo st h := ev_s n164_32 rfl rfl
theorem n164_33 : mx_ins 164 33 = some ((.iload_n 2), 1) := mx_ins_of mi164 dX20_out_33 rfl
theorem u164_33 : ev d 164 33 lo st h = evS (mx_ldI 2) d 164 34 lo st h := ev_s n164_33 rfl rfl
theorem n164_34 : mx_ins 164 34 = some (.iastore, 1) := mx_ins_of mi164 dX20_out_34 rfl
theorem u164_34 : ev d 164 34 lo st h = evI d 164 34 35 lo st h .iastore := ev_u n164_34 rfl
theorem n164_35 : mx_ins 164 35 = some ((.iload_n 3), 1) := mx_ins_of mi164 dX20_out_35 rfl
theorem u164_35 : ev d 164 35 lo st h = evS (mx_ldI 3) d 164 36 lo st h := ev_s n164_35 rfl rfl
theorem n164_36 : mx_ins 164 36 = some (.ireturn, 1) := mx_ins_of mi164 dX20_out_36 rfl
theorem u164_36 : ev d 164 36 lo st h = evI d 164 36 37 lo st h .ireturn := ev_u n164_36 rfl
theorem mi165 : mx_mi 165 = some (yX20_isWeek, cX20_isWeek, 1, (Option.some Jvm.ClassFile.FieldType.boolean), 20, 1, []) := rfl
theorem ow165 : mx_own 165 = 20 := mx_mi_own mi165
theorem mm165 : mx_max 165 = 1 := mx_mi_max mi165
theorem rt165 : mx_ret 165 = (Option.some Jvm.ClassFile.FieldType.boolean) := mx_mi_ret mi165
theorem hn165 : mx_hnd 165 = [] := mx_mi_hnd mi165
theorem n165_0 : mx_ins 165 0 = some ((.iload_n 0), 1) := mx_ins_of mi165 dX20_isWeek_0 rfl
theorem u165_0 : ev d 165 0 lo st h = evS (mx_ldI 0) d 165 1 lo st h := ev_s n165_0 rfl rfl
theorem n165_1 : mx_ins 165 1 = some ((.iconst 0), 1) := mx_ins_of mi165 dX20_isWeek_1 rfl
theorem u165_1 : ev d 165 1 lo st h = ev d 165 2 lo (.int 0 :: st) h := (ev_s (f := mx_push (.int 0)) n165_1 rfl rfl).trans es_push
theorem n165_2 : mx_ins 165 2 = some ((.bipush 23), 2) := mx_ins_of mi165 dX20_isWeek_2 rfl
theorem u165_2 : ev d 165 2 lo st h = ev d 165 4 lo (.int 23 :: st) h := (ev_s (f := mx_push (.int 23)) n165_2 rfl rfl).trans es_push
theorem n165_4 : mx_ins 165 4 = some ((.invokestatic 100), 3) := mx_ins_of mi165 dX20_isWeek_4 rfl
theorem u165_4 : ev d 165 4 lo st h = evIn d 165 4 7 20 100 3 true lo st h := ev_inv n165_4 rfl rfl ow165 ia20_100
theorem n165_7 : mx_ins 165 7 = some (.ireturn, 1) := mx_ins_of mi165 dX20_isWeek_7 rfl
theorem u165_7 : ev d 165 7 lo st h = evI d 165 7 8 lo st h .ireturn := ev_u n165_7 rfl
theorem mi166 : mx_mi 166 = some (yX20_air, cX20_air, 4, (Option.some Jvm.ClassFile.FieldType.int), 20, 3, []) := rfl
theorem ow166 : mx_own 166 = 20 := mx_mi_own mi166
theorem mm166 : mx_max 166 = 4 := mx_mi_max mi166
theorem rt166 : mx_ret 166 = (Option.some Jvm.ClassFile.FieldType.int) := mx_mi_ret mi166
theorem hn166 : mx_hnd 166 = [] := mx_mi_hnd mi166
theorem n166_0 : mx_ins 166 0 = some ((.iload_n 1), 1) := mx_ins_of mi166 dX20_air_0 rfl
theorem u166_0 : ev d 166 0 lo st h = evS (mx_ldI 1) d 166 1 lo st h := ev_s n166_0 rfl rfl
theorem n166_1 : mx_ins 166 1 = some ((.invokestatic 238), 3) := mx_ins_of mi166 dX20_air_1 rfl
theorem u166_1 : ev d 166 1 lo st h = evIn d 166 1 4 20 238 1 true lo st h := ev_inv n166_1 rfl rfl ow166 ia20_238
theorem n166_4 : mx_ins 166 4 = some ((.ifCond .eq 13), 3) := mx_ins_of mi166 dX20_air_4 rfl
theorem u166_4 : ev d 166 4 lo st h = evJ .eq d 166 17 7 lo st h := ev_if n166_4 rfl rfl
theorem n166_7 : mx_ins 166 7 = some ((.iload_n 2), 1) := mx_ins_of mi166 dX20_air_7 rfl
theorem u166_7 : ev d 166 7 lo st h = evS (mx_ldI 2) d 166 8 lo st h := ev_s n166_7 rfl rfl
theorem n166_8 : mx_ins 166 8 = some ((.iconst 0), 1) := mx_ins_of mi166 dX20_air_8 rfl
theorem u166_8 : ev d 166 8 lo st h = ev d 166 9 lo (.int 0 :: st) h := (ev_s (f := mx_push (.int 0)) n166_8 rfl rfl).trans es_push
theorem n166_9 : mx_ins 166 9 = some ((.bipush 9), 2) := mx_ins_of mi166 dX20_air_9 rfl
theorem u166_9 : ev d 166 9 lo st h = ev d 166 11 lo (.int 9 :: st) h := (ev_s (f := mx_push (.int 9)) n166_9 rfl rfl).trans es_push
theorem n166_11 : mx_ins 166 11 = some ((.invokestatic 100), 3) := mx_ins_of mi166 dX20_air_11 rfl
theorem u166_11 : ev d 166 11 lo st h = evIn d 166 11 14 20 100 3 true lo st h := ev_inv n166_11 rfl rfl ow166 ia20_100
theorem n166_14 : mx_ins 166 14 = some ((.ifCond .ne 5), 3) := mx_ins_of mi166 dX20_air_14 rfl
theorem u166_14 : ev d 166 14 lo st h = evJ .ne d 166 19 17 lo st h := ev_if n166_14 rfl rfl
theorem n166_17 : mx_ins 166 17 = some ((.iconst (-1)), 1) := mx_ins_of mi166 dX20_air_17 rfl
theorem u166_17 : ev d 166 17 lo st h = ev d 166 18 lo (.int (-1) :: st) h := (ev_s (f := mx_push (.int (-1))) n166_17 rfl rfl).trans es_push
theorem n166_18 : mx_ins 166 18 = some (.ireturn, 1) := mx_ins_of mi166 dX20_air_18 rfl
theorem u166_18 : ev d 166 18 lo st h = evI d 166 18 19 lo st h .ireturn := ev_u n166_18 rfl
theorem n166_19 : mx_ins 166 19 = some ((.aload_n 0), 1) := mx_ins_of mi166 dX20_air_19 rfl
theorem u166_19 : ev d 166 19 lo st h = evS (mx_ldA 0) d 166 20 lo st h := ev_s n166_19 rfl rfl
theorem n166_20 : mx_ins 166 20 = some ((.getfield 22), 3) := mx_ins_of mi166 dX20_air_20 rfl
theorem u166_20 : ev d 166 20 lo st h = evS (mx_gf 20 22) d 166 23 lo st h := ev_s n166_20 rfl rfl
theorem n166_23 : mx_ins 166 23 = some ((.iload_n 1), 1) := mx_ins_of mi166 dX20_air_23 rfl
theorem u166_23 : ev d 166 23 lo st h = evS (mx_ldI 1) d 166 24 lo st h := ev_s n166_23 rfl rfl
theorem n166_24 : mx_ins 166 24 = some (.iaload, 1) := mx_ins_of mi166 dX20_air_24 rfl
theorem u166_24 : ev d 166 24 lo st h = evI d 166 24 25 lo st h .iaload := ev_u n166_24 rfl
theorem n166_25 : mx_ins 166 25 = some ((.istore_n 3), 1) := mx_ins_of mi166 dX20_air_25 rfl
theorem u166_25 : ev d 166 25 lo st h = evS (mx_stI 3) d 166 26 lo st h := ev_s n166_25 rfl rfl
theorem n166_26 : mx_ins 166 26 = some ((.aload_n 0), 1) := mx_ins_of mi166 dX20_air_26 rfl
theorem u166_26 : ev d 166 26 lo st h = evS (mx_ldA 0) d 166 27 lo st h := ev_s n166_26 rfl rfl
theorem n166_27 : mx_ins 166 27 = some ((.getfield 22), 3) := mx_ins_of mi166 dX20_air_27 rfl
theorem u166_27 : ev d 166 27 lo st h = evS (mx_gf 20 22) d 166 30 lo st h := ev_s n166_27 rfl rfl
theorem n166_30 : mx_ins 166 30 = some ((.iload_n 1), 1) := mx_ins_of mi166 dX20_air_30 rfl
theorem u166_30 : ev d 166 30 lo st h = evS (mx_ldI 1) d 166 31 lo st h := ev_s n166_30 rfl rfl
theorem n166_31 : mx_ins 166 31 = some ((.iload_n 2), 1) := mx_ins_of mi166 dX20_air_31 rfl
theorem u166_31 : ev d 166 31 lo st h = evS (mx_ldI 2) d 166 32 lo st h := ev_s n166_31 rfl rfl
theorem n166_32 : mx_ins 166 32 = some (.iastore, 1) := mx_ins_of mi166 dX20_air_32 rfl
theorem u166_32 : ev d 166 32 lo st h = evI d 166 32 33 lo st h .iastore := ev_u n166_32 rfl
theorem n166_33 : mx_ins 166 33 = some ((.iload_n 3), 1) := mx_ins_of mi166 dX20_air_33 rfl
theorem u166_33 : ev d 166 33 lo st h = evS (mx_ldI 3) d 166 34 lo st h := ev_s n166_33 rfl rfl
theorem n166_34 : mx_ins 166 34 = some (.ireturn, 1) := mx_ins_of mi166 dX20_air_34 rfl
theorem u166_34 : ev d 166 34 lo st h = evI d 166 34 35 lo st h .ireturn := ev_u n166_34 rfl
theorem mi167 : mx_mi 167 = some (yX20_weekOf, cX20_weekOf, 4, (Option.some Jvm.ClassFile.FieldType.int), 20, 4, []) := rfl
theorem ow167 : mx_own 167 = 20 := mx_mi_own mi167
theorem mm167 : mx_max 167 = 4 := mx_mi_max mi167
theorem rt167 : mx_ret 167 = (Option.some Jvm.ClassFile.FieldType.int) := mx_mi_ret mi167
theorem hn167 : mx_hnd 167 = [] := mx_mi_hnd mi167
theorem n167_0 : mx_ins 167 0 = some ((.iload_n 1), 1) := mx_ins_of mi167 dX20_weekOf_0 rfl
theorem u167_0 : ev d 167 0 lo st h = evS (mx_ldI 1) d 167 1 lo st h := ev_s n167_0 rfl rfl
theorem n167_1 : mx_ins 167 1 = some ((.invokestatic 238), 3) := mx_ins_of mi167 dX20_weekOf_1 rfl
theorem u167_1 : ev d 167 1 lo st h = evIn d 167 1 4 20 238 1 true lo st h := ev_inv n167_1 rfl rfl ow167 ia20_238
theorem n167_4 : mx_ins 167 4 = some ((.ifCond .eq 19), 3) := mx_ins_of mi167 dX20_weekOf_4 rfl
theorem u167_4 : ev d 167 4 lo st h = evJ .eq d 167 23 7 lo st h := ev_if n167_4 rfl rfl
theorem n167_7 : mx_ins 167 7 = some ((.iload_n 2), 1) := mx_ins_of mi167 dX20_weekOf_7 rfl
theorem u167_7 : ev d 167 7 lo st h = evS (mx_ldI 2) d 167 8 lo st h := ev_s n167_7 rfl rfl
theorem n167_8 : mx_ins 167 8 = some ((.invokestatic 246), 3) := mx_ins_of mi167 dX20_weekOf_8 rfl
theorem u167_8 : ev d 167 8 lo st h = evIn d 167 8 11 20 246 1 true lo st h := ev_inv n167_8 rfl rfl ow167 ia20_246
theorem n167_11 : mx_ins 167 11 = some ((.ifCond .eq 12), 3) := mx_ins_of mi167 dX20_weekOf_11 rfl
theorem u167_11 : ev d 167 11 lo st h = evJ .eq d 167 23 14 lo st h := ev_if n167_11 rfl rfl
theorem n167_14 : mx_ins 167 14 = some ((.iload_n 3), 1) := mx_ins_of mi167 dX20_weekOf_14 rfl
theorem u167_14 : ev d 167 14 lo st h = evS (mx_ldI 3) d 167 15 lo st h := ev_s n167_14 rfl rfl
theorem n167_15 : mx_ins 167 15 = some ((.iconst 0), 1) := mx_ins_of mi167 dX20_weekOf_15 rfl
theorem u167_15 : ev d 167 15 lo st h = ev d 167 16 lo (.int 0 :: st) h := (ev_s (f := mx_push (.int 0)) n167_15 rfl rfl).trans es_push
theorem n167_16 : mx_ins 167 16 = some ((.iconst 3), 1) := mx_ins_of mi167 dX20_weekOf_16 rfl
theorem u167_16 : ev d 167 16 lo st h = ev d 167 17 lo (.int 3 :: st) h := (ev_s (f := mx_push (.int 3)) n167_16 rfl rfl).trans es_push
theorem n167_17 : mx_ins 167 17 = some ((.invokestatic 100), 3) := mx_ins_of mi167 dX20_weekOf_17 rfl
theorem u167_17 : ev d 167 17 lo st h = evIn d 167 17 20 20 100 3 true lo st h := ev_inv n167_17 rfl rfl ow167 ia20_100
theorem n167_20 : mx_ins 167 20 = some ((.ifCond .ne 6), 3) := mx_ins_of mi167 dX20_weekOf_20 rfl
theorem u167_20 : ev d 167 20 lo st h = evJ .ne d 167 26 23 lo st h := ev_if n167_20 rfl rfl
theorem n167_23 : mx_ins 167 23 = some ((.ldc 241), 2) := mx_ins_of mi167 dX20_weekOf_23 rfl
theorem u167_23 : ev d 167 23 lo st h = ev d 167 25 lo (.int (-2147483648) :: st) h := (ev_s (f := mx_push (.int (-2147483648))) n167_23 rfl rfl).trans es_push
theorem n167_25 : mx_ins 167 25 = some (.ireturn, 1) := mx_ins_of mi167 dX20_weekOf_25 rfl
theorem u167_25 : ev d 167 25 lo st h = evI d 167 25 26 lo st h .ireturn := ev_u n167_25 rfl
theorem n167_26 : mx_ins 167 26 = some ((.iload_n 3), 1) := mx_ins_of mi167 dX20_weekOf_26 rfl
theorem u167_26 : ev d 167 26 lo st h = evS (mx_ldI 3) d 167 27 lo st h := ev_s n167_26 rfl rfl
theorem n167_27 : mx_ins 167 27 = some ((.ifCond .ne 12), 3) := mx_ins_of mi167 dX20_weekOf_27 rfl
theorem u167_27 : ev d 167 27 lo st h = evJ .ne d 167 39 30 lo st h := ev_if n167_27 rfl rfl
theorem n167_30 : mx_ins 167 30 = some ((.aload_n 0), 1) := mx_ins_of mi167 dX20_weekOf_30 rfl
theorem u167_30 : ev d 167 30 lo st h = evS (mx_ldA 0) d 167 31 lo st h := ev_s n167_30 rfl rfl
theorem n167_31 : mx_ins 167 31 = some ((.iload_n 1), 1) := mx_ins_of mi167 dX20_weekOf_31 rfl
theorem u167_31 : ev d 167 31 lo st h = evS (mx_ldI 1) d 167 32 lo st h := ev_s n167_31 rfl rfl
theorem n167_32 : mx_ins 167 32 = some ((.iload_n 2), 1) := mx_ins_of mi167 dX20_weekOf_32 rfl
theorem u167_32 : ev d 167 32 lo st h = evS (mx_ldI 2) d 167 33 lo st h := ev_s n167_32 rfl rfl
theorem n167_33 : mx_ins 167 33 = some ((.invokevirtual 242), 3) := mx_ins_of mi167 dX20_weekOf_33 rfl
theorem u167_33 : ev d 167 33 lo st h = evIn d 167 33 36 20 242 3 false lo st h := ev_inv n167_33 rfl rfl ow167 ia20_242
theorem n167_36 : mx_ins 167 36 = some ((.goto 37), 3) := mx_ins_of mi167 dX20_weekOf_36 rfl
theorem u167_36 : ev d 167 36 lo st h = ev d 167 73 lo st h := ev_goto n167_36 rfl
theorem n167_39 : mx_ins 167 39 = some ((.iload_n 3), 1) := mx_ins_of mi167 dX20_weekOf_39 rfl
theorem u167_39 : ev d 167 39 lo st h = evS (mx_ldI 3) d 167 40 lo st h := ev_s n167_39 rfl rfl
theorem n167_40 : mx_ins 167 40 = some ((.iconst 1), 1) := mx_ins_of mi167 dX20_weekOf_40 rfl
theorem u167_40 : ev d 167 40 lo st h = ev d 167 41 lo (.int 1 :: st) h := (ev_s (f := mx_push (.int 1)) n167_40 rfl rfl).trans es_push
theorem n167_41 : mx_ins 167 41 = some ((.if_icmp .ne 12), 3) := mx_ins_of mi167 dX20_weekOf_41 rfl
theorem u167_41 : ev d 167 41 lo st h = evK .ne d 167 53 44 lo st h := ev_ic n167_41 rfl rfl
theorem n167_44 : mx_ins 167 44 = some ((.aload_n 0), 1) := mx_ins_of mi167 dX20_weekOf_44 rfl
theorem u167_44 : ev d 167 44 lo st h = evS (mx_ldA 0) d 167 45 lo st h := ev_s n167_44 rfl rfl
theorem n167_45 : mx_ins 167 45 = some ((.getfield 19), 3) := mx_ins_of mi167 dX20_weekOf_45 rfl
theorem u167_45 : ev d 167 45 lo st h = evS (mx_gf 20 19) d 167 48 lo st h := ev_s n167_45 rfl rfl
theorem n167_48 : mx_ins 167 48 = some ((.iload_n 1), 1) := mx_ins_of mi167 dX20_weekOf_48 rfl
theorem u167_48 : ev d 167 48 lo st h = evS (mx_ldI 1) d 167 49 lo st h := ev_s n167_48 rfl rfl
theorem n167_49 : mx_ins 167 49 = some (.iaload, 1) := mx_ins_of mi167 dX20_weekOf_49 rfl
theorem u167_49 : ev d 167 49 lo st h = evI d 167 49 50 lo st h .iaload := ev_u n167_49 rfl
theorem n167_50 : mx_ins 167 50 = some ((.goto 23), 3) := mx_ins_of mi167 dX20_weekOf_50 rfl
theorem u167_50 : ev d 167 50 lo st h = ev d 167 73 lo st h := ev_goto n167_50 rfl
theorem n167_53 : mx_ins 167 53 = some ((.iload_n 3), 1) := mx_ins_of mi167 dX20_weekOf_53 rfl
theorem u167_53 : ev d 167 53 lo st h = evS (mx_ldI 3) d 167 54 lo st h := ev_s n167_53 rfl rfl
theorem n167_54 : mx_ins 167 54 = some ((.iconst 2), 1) := mx_ins_of mi167 dX20_weekOf_54 rfl
theorem u167_54 : ev d 167 54 lo st h = ev d 167 55 lo (.int 2 :: st) h := (ev_s (f := mx_push (.int 2)) n167_54 rfl rfl).trans es_push
theorem n167_55 : mx_ins 167 55 = some ((.if_icmp .ne 12), 3) := mx_ins_of mi167 dX20_weekOf_55 rfl
theorem u167_55 : ev d 167 55 lo st h = evK .ne d 167 67 58 lo st h := ev_ic n167_55 rfl rfl
theorem n167_58 : mx_ins 167 58 = some ((.aload_n 0), 1) := mx_ins_of mi167 dX20_weekOf_58 rfl
theorem u167_58 : ev d 167 58 lo st h = evS (mx_ldA 0) d 167 59 lo st h := ev_s n167_58 rfl rfl
theorem n167_59 : mx_ins 167 59 = some ((.getfield 22), 3) := mx_ins_of mi167 dX20_weekOf_59 rfl
theorem u167_59 : ev d 167 59 lo st h = evS (mx_gf 20 22) d 167 62 lo st h := ev_s n167_59 rfl rfl
theorem n167_62 : mx_ins 167 62 = some ((.iload_n 1), 1) := mx_ins_of mi167 dX20_weekOf_62 rfl
theorem u167_62 : ev d 167 62 lo st h = evS (mx_ldI 1) d 167 63 lo st h := ev_s n167_62 rfl rfl
theorem n167_63 : mx_ins 167 63 = some (.iaload, 1) := mx_ins_of mi167 dX20_weekOf_63 rfl
theorem u167_63 : ev d 167 63 lo st h = evI d 167 63 64 lo st h .iaload := ev_u n167_63 rfl
theorem n167_64 : mx_ins 167 64 = some ((.goto 9), 3) := mx_ins_of mi167 dX20_weekOf_64 rfl
theorem u167_64 : ev d 167 64 lo st h = ev d 167 73 lo st h := ev_goto n167_64 rfl
theorem n167_67 : mx_ins 167 67 = some ((.aload_n 0), 1) := mx_ins_of mi167 dX20_weekOf_67 rfl
theorem u167_67 : ev d 167 67 lo st h = evS (mx_ldA 0) d 167 68 lo st h := ev_s n167_67 rfl rfl
theorem n167_68 : mx_ins 167 68 = some ((.iload_n 1), 1) := mx_ins_of mi167 dX20_weekOf_68 rfl
theorem u167_68 : ev d 167 68 lo st h = evS (mx_ldI 1) d 167 69 lo st h := ev_s n167_68 rfl rfl
theorem n167_69 : mx_ins 167 69 = some ((.iload_n 2), 1) := mx_ins_of mi167 dX20_weekOf_69 rfl
theorem u167_69 : ev d 167 69 lo st h = evS (mx_ldI 2) d 167 70 lo st h := ev_s n167_69 rfl rfl
theorem n167_70 : mx_ins 167 70 = some ((.invokevirtual 249), 3) := mx_ins_of mi167 dX20_weekOf_70 rfl
theorem u167_70 : ev d 167 70 lo st h = evIn d 167 70 73 20 249 3 false lo st h := ev_inv n167_70 rfl rfl ow167 ia20_249
theorem n167_73 : mx_ins 167 73 = some (.ireturn, 1) := mx_ins_of mi167 dX20_weekOf_73 rfl
theorem u167_73 : ev d 167 73 lo st h = evI d 167 73 74 lo st h .ireturn := ev_u n167_73 rfl
theorem mi168 : mx_mi 168 = some (yX20_isPlace, cX20_isPlace, 1, (Option.some Jvm.ClassFile.FieldType.boolean), 20, 1, []) := rfl
theorem ow168 : mx_own 168 = 20 := mx_mi_own mi168
theorem mm168 : mx_max 168 = 1 := mx_mi_max mi168
theorem rt168 : mx_ret 168 = (Option.some Jvm.ClassFile.FieldType.boolean) := mx_mi_ret mi168
theorem hn168 : mx_hnd 168 = [] := mx_mi_hnd mi168
theorem n168_0 : mx_ins 168 0 = some ((.iload_n 0), 1) := mx_ins_of mi168 dX20_isPlace_0 rfl
theorem u168_0 : ev d 168 0 lo st h = evS (mx_ldI 0) d 168 1 lo st h := ev_s n168_0 rfl rfl
theorem n168_1 : mx_ins 168 1 = some ((.iconst 0), 1) := mx_ins_of mi168 dX20_isPlace_1 rfl
theorem u168_1 : ev d 168 1 lo st h = ev d 168 2 lo (.int 0 :: st) h := (ev_s (f := mx_push (.int 0)) n168_1 rfl rfl).trans es_push
theorem n168_2 : mx_ins 168 2 = some ((.iconst 3), 1) := mx_ins_of mi168 dX20_isPlace_2 rfl
theorem u168_2 : ev d 168 2 lo st h = ev d 168 3 lo (.int 3 :: st) h := (ev_s (f := mx_push (.int 3)) n168_2 rfl rfl).trans es_push
theorem n168_3 : mx_ins 168 3 = some ((.invokestatic 100), 3) := mx_ins_of mi168 dX20_isPlace_3 rfl
theorem u168_3 : ev d 168 3 lo st h = evIn d 168 3 6 20 100 3 true lo st h := ev_inv n168_3 rfl rfl ow168 ia20_100
theorem n168_6 : mx_ins 168 6 = some (.ireturn, 1) := mx_ins_of mi168 dX20_isPlace_6 rfl
theorem u168_6 : ev d 168 6 lo st h = evI d 168 6 7 lo st h .ireturn := ev_u n168_6 rfl
theorem mi169 : mx_mi 169 = some (yX20_warmthOf, cX20_warmthOf, 4, (Option.some Jvm.ClassFile.FieldType.int), 20, 3, []) := rfl
theorem ow169 : mx_own 169 = 20 := mx_mi_own mi169
theorem mm169 : mx_max 169 = 4 := mx_mi_max mi169
theorem rt169 : mx_ret 169 = (Option.some Jvm.ClassFile.FieldType.int) := mx_mi_ret mi169
theorem hn169 : mx_hnd 169 = [] := mx_mi_hnd mi169
theorem n169_0 : mx_ins 169 0 = some ((.aload_n 0), 1) := mx_ins_of mi169 dX20_warmthOf_0 rfl
theorem u169_0 : ev d 169 0 lo st h = evS (mx_ldA 0) d 169 1 lo st h := ev_s n169_0 rfl rfl
theorem n169_1 : mx_ins 169 1 = some ((.getfield 19), 3) := mx_ins_of mi169 dX20_warmthOf_1 rfl
theorem u169_1 : ev d 169 1 lo st h = evS (mx_gf 20 19) d 169 4 lo st h := ev_s n169_1 rfl rfl
theorem n169_4 : mx_ins 169 4 = some ((.iload_n 1), 1) := mx_ins_of mi169 dX20_warmthOf_4 rfl
theorem u169_4 : ev d 169 4 lo st h = evS (mx_ldI 1) d 169 5 lo st h := ev_s n169_4 rfl rfl
theorem n169_5 : mx_ins 169 5 = some (.iaload, 1) := mx_ins_of mi169 dX20_warmthOf_5 rfl
theorem u169_5 : ev d 169 5 lo st h = evI d 169 5 6 lo st h .iaload := ev_u n169_5 rfl
theorem n169_6 : mx_ins 169 6 = some ((.istore_n 3), 1) := mx_ins_of mi169 dX20_warmthOf_6 rfl
theorem u169_6 : ev d 169 6 lo st h = evS (mx_stI 3) d 169 7 lo st h := ev_s n169_6 rfl rfl
theorem n169_7 : mx_ins 169 7 = some ((.iload_n 2), 1) := mx_ins_of mi169 dX20_warmthOf_7 rfl
theorem u169_7 : ev d 169 7 lo st h = evS (mx_ldI 2) d 169 8 lo st h := ev_s n169_7 rfl rfl
theorem n169_8 : mx_ins 169 8 = some ((.ifCond .ne 7), 3) := mx_ins_of mi169 dX20_warmthOf_8 rfl
theorem u169_8 : ev d 169 8 lo st h = evJ .ne d 169 15 11 lo st h := ev_if n169_8 rfl rfl
theorem n169_11 : mx_ins 169 11 = some ((.iload_n 3), 1) := mx_ins_of mi169 dX20_warmthOf_11 rfl
theorem u169_11 : ev d 169 11 lo st h = evS (mx_ldI 3) d 169 12 lo st h := ev_s n169_11 rfl rfl
theorem n169_12 : mx_ins 169 12 = some ((.goto 36), 3) := mx_ins_of mi169 dX20_warmthOf_12 rfl
theorem u169_12 : ev d 169 12 lo st h = ev d 169 48 lo st h := ev_goto n169_12 rfl
theorem n169_15 : mx_ins 169 15 = some ((.iload_n 2), 1) := mx_ins_of mi169 dX20_warmthOf_15 rfl
theorem u169_15 : ev d 169 15 lo st h = evS (mx_ldI 2) d 169 16 lo st h := ev_s n169_15 rfl rfl
theorem n169_16 : mx_ins 169 16 = some ((.iconst 1), 1) := mx_ins_of mi169 dX20_warmthOf_16 rfl
theorem u169_16 : ev d 169 16 lo st h = ev d 169 17 lo (.int 1 :: st) h := (ev_s (f := mx_push (.int 1)) n169_16 rfl rfl).trans es_push
theorem n169_17 : mx_ins 169 17 = some ((.if_icmp .ne 11), 3) := mx_ins_of mi169 dX20_warmthOf_17 rfl
theorem u169_17 : ev d 169 17 lo st h = evK .ne d 169 28 20 lo st h := ev_ic n169_17 rfl rfl
theorem n169_20 : mx_ins 169 20 = some ((.iload_n 3), 1) := mx_ins_of mi169 dX20_warmthOf_20 rfl
theorem u169_20 : ev d 169 20 lo st h = evS (mx_ldI 3) d 169 21 lo st h := ev_s n169_20 rfl rfl
theorem n169_21 : mx_ins 169 21 = some ((.iconst 2), 1) := mx_ins_of mi169 dX20_warmthOf_21 rfl
theorem u169_21 : ev d 169 21 lo st h = ev d 169 22 lo (.int 2 :: st) h := (ev_s (f := mx_push (.int 2)) n169_21 rfl rfl).trans es_push
theorem n169_22 : mx_ins 169 22 = some (.idiv, 1) := mx_ins_of mi169 dX20_warmthOf_22 rfl
theorem u169_22 : ev d 169 22 lo st h = evI d 169 22 23 lo st h .idiv := ev_u n169_22 rfl
theorem n169_23 : mx_ins 169 23 = some ((.iconst 4), 1) := mx_ins_of mi169 dX20_warmthOf_23 rfl
theorem u169_23 : ev d 169 23 lo st h = ev d 169 24 lo (.int 4 :: st) h := (ev_s (f := mx_push (.int 4)) n169_23 rfl rfl).trans es_push
theorem n169_24 : mx_ins 169 24 = some (.iadd, 1) := mx_ins_of mi169 dX20_warmthOf_24 rfl
theorem u169_24 : ev d 169 24 lo st h = evI d 169 24 25 lo st h .iadd := ev_u n169_24 rfl
theorem n169_25 : mx_ins 169 25 = some ((.goto 23), 3) := mx_ins_of mi169 dX20_warmthOf_25 rfl
theorem u169_25 : ev d 169 25 lo st h = ev d 169 48 lo st h := ev_goto n169_25 rfl
theorem n169_28 : mx_ins 169 28 = some ((.iload_n 2), 1) := mx_ins_of mi169 dX20_warmthOf_28 rfl
theorem u169_28 : ev d 169 28 lo st h = evS (mx_ldI 2) d 169 29 lo st h := ev_s n169_28 rfl rfl
theorem n169_29 : mx_ins 169 29 = some ((.iconst 2), 1) := mx_ins_of mi169 dX20_warmthOf_29 rfl
theorem u169_29 : ev d 169 29 lo st h = ev d 169 30 lo (.int 2 :: st) h := (ev_s (f := mx_push (.int 2)) n169_29 rfl rfl).trans es_push
theorem n169_30 : mx_ins 169 30 = some ((.if_icmp .ne 12), 3) := mx_ins_of mi169 dX20_warmthOf_30 rfl
theorem u169_30 : ev d 169 30 lo st h = evK .ne d 169 42 33 lo st h := ev_ic n169_30 rfl rfl
theorem n169_33 : mx_ins 169 33 = some ((.aload_n 0), 1) := mx_ins_of mi169 dX20_warmthOf_33 rfl
theorem u169_33 : ev d 169 33 lo st h = evS (mx_ldA 0) d 169 34 lo st h := ev_s n169_33 rfl rfl
theorem n169_34 : mx_ins 169 34 = some ((.getfield 25), 3) := mx_ins_of mi169 dX20_warmthOf_34 rfl
theorem u169_34 : ev d 169 34 lo st h = evS (mx_gf 20 25) d 169 37 lo st h := ev_s n169_34 rfl rfl
theorem n169_37 : mx_ins 169 37 = some ((.iconst 0), 1) := mx_ins_of mi169 dX20_warmthOf_37 rfl
theorem u169_37 : ev d 169 37 lo st h = ev d 169 38 lo (.int 0 :: st) h := (ev_s (f := mx_push (.int 0)) n169_37 rfl rfl).trans es_push
theorem n169_38 : mx_ins 169 38 = some (.iaload, 1) := mx_ins_of mi169 dX20_warmthOf_38 rfl
theorem u169_38 : ev d 169 38 lo st h = evI d 169 38 39 lo st h .iaload := ev_u n169_38 rfl
theorem n169_39 : mx_ins 169 39 = some ((.goto 9), 3) := mx_ins_of mi169 dX20_warmthOf_39 rfl
theorem u169_39 : ev d 169 39 lo st h = ev d 169 48 lo st h := ev_goto n169_39 rfl
theorem n169_42 : mx_ins 169 42 = some ((.iload_n 3), 1) := mx_ins_of mi169 dX20_warmthOf_42 rfl
theorem u169_42 : ev d 169 42 lo st h = evS (mx_ldI 3) d 169 43 lo st h := ev_s n169_42 rfl rfl
theorem n169_43 : mx_ins 169 43 = some ((.iconst 4), 1) := mx_ins_of mi169 dX20_warmthOf_43 rfl
theorem u169_43 : ev d 169 43 lo st h = ev d 169 44 lo (.int 4 :: st) h := (ev_s (f := mx_push (.int 4)) n169_43 rfl rfl).trans es_push
theorem n169_44 : mx_ins 169 44 = some (.idiv, 1) := mx_ins_of mi169 dX20_warmthOf_44 rfl
theorem u169_44 : ev d 169 44 lo st h = evI d 169 44 45 lo st h .idiv := ev_u n169_44 rfl
theorem n169_45 : mx_ins 169 45 = some ((.bipush 6), 2) := mx_ins_of mi169 dX20_warmthOf_45 rfl
theorem u169_45 : ev d 169 45 lo st h = ev d 169 47 lo (.int 6 :: st) h := (ev_s (f := mx_push (.int 6)) n169_45 rfl rfl).trans es_push
theorem n169_47 : mx_ins 169 47 = some (.iadd, 1) := mx_ins_of mi169 dX20_warmthOf_47 rfl
theorem u169_47 : ev d 169 47 lo st h = evI d 169 47 48 lo st h .iadd := ev_u n169_47 rfl
theorem n169_48 : mx_ins 169 48 = some (.ireturn, 1) := mx_ins_of mi169 dX20_warmthOf_48 rfl
theorem u169_48 : ev d 169 48 lo st h = evI d 169 48 49 lo st h .ireturn := ev_u n169_48 rfl
theorem mi170 : mx_mi 170 = some (yX20_kindOf, cX20_kindOf, 4, (Option.some Jvm.ClassFile.FieldType.int), 20, 3, []) := rfl
theorem ow170 : mx_own 170 = 20 := mx_mi_own mi170
theorem mm170 : mx_max 170 = 4 := mx_mi_max mi170
theorem rt170 : mx_ret 170 = (Option.some Jvm.ClassFile.FieldType.int) := mx_mi_ret mi170
theorem hn170 : mx_hnd 170 = [] := mx_mi_hnd mi170
theorem n170_0 : mx_ins 170 0 = some ((.aload_n 0), 1) := mx_ins_of mi170 dX20_kindOf_0 rfl
theorem u170_0 : ev d 170 0 lo st h = evS (mx_ldA 0) d 170 1 lo st h := ev_s n170_0 rfl rfl
theorem n170_1 : mx_ins 170 1 = some ((.iload_n 1), 1) := mx_ins_of mi170 dX20_kindOf_1 rfl
theorem u170_1 : ev d 170 1 lo st h = evS (mx_ldI 1) d 170 2 lo st h := ev_s n170_1 rfl rfl
theorem n170_2 : mx_ins 170 2 = some ((.iload_n 2), 1) := mx_ins_of mi170 dX20_kindOf_2 rfl
theorem u170_2 : ev d 170 2 lo st h = evS (mx_ldI 2) d 170 3 lo st h := ev_s n170_2 rfl rfl
theorem n170_3 : mx_ins 170 3 = some ((.invokevirtual 242), 3) := mx_ins_of mi170 dX20_kindOf_3 rfl
theorem u170_3 : ev d 170 3 lo st h = evIn d 170 3 6 20 242 3 false lo st h := ev_inv n170_3 rfl rfl ow170 ia20_242
theorem n170_6 : mx_ins 170 6 = some ((.istore_n 3), 1) := mx_ins_of mi170 dX20_kindOf_6 rfl
theorem u170_6 : ev d 170 6 lo st h = evS (mx_stI 3) d 170 7 lo st h := ev_s n170_6 rfl rfl
theorem n170_7 : mx_ins 170 7 = some ((.iload_n 3), 1) := mx_ins_of mi170 dX20_kindOf_7 rfl
theorem u170_7 : ev d 170 7 lo st h = evS (mx_ldI 3) d 170 8 lo st h := ev_s n170_7 rfl rfl
theorem n170_8 : mx_ins 170 8 = some ((.aload_n 0), 1) := mx_ins_of mi170 dX20_kindOf_8 rfl
theorem u170_8 : ev d 170 8 lo st h = evS (mx_ldA 0) d 170 9 lo st h := ev_s n170_8 rfl rfl
theorem n170_9 : mx_ins 170 9 = some ((.getfield 25), 3) := mx_ins_of mi170 dX20_kindOf_9 rfl
theorem u170_9 : ev d 170 9 lo st h = evS (mx_gf 20 25) d 170 12 lo st h := ev_s n170_9 rfl rfl
theorem n170_12 : mx_ins 170 12 = some ((.iconst 2), 1) := mx_ins_of mi170 dX20_kindOf_12 rfl
theorem u170_12 : ev d 170 12 lo st h = ev d 170 13 lo (.int 2 :: st) h := (ev_s (f := mx_push (.int 2)) n170_12 rfl rfl).trans es_push
theorem n170_13 : mx_ins 170 13 = some (.iaload, 1) := mx_ins_of mi170 dX20_kindOf_13 rfl
theorem u170_13 : ev d 170 13 lo st h = evI d 170 13 14 lo st h .iaload := ev_u n170_13 rfl
theorem n170_14 : mx_ins 170 14 = some ((.if_icmp .ge 5), 3) := mx_ins_of mi170 dX20_kindOf_14 rfl
theorem u170_14 : ev d 170 14 lo st h = evK .ge d 170 19 17 lo st h := ev_ic n170_14 rfl rfl
theorem n170_17 : mx_ins 170 17 = some ((.iconst 4), 1) := mx_ins_of mi170 dX20_kindOf_17 rfl
theorem u170_17 : ev d 170 17 lo st h = ev d 170 18 lo (.int 4 :: st) h := (ev_s (f := mx_push (.int 4)) n170_17 rfl rfl).trans es_push
theorem n170_18 : mx_ins 170 18 = some (.ireturn, 1) := mx_ins_of mi170 dX20_kindOf_18 rfl
theorem u170_18 : ev d 170 18 lo st h = evI d 170 18 19 lo st h .ireturn := ev_u n170_18 rfl
theorem n170_19 : mx_ins 170 19 = some ((.iload_n 3), 1) := mx_ins_of mi170 dX20_kindOf_19 rfl
theorem u170_19 : ev d 170 19 lo st h = evS (mx_ldI 3) d 170 20 lo st h := ev_s n170_19 rfl rfl
theorem n170_20 : mx_ins 170 20 = some ((.aload_n 0), 1) := mx_ins_of mi170 dX20_kindOf_20 rfl
theorem u170_20 : ev d 170 20 lo st h = evS (mx_ldA 0) d 170 21 lo st h := ev_s n170_20 rfl rfl
theorem n170_21 : mx_ins 170 21 = some ((.getfield 25), 3) := mx_ins_of mi170 dX20_kindOf_21 rfl
theorem u170_21 : ev d 170 21 lo st h = evS (mx_gf 20 25) d 170 24 lo st h := ev_s n170_21 rfl rfl
theorem n170_24 : mx_ins 170 24 = some ((.iconst 3), 1) := mx_ins_of mi170 dX20_kindOf_24 rfl
theorem u170_24 : ev d 170 24 lo st h = ev d 170 25 lo (.int 3 :: st) h := (ev_s (f := mx_push (.int 3)) n170_24 rfl rfl).trans es_push
theorem n170_25 : mx_ins 170 25 = some (.iaload, 1) := mx_ins_of mi170 dX20_kindOf_25 rfl
theorem u170_25 : ev d 170 25 lo st h = evI d 170 25 26 lo st h .iaload := ev_u n170_25 rfl
theorem n170_26 : mx_ins 170 26 = some ((.if_icmp .lt 19), 3) := mx_ins_of mi170 dX20_kindOf_26 rfl
theorem u170_26 : ev d 170 26 lo st h = evK .lt d 170 45 29 lo st h := ev_ic n170_26 rfl rfl
theorem n170_29 : mx_ins 170 29 = some ((.iload_n 3), 1) := mx_ins_of mi170 dX20_kindOf_29 rfl
theorem u170_29 : ev d 170 29 lo st h = evS (mx_ldI 3) d 170 30 lo st h := ev_s n170_29 rfl rfl
theorem n170_30 : mx_ins 170 30 = some ((.aload_n 0), 1) := mx_ins_of mi170 dX20_kindOf_30 rfl
theorem u170_30 : ev d 170 30 lo st h = evS (mx_ldA 0) d 170 31 lo st h := ev_s n170_30 rfl rfl
theorem n170_31 : mx_ins 170 31 = some ((.getfield 25), 3) := mx_ins_of mi170 dX20_kindOf_31 rfl
theorem u170_31 : ev d 170 31 lo st h = evS (mx_gf 20 25) d 170 34 lo st h := ev_s n170_31 rfl rfl
theorem n170_34 : mx_ins 170 34 = some ((.iconst 4), 1) := mx_ins_of mi170 dX20_kindOf_34 rfl
theorem u170_34 : ev d 170 34 lo st h = ev d 170 35 lo (.int 4 :: st) h := (ev_s (f := mx_push (.int 4)) n170_34 rfl rfl).trans es_push
theorem n170_35 : mx_ins 170 35 = some (.iaload, 1) := mx_ins_of mi170 dX20_kindOf_35 rfl
theorem u170_35 : ev d 170 35 lo st h = evI d 170 35 36 lo st h .iaload := ev_u n170_35 rfl
theorem n170_36 : mx_ins 170 36 = some ((.if_icmp .lt 7), 3) := mx_ins_of mi170 dX20_kindOf_36 rfl
theorem u170_36 : ev d 170 36 lo st h = evK .lt d 170 43 39 lo st h := ev_ic n170_36 rfl rfl
theorem n170_39 : mx_ins 170 39 = some ((.iconst 3), 1) := mx_ins_of mi170 dX20_kindOf_39 rfl
theorem u170_39 : ev d 170 39 lo st h = ev d 170 40 lo (.int 3 :: st) h := (ev_s (f := mx_push (.int 3)) n170_39 rfl rfl).trans es_push
theorem n170_40 : mx_ins 170 40 = some ((.goto 4), 3) := mx_ins_of mi170 dX20_kindOf_40 rfl
theorem u170_40 : ev d 170 40 lo st h = ev d 170 44 lo st h := ev_goto n170_40 rfl
theorem n170_43 : mx_ins 170 43 = some ((.iconst 2), 1) := mx_ins_of mi170 dX20_kindOf_43 rfl
theorem u170_43 : ev d 170 43 lo st h = ev d 170 44 lo (.int 2 :: st) h := (ev_s (f := mx_push (.int 2)) n170_43 rfl rfl).trans es_push
theorem n170_44 : mx_ins 170 44 = some (.ireturn, 1) := mx_ins_of mi170 dX20_kindOf_44 rfl
theorem u170_44 : ev d 170 44 lo st h = evI d 170 44 45 lo st h .ireturn := ev_u n170_44 rfl
theorem n170_45 : mx_ins 170 45 = some ((.iload_n 3), 1) := mx_ins_of mi170 dX20_kindOf_45 rfl
theorem u170_45 : ev d 170 45 lo st h = evS (mx_ldI 3) d 170 46 lo st h := ev_s n170_45 rfl rfl
theorem n170_46 : mx_ins 170 46 = some ((.aload_n 0), 1) := mx_ins_of mi170 dX20_kindOf_46 rfl
theorem u170_46 : ev d 170 46 lo st h = evS (mx_ldA 0) d 170 47 lo st h := ev_s n170_46 rfl rfl
theorem n170_47 : mx_ins 170 47 = some ((.getfield 25), 3) := mx_ins_of mi170 dX20_kindOf_47 rfl
theorem u170_47 : ev d 170 47 lo st h = evS (mx_gf 20 25) d 170 50 lo st h := ev_s n170_47 rfl rfl
theorem n170_50 : mx_ins 170 50 = some ((.iconst 4), 1) := mx_ins_of mi170 dX20_kindOf_50 rfl
theorem u170_50 : ev d 170 50 lo st h = ev d 170 51 lo (.int 4 :: st) h := (ev_s (f := mx_push (.int 4)) n170_50 rfl rfl).trans es_push
theorem n170_51 : mx_ins 170 51 = some (.iaload, 1) := mx_ins_of mi170 dX20_kindOf_51 rfl
theorem u170_51 : ev d 170 51 lo st h = evI d 170 51 52 lo st h .iaload := ev_u n170_51 rfl
theorem n170_52 : mx_ins 170 52 = some ((.if_icmp .lt 7), 3) := mx_ins_of mi170 dX20_kindOf_52 rfl
theorem u170_52 : ev d 170 52 lo st h = evK .lt d 170 59 55 lo st h := ev_ic n170_52 rfl rfl
theorem n170_55 : mx_ins 170 55 = some ((.iconst 3), 1) := mx_ins_of mi170 dX20_kindOf_55 rfl
theorem u170_55 : ev d 170 55 lo st h = ev d 170 56 lo (.int 3 :: st) h := (ev_s (f := mx_push (.int 3)) n170_55 rfl rfl).trans es_push
theorem n170_56 : mx_ins 170 56 = some ((.goto 28), 3) := mx_ins_of mi170 dX20_kindOf_56 rfl
theorem u170_56 : ev d 170 56 lo st h = ev d 170 84 lo st h := ev_goto n170_56 rfl
theorem n170_59 : mx_ins 170 59 = some ((.aload_n 0), 1) := mx_ins_of mi170 dX20_kindOf_59 rfl
theorem u170_59 : ev d 170 59 lo st h = evS (mx_ldA 0) d 170 60 lo st h := ev_s n170_59 rfl rfl
theorem n170_60 : mx_ins 170 60 = some ((.getfield 22), 3) := mx_ins_of mi170 dX20_kindOf_60 rfl
theorem u170_60 : ev d 170 60 lo st h = evS (mx_gf 20 22) d 170 63 lo st h := ev_s n170_60 rfl rfl
theorem n170_63 : mx_ins 170 63 = some ((.iload_n 1), 1) := mx_ins_of mi170 dX20_kindOf_63 rfl
theorem u170_63 : ev d 170 63 lo st h = evS (mx_ldI 1) d 170 64 lo st h := ev_s n170_63 rfl rfl
theorem n170_64 : mx_ins 170 64 = some (.iaload, 1) := mx_ins_of mi170 dX20_kindOf_64 rfl
theorem u170_64 : ev d 170 64 lo st h = evI d 170 64 65 lo st h .iaload := ev_u n170_64 rfl
theorem n170_65 : mx_ins 170 65 = some ((.iconst 3), 1) := mx_ins_of mi170 dX20_kindOf_65 rfl
theorem u170_65 : ev d 170 65 lo st h = ev d 170 66 lo (.int 3 :: st) h := (ev_s (f := mx_push (.int 3)) n170_65 rfl rfl).trans es_push
theorem n170_66 : mx_ins 170 66 = some ((.if_icmp .ge 7), 3) := mx_ins_of mi170 dX20_kindOf_66 rfl
theorem u170_66 : ev d 170 66 lo st h = evK .ge d 170 73 69 lo st h := ev_ic n170_66 rfl rfl
theorem n170_69 : mx_ins 170 69 = some ((.iconst 5), 1) := mx_ins_of mi170 dX20_kindOf_69 rfl
theorem u170_69 : ev d 170 69 lo st h = ev d 170 70 lo (.int 5 :: st) h := (ev_s (f := mx_push (.int 5)) n170_69 rfl rfl).trans es_push
theorem n170_70 : mx_ins 170 70 = some ((.goto 14), 3) := mx_ins_of mi170 dX20_kindOf_70 rfl
theorem u170_70 : ev d 170 70 lo st h = ev d 170 84 lo st h := ev_goto n170_70 rfl
theorem n170_73 : mx_ins 170 73 = some ((.iload_n 3), 1) := mx_ins_of mi170 dX20_kindOf_73 rfl
theorem u170_73 : ev d 170 73 lo st h = evS (mx_ldI 3) d 170 74 lo st h := ev_s n170_73 rfl rfl
theorem n170_74 : mx_ins 170 74 = some ((.bipush 6), 2) := mx_ins_of mi170 dX20_kindOf_74 rfl
theorem u170_74 : ev d 170 74 lo st h = ev d 170 76 lo (.int 6 :: st) h := (ev_s (f := mx_push (.int 6)) n170_74 rfl rfl).trans es_push
theorem n170_76 : mx_ins 170 76 = some ((.if_icmp .ge 7), 3) := mx_ins_of mi170 dX20_kindOf_76 rfl
theorem u170_76 : ev d 170 76 lo st h = evK .ge d 170 83 79 lo st h := ev_ic n170_76 rfl rfl
theorem n170_79 : mx_ins 170 79 = some ((.iconst 1), 1) := mx_ins_of mi170 dX20_kindOf_79 rfl
theorem u170_79 : ev d 170 79 lo st h = ev d 170 80 lo (.int 1 :: st) h := (ev_s (f := mx_push (.int 1)) n170_79 rfl rfl).trans es_push
theorem n170_80 : mx_ins 170 80 = some ((.goto 4), 3) := mx_ins_of mi170 dX20_kindOf_80 rfl
theorem u170_80 : ev d 170 80 lo st h = ev d 170 84 lo st h := ev_goto n170_80 rfl
theorem n170_83 : mx_ins 170 83 = some ((.iconst 0), 1) := mx_ins_of mi170 dX20_kindOf_83 rfl
theorem u170_83 : ev d 170 83 lo st h = ev d 170 84 lo (.int 0 :: st) h := (ev_s (f := mx_push (.int 0)) n170_83 rfl rfl).trans es_push
theorem n170_84 : mx_ins 170 84 = some (.ireturn, 1) := mx_ins_of mi170 dX20_kindOf_84 rfl
theorem u170_84 : ev d 170 84 lo st h = evI d 170 84 85 lo st h .ireturn := ev_u n170_84 rfl
theorem mi171 : mx_mi 171 = some (yX20_rule, cX20_rule, 5, (Option.some Jvm.ClassFile.FieldType.int), 20, 3, []) := rfl
theorem ow171 : mx_own 171 = 20 := mx_mi_own mi171
theorem mm171 : mx_max 171 = 5 := mx_mi_max mi171
theorem rt171 : mx_ret 171 = (Option.some Jvm.ClassFile.FieldType.int) := mx_mi_ret mi171
theorem hn171 : mx_hnd 171 = [] := mx_mi_hnd mi171
theorem n171_0 : mx_ins 171 0 = some ((.iload_n 1), 1) := mx_ins_of mi171 dX20_rule_0 rfl
theorem u171_0 : ev d 171 0 lo st h = evS (mx_ldI 1) d 171 1 lo st h := ev_s n171_0 rfl rfl
theorem n171_1 : mx_ins 171 1 = some ((.iconst 0), 1) := mx_ins_of mi171 dX20_rule_1 rfl
theorem u171_1 : ev d 171 1 lo st h = ev d 171 2 lo (.int 0 :: st) h := (ev_s (f := mx_push (.int 0)) n171_1 rfl rfl).trans es_push
theorem n171_2 : mx_ins 171 2 = some ((.iconst 4), 1) := mx_ins_of mi171 dX20_rule_2 rfl
theorem u171_2 : ev d 171 2 lo st h = ev d 171 3 lo (.int 4 :: st) h := (ev_s (f := mx_push (.int 4)) n171_2 rfl rfl).trans es_push
theorem n171_3 : mx_ins 171 3 = some ((.invokestatic 100), 3) := mx_ins_of mi171 dX20_rule_3 rfl
theorem u171_3 : ev d 171 3 lo st h = evIn d 171 3 6 20 100 3 true lo st h := ev_inv n171_3 rfl rfl ow171 ia20_100
theorem n171_6 : mx_ins 171 6 = some ((.ifCond .eq 7), 3) := mx_ins_of mi171 dX20_rule_6 rfl
theorem u171_6 : ev d 171 6 lo st h = evJ .eq d 171 13 9 lo st h := ev_if n171_6 rfl rfl
theorem n171_9 : mx_ins 171 9 = some ((.iload_n 1), 1) := mx_ins_of mi171 dX20_rule_9 rfl
theorem u171_9 : ev d 171 9 lo st h = evS (mx_ldI 1) d 171 10 lo st h := ev_s n171_9 rfl rfl
theorem n171_10 : mx_ins 171 10 = some ((.goto 4), 3) := mx_ins_of mi171 dX20_rule_10 rfl
theorem u171_10 : ev d 171 10 lo st h = ev d 171 14 lo st h := ev_goto n171_10 rfl
theorem n171_13 : mx_ins 171 13 = some ((.iconst 0), 1) := mx_ins_of mi171 dX20_rule_13 rfl
theorem u171_13 : ev d 171 13 lo st h = ev d 171 14 lo (.int 0 :: st) h := (ev_s (f := mx_push (.int 0)) n171_13 rfl rfl).trans es_push
theorem n171_14 : mx_ins 171 14 = some ((.istore_n 3), 1) := mx_ins_of mi171 dX20_rule_14 rfl
theorem u171_14 : ev d 171 14 lo st h = evS (mx_stI 3) d 171 15 lo st h := ev_s n171_14 rfl rfl
theorem n171_15 : mx_ins 171 15 = some ((.iload_n 3), 1) := mx_ins_of mi171 dX20_rule_15 rfl
theorem u171_15 : ev d 171 15 lo st h = evS (mx_ldI 3) d 171 16 lo st h := ev_s n171_15 rfl rfl
theorem n171_16 : mx_ins 171 16 = some ((.iload_n 1), 1) := mx_ins_of mi171 dX20_rule_16 rfl
theorem u171_16 : ev d 171 16 lo st h = evS (mx_ldI 1) d 171 17 lo st h := ev_s n171_16 rfl rfl
theorem n171_17 : mx_ins 171 17 = some ((.if_icmp .ne 22), 3) := mx_ins_of mi171 dX20_rule_17 rfl
theorem u171_17 : ev d 171 17 lo st h = evK .ne d 171 39 20 lo st h := ev_ic n171_17 rfl rfl
theorem n171_20 : mx_ins 171 20 = some ((.iload_n 2), 1) := mx_ins_of mi171 dX20_rule_20 rfl
theorem u171_20 : ev d 171 20 lo st h = evS (mx_ldI 2) d 171 21 lo st h := ev_s n171_20 rfl rfl
theorem n171_21 : mx_ins 171 21 = some ((.aload_n 0), 1) := mx_ins_of mi171 dX20_rule_21 rfl
theorem u171_21 : ev d 171 21 lo st h = evS (mx_ldA 0) d 171 22 lo st h := ev_s n171_21 rfl rfl
theorem n171_22 : mx_ins 171 22 = some ((.getfield 28), 3) := mx_ins_of mi171 dX20_rule_22 rfl
theorem u171_22 : ev d 171 22 lo st h = evS (mx_gf 20 28) d 171 25 lo st h := ev_s n171_22 rfl rfl
theorem n171_25 : mx_ins 171 25 = some ((.iload_n 3), 1) := mx_ins_of mi171 dX20_rule_25 rfl
theorem u171_25 : ev d 171 25 lo st h = evS (mx_ldI 3) d 171 26 lo st h := ev_s n171_25 rfl rfl
theorem n171_26 : mx_ins 171 26 = some (.iaload, 1) := mx_ins_of mi171 dX20_rule_26 rfl
theorem u171_26 : ev d 171 26 lo st h = evI d 171 26 27 lo st h .iaload := ev_u n171_26 rfl
theorem n171_27 : mx_ins 171 27 = some ((.aload_n 0), 1) := mx_ins_of mi171 dX20_rule_27 rfl
theorem u171_27 : ev d 171 27 lo st h = evS (mx_ldA 0) d 171 28 lo st h := ev_s n171_27 rfl rfl
theorem n171_28 : mx_ins 171 28 = some ((.getfield 31), 3) := mx_ins_of mi171 dX20_rule_28 rfl
theorem u171_28 : ev d 171 28 lo st h = evS (mx_gf 20 31) d 171 31 lo st h := ev_s n171_28 rfl rfl
theorem n171_31 : mx_ins 171 31 = some ((.iload_n 3), 1) := mx_ins_of mi171 dX20_rule_31 rfl
theorem u171_31 : ev d 171 31 lo st h = evS (mx_ldI 3) d 171 32 lo st h := ev_s n171_31 rfl rfl
theorem n171_32 : mx_ins 171 32 = some (.iaload, 1) := mx_ins_of mi171 dX20_rule_32 rfl
theorem u171_32 : ev d 171 32 lo st h = evI d 171 32 33 lo st h .iaload := ev_u n171_32 rfl
theorem n171_33 : mx_ins 171 33 = some ((.invokestatic 100), 3) := mx_ins_of mi171 dX20_rule_33 rfl
theorem u171_33 : ev d 171 33 lo st h = evIn d 171 33 36 20 100 3 true lo st h := ev_inv n171_33 rfl rfl ow171 ia20_100
theorem n171_36 : mx_ins 171 36 = some ((.ifCond .ne 6), 3) := mx_ins_of mi171 dX20_rule_36 rfl
theorem u171_36 : ev d 171 36 lo st h = evJ .ne d 171 42 39 lo st h := ev_if n171_36 rfl rfl
theorem n171_39 : mx_ins 171 39 = some ((.ldc 241), 2) := mx_ins_of mi171 dX20_rule_39 rfl
theorem u171_39 : ev d 171 39 lo st h = ev d 171 41 lo (.int (-2147483648) :: st) h := (ev_s (f := mx_push (.int (-2147483648))) n171_39 rfl rfl).trans es_push
theorem n171_41 : mx_ins 171 41 = some (.ireturn, 1) := mx_ins_of mi171 dX20_rule_41 rfl
theorem u171_41 : ev d 171 41 lo st h = evI d 171 41 42 lo st h .ireturn := ev_u n171_41 rfl
theorem n171_42 : mx_ins 171 42 = some ((.aload_n 0), 1) := mx_ins_of mi171 dX20_rule_42 rfl
theorem u171_42 : ev d 171 42 lo st h = evS (mx_ldA 0) d 171 43 lo st h := ev_s n171_42 rfl rfl
theorem n171_43 : mx_ins 171 43 = some ((.getfield 25), 3) := mx_ins_of mi171 dX20_rule_43 rfl
theorem u171_43 : ev d 171 43 lo st h = evS (mx_gf 20 25) d 171 46 lo st h := ev_s n171_43 rfl rfl
theorem n171_46 : mx_ins 171 46 = some ((.iload_n 1), 1) := mx_ins_of mi171 dX20_rule_46 rfl
theorem u171_46 : ev d 171 46 lo st h = evS (mx_ldI 1) d 171 47 lo st h := ev_s n171_46 rfl rfl
theorem n171_47 : mx_ins 171 47 = some (.iaload, 1) := mx_ins_of mi171 dX20_rule_47 rfl
theorem u171_47 : ev d 171 47 lo st h = evI d 171 47 48 lo st h .iaload := ev_u n171_47 rfl
theorem n171_48 : mx_ins 171 48 = some ((.istore 4), 2) := mx_ins_of mi171 dX20_rule_48 rfl
theorem u171_48 : ev d 171 48 lo st h = evS (mx_stI 4) d 171 50 lo st h := ev_s n171_48 rfl rfl
theorem n171_50 : mx_ins 171 50 = some ((.aload_n 0), 1) := mx_ins_of mi171 dX20_rule_50 rfl
theorem u171_50 : ev d 171 50 lo st h = evS (mx_ldA 0) d 171 51 lo st h := ev_s n171_50 rfl rfl
theorem n171_51 : mx_ins 171 51 = some ((.getfield 25), 3) := mx_ins_of mi171 dX20_rule_51 rfl
theorem u171_51 : ev d 171 51 lo st h = evS (mx_gf 20 25) d 171 54 lo st h := ev_s n171_51 rfl rfl
theorem n171_54 : mx_ins 171 54 = some ((.iload_n 1), 1) := mx_ins_of mi171 dX20_rule_54 rfl
theorem u171_54 : ev d 171 54 lo st h = evS (mx_ldI 1) d 171 55 lo st h := ev_s n171_54 rfl rfl
theorem n171_55 : mx_ins 171 55 = some ((.iload_n 2), 1) := mx_ins_of mi171 dX20_rule_55 rfl
theorem u171_55 : ev d 171 55 lo st h = evS (mx_ldI 2) d 171 56 lo st h := ev_s n171_55 rfl rfl
theorem n171_56 : mx_ins 171 56 = some (.iastore, 1) := mx_ins_of mi171 dX20_rule_56 rfl
theorem u171_56 : ev d 171 56 lo st h = evI d 171 56 57 lo st h .iastore := ev_u n171_56 rfl
theorem n171_57 : mx_ins 171 57 = some ((.iload 4), 2) := mx_ins_of mi171 dX20_rule_57 rfl
theorem u171_57 : ev d 171 57 lo st h = evS (mx_ldI 4) d 171 59 lo st h := ev_s n171_57 rfl rfl
theorem n171_59 : mx_ins 171 59 = some (.ireturn, 1) := mx_ins_of mi171 dX20_rule_59 rfl
theorem u171_59 : ev d 171 59 lo st h = evI d 171 59 60 lo st h .ireturn := ev_u n171_59 rfl
theorem mi172 : mx_mi 172 = some (yX20_rate, cX20_rate, 2, (Option.some Jvm.ClassFile.FieldType.int), 20, 2, []) := rfl
theorem ow172 : mx_own 172 = 20 := mx_mi_own mi172
theorem mm172 : mx_max 172 = 2 := mx_mi_max mi172
theorem rt172 : mx_ret 172 = (Option.some Jvm.ClassFile.FieldType.int) := mx_mi_ret mi172
theorem hn172 : mx_hnd 172 = [] := mx_mi_hnd mi172
theorem n172_0 : mx_ins 172 0 = some ((.iload_n 1), 1) := mx_ins_of mi172 dX20_rate_0 rfl
theorem u172_0 : ev d 172 0 lo st h = evS (mx_ldI 1) d 172 1 lo st h := ev_s n172_0 rfl rfl
theorem n172_1 : mx_ins 172 1 = some ((.bipush (-20)), 2) := mx_ins_of mi172 dX20_rate_1 rfl
theorem u172_1 : ev d 172 1 lo st h = ev d 172 3 lo (.int (-20) :: st) h := (ev_s (f := mx_push (.int (-20))) n172_1 rfl rfl).trans es_push
theorem n172_3 : mx_ins 172 3 = some ((.bipush 30), 2) := mx_ins_of mi172 dX20_rate_3 rfl
theorem u172_3 : ev d 172 3 lo st h = ev d 172 5 lo (.int 30 :: st) h := (ev_s (f := mx_push (.int 30)) n172_3 rfl rfl).trans es_push
theorem n172_5 : mx_ins 172 5 = some ((.invokestatic 100), 3) := mx_ins_of mi172 dX20_rate_5 rfl
theorem u172_5 : ev d 172 5 lo st h = evIn d 172 5 8 20 100 3 true lo st h := ev_inv n172_5 rfl rfl ow172 ia20_100
theorem n172_8 : mx_ins 172 8 = some ((.ifCond .eq 11), 3) := mx_ins_of mi172 dX20_rate_8 rfl
theorem u172_8 : ev d 172 8 lo st h = evJ .eq d 172 19 11 lo st h := ev_if n172_8 rfl rfl
theorem n172_11 : mx_ins 172 11 = some ((.aload_n 0), 1) := mx_ins_of mi172 dX20_rate_11 rfl
theorem u172_11 : ev d 172 11 lo st h = evS (mx_ldA 0) d 172 12 lo st h := ev_s n172_11 rfl rfl
theorem n172_12 : mx_ins 172 12 = some ((.iload_n 1), 1) := mx_ins_of mi172 dX20_rate_12 rfl
theorem u172_12 : ev d 172 12 lo st h = evS (mx_ldI 1) d 172 13 lo st h := ev_s n172_12 rfl rfl
theorem n172_13 : mx_ins 172 13 = some ((.invokevirtual 252), 3) := mx_ins_of mi172 dX20_rate_13 rfl
theorem u172_13 : ev d 172 13 lo st h = evIn d 172 13 16 20 252 2 false lo st h := ev_inv n172_13 rfl rfl ow172 ia20_252
theorem n172_16 : mx_ins 172 16 = some ((.goto 4), 3) := mx_ins_of mi172 dX20_rate_16 rfl
theorem u172_16 : ev d 172 16 lo st h = ev d 172 20 lo st h := ev_goto n172_16 rfl
theorem n172_19 : mx_ins 172 19 = some ((.iconst (-1)), 1) := mx_ins_of mi172 dX20_rate_19 rfl
theorem u172_19 : ev d 172 19 lo st h = ev d 172 20 lo (.int (-1) :: st) h := (ev_s (f := mx_push (.int (-1))) n172_19 rfl rfl).trans es_push
theorem n172_20 : mx_ins 172 20 = some (.ireturn, 1) := mx_ins_of mi172 dX20_rate_20 rfl
theorem u172_20 : ev d 172 20 lo st h = evI d 172 20 21 lo st h .ireturn := ev_u n172_20 rfl
theorem mi173 : mx_mi 173 = some (yX20_rateAt, cX20_rateAt, 2, (Option.some Jvm.ClassFile.FieldType.int), 20, 2, []) := rfl
theorem ow173 : mx_own 173 = 20 := mx_mi_own mi173
theorem mm173 : mx_max 173 = 2 := mx_mi_max mi173
theorem rt173 : mx_ret 173 = (Option.some Jvm.ClassFile.FieldType.int) := mx_mi_ret mi173
theorem hn173 : mx_hnd 173 = [] := mx_mi_hnd mi173
theorem n173_0 : mx_ins 173 0 = some ((.iload_n 1), 1) := mx_ins_of mi173 dX20_rateAt_0 rfl
theorem u173_0 : ev d 173 0 lo st h = evS (mx_ldI 1) d 173 1 lo st h := ev_s n173_0 rfl rfl
theorem n173_1 : mx_ins 173 1 = some ((.ifCond .ge 14), 3) := mx_ins_of mi173 dX20_rateAt_1 rfl
theorem u173_1 : ev d 173 1 lo st h = evJ .ge d 173 15 4 lo st h := ev_if n173_1 rfl rfl
theorem n173_4 : mx_ins 173 4 = some ((.aload_n 0), 1) := mx_ins_of mi173 dX20_rateAt_4 rfl
theorem u173_4 : ev d 173 4 lo st h = evS (mx_ldA 0) d 173 5 lo st h := ev_s n173_4 rfl rfl
theorem n173_5 : mx_ins 173 5 = some ((.getfield 25), 3) := mx_ins_of mi173 dX20_rateAt_5 rfl
theorem u173_5 : ev d 173 5 lo st h = evS (mx_gf 20 25) d 173 8 lo st h := ev_s n173_5 rfl rfl
theorem n173_8 : mx_ins 173 8 = some ((.iconst 1), 1) := mx_ins_of mi173 dX20_rateAt_8 rfl
theorem u173_8 : ev d 173 8 lo st h = ev d 173 9 lo (.int 1 :: st) h := (ev_s (f := mx_push (.int 1)) n173_8 rfl rfl).trans es_push
theorem n173_9 : mx_ins 173 9 = some (.iaload, 1) := mx_ins_of mi173 dX20_rateAt_9 rfl
theorem u173_9 : ev d 173 9 lo st h = evI d 173 9 10 lo st h .iaload := ev_u n173_9 rfl
theorem n173_10 : mx_ins 173 10 = some ((.iconst 2), 1) := mx_ins_of mi173 dX20_rateAt_10 rfl
theorem u173_10 : ev d 173 10 lo st h = ev d 173 11 lo (.int 2 :: st) h := (ev_s (f := mx_push (.int 2)) n173_10 rfl rfl).trans es_push
theorem n173_11 : mx_ins 173 11 = some (.idiv, 1) := mx_ins_of mi173 dX20_rateAt_11 rfl
theorem u173_11 : ev d 173 11 lo st h = evI d 173 11 12 lo st h .idiv := ev_u n173_11 rfl
theorem n173_12 : mx_ins 173 12 = some ((.goto 25), 3) := mx_ins_of mi173 dX20_rateAt_12 rfl
theorem u173_12 : ev d 173 12 lo st h = ev d 173 37 lo st h := ev_goto n173_12 rfl
theorem n173_15 : mx_ins 173 15 = some ((.aload_n 0), 1) := mx_ins_of mi173 dX20_rateAt_15 rfl
theorem u173_15 : ev d 173 15 lo st h = evS (mx_ldA 0) d 173 16 lo st h := ev_s n173_15 rfl rfl
theorem n173_16 : mx_ins 173 16 = some ((.getfield 25), 3) := mx_ins_of mi173 dX20_rateAt_16 rfl
theorem u173_16 : ev d 173 16 lo st h = evS (mx_gf 20 25) d 173 19 lo st h := ev_s n173_16 rfl rfl
theorem n173_19 : mx_ins 173 19 = some ((.iconst 1), 1) := mx_ins_of mi173 dX20_rateAt_19 rfl
theorem u173_19 : ev d 173 19 lo st h = ev d 173 20 lo (.int 1 :: st) h := (ev_s (f := mx_push (.int 1)) n173_19 rfl rfl).trans es_push
theorem n173_20 : mx_ins 173 20 = some (.iaload, 1) := mx_ins_of mi173 dX20_rateAt_20 rfl
theorem u173_20 : ev d 173 20 lo st h = evI d 173 20 21 lo st h .iaload := ev_u n173_20 rfl
theorem n173_21 : mx_ins 173 21 = some ((.iload_n 1), 1) := mx_ins_of mi173 dX20_rateAt_21 rfl
theorem u173_21 : ev d 173 21 lo st h = evS (mx_ldI 1) d 173 22 lo st h := ev_s n173_21 rfl rfl
theorem n173_22 : mx_ins 173 22 = some ((.bipush 10), 2) := mx_ins_of mi173 dX20_rateAt_22 rfl
theorem u173_22 : ev d 173 22 lo st h = ev d 173 24 lo (.int 10 :: st) h := (ev_s (f := mx_push (.int 10)) n173_22 rfl rfl).trans es_push
theorem n173_24 : mx_ins 173 24 = some (.idiv, 1) := mx_ins_of mi173 dX20_rateAt_24 rfl
theorem u173_24 : ev d 173 24 lo st h = evI d 173 24 25 lo st h .idiv := ev_u n173_24 rfl
theorem n173_25 : mx_ins 173 25 = some (.ishl, 1) := mx_ins_of mi173 dX20_rateAt_25 rfl
theorem u173_25 : ev d 173 25 lo st h = evI d 173 25 26 lo st h .ishl := ev_u n173_25 rfl
theorem n173_26 : mx_ins 173 26 = some ((.bipush 10), 2) := mx_ins_of mi173 dX20_rateAt_26 rfl
theorem u173_26 : ev d 173 26 lo st h = ev d 173 28 lo (.int 10 :: st) h := (ev_s (f := mx_push (.int 10)) n173_26 rfl rfl).trans es_push
theorem n173_28 : mx_ins 173 28 = some ((.iload_n 1), 1) := mx_ins_of mi173 dX20_rateAt_28 rfl
theorem u173_28 : ev d 173 28 lo st h = evS (mx_ldI 1) d 173 29 lo st h := ev_s n173_28 rfl rfl
theorem n173_29 : mx_ins 173 29 = some ((.bipush 10), 2) := mx_ins_of mi173 dX20_rateAt_29 rfl
theorem u173_29 : ev d 173 29 lo st h = ev d 173 31 lo (.int 10 :: st) h := (ev_s (f := mx_push (.int 10)) n173_29 rfl rfl).trans es_push
theorem n173_31 : mx_ins 173 31 = some (.irem, 1) := mx_ins_of mi173 dX20_rateAt_31 rfl
theorem u173_31 : ev d 173 31 lo st h = evI d 173 31 32 lo st h .irem := ev_u n173_31 rfl
theorem n173_32 : mx_ins 173 32 = some (.iadd, 1) := mx_ins_of mi173 dX20_rateAt_32 rfl
theorem u173_32 : ev d 173 32 lo st h = evI d 173 32 33 lo st h .iadd := ev_u n173_32 rfl
theorem n173_33 : mx_ins 173 33 = some (.imul, 1) := mx_ins_of mi173 dX20_rateAt_33 rfl
theorem u173_33 : ev d 173 33 lo st h = evI d 173 33 34 lo st h .imul := ev_u n173_33 rfl
theorem n173_34 : mx_ins 173 34 = some ((.bipush 10), 2) := mx_ins_of mi173 dX20_rateAt_34 rfl
theorem u173_34 : ev d 173 34 lo st h = ev d 173 36 lo (.int 10 :: st) h := (ev_s (f := mx_push (.int 10)) n173_34 rfl rfl).trans es_push
theorem n173_36 : mx_ins 173 36 = some (.idiv, 1) := mx_ins_of mi173 dX20_rateAt_36 rfl
theorem u173_36 : ev d 173 36 lo st h = evI d 173 36 37 lo st h .idiv := ev_u n173_36 rfl
theorem n173_37 : mx_ins 173 37 = some (.ireturn, 1) := mx_ins_of mi173 dX20_rateAt_37 rfl
theorem u173_37 : ev d 173 37 lo st h = evI d 173 37 38 lo st h .ireturn := ev_u n173_37 rfl
theorem mi174 : mx_mi 174 = some (yX20_body, cX20_body, 5, (Option.some Jvm.ClassFile.FieldType.int), 20, 3, []) := rfl
theorem ow174 : mx_own 174 = 20 := mx_mi_own mi174
theorem mm174 : mx_max 174 = 5 := mx_mi_max mi174
theorem rt174 : mx_ret 174 = (Option.some Jvm.ClassFile.FieldType.int) := mx_mi_ret mi174
theorem hn174 : mx_hnd 174 = [] := mx_mi_hnd mi174
theorem n174_0 : mx_ins 174 0 = some ((.iload_n 1), 1) := mx_ins_of mi174 dX20_body_0 rfl
theorem u174_0 : ev d 174 0 lo st h = evS (mx_ldI 1) d 174 1 lo st h := ev_s n174_0 rfl rfl
theorem n174_1 : mx_ins 174 1 = some ((.iconst 0), 1) := mx_ins_of mi174 dX20_body_1 rfl
theorem u174_1 : ev d 174 1 lo st h = ev d 174 2 lo (.int 0 :: st) h := (ev_s (f := mx_push (.int 0)) n174_1 rfl rfl).trans es_push
theorem n174_2 : mx_ins 174 2 = some ((.iconst 5), 1) := mx_ins_of mi174 dX20_body_2 rfl
theorem u174_2 : ev d 174 2 lo st h = ev d 174 3 lo (.int 5 :: st) h := (ev_s (f := mx_push (.int 5)) n174_2 rfl rfl).trans es_push
theorem n174_3 : mx_ins 174 3 = some ((.invokestatic 100), 3) := mx_ins_of mi174 dX20_body_3 rfl
theorem u174_3 : ev d 174 3 lo st h = evIn d 174 3 6 20 100 3 true lo st h := ev_inv n174_3 rfl rfl ow174 ia20_100
theorem n174_6 : mx_ins 174 6 = some ((.ifCond .eq 7), 3) := mx_ins_of mi174 dX20_body_6 rfl
theorem u174_6 : ev d 174 6 lo st h = evJ .eq d 174 13 9 lo st h := ev_if n174_6 rfl rfl
theorem n174_9 : mx_ins 174 9 = some ((.iload_n 1), 1) := mx_ins_of mi174 dX20_body_9 rfl
theorem u174_9 : ev d 174 9 lo st h = evS (mx_ldI 1) d 174 10 lo st h := ev_s n174_9 rfl rfl
theorem n174_10 : mx_ins 174 10 = some ((.goto 4), 3) := mx_ins_of mi174 dX20_body_10 rfl
theorem u174_10 : ev d 174 10 lo st h = ev d 174 14 lo st h := ev_goto n174_10 rfl
theorem n174_13 : mx_ins 174 13 = some ((.iconst 0), 1) := mx_ins_of mi174 dX20_body_13 rfl
theorem u174_13 : ev d 174 13 lo st h = ev d 174 14 lo (.int 0 :: st) h := (ev_s (f := mx_push (.int 0)) n174_13 rfl rfl).trans es_push
theorem n174_14 : mx_ins 174 14 = some ((.istore_n 3), 1) := mx_ins_of mi174 dX20_body_14 rfl
theorem u174_14 : ev d 174 14 lo st h = evS (mx_stI 3) d 174 15 lo st h := ev_s n174_14 rfl rfl
theorem n174_15 : mx_ins 174 15 = some ((.iload_n 3), 1) := mx_ins_of mi174 dX20_body_15 rfl
theorem u174_15 : ev d 174 15 lo st h = evS (mx_ldI 3) d 174 16 lo st h := ev_s n174_15 rfl rfl
theorem n174_16 : mx_ins 174 16 = some ((.iload_n 1), 1) := mx_ins_of mi174 dX20_body_16 rfl
theorem u174_16 : ev d 174 16 lo st h = evS (mx_ldI 1) d 174 17 lo st h := ev_s n174_16 rfl rfl
theorem n174_17 : mx_ins 174 17 = some ((.if_icmp .ne 22), 3) := mx_ins_of mi174 dX20_body_17 rfl
theorem u174_17 : ev d 174 17 lo st h = evK .ne d 174 39 20 lo st h := ev_ic n174_17 rfl rfl
theorem n174_20 : mx_ins 174 20 = some ((.iload_n 2), 1) := mx_ins_of mi174 dX20_body_20 rfl
theorem u174_20 : ev d 174 20 lo st h = evS (mx_ldI 2) d 174 21 lo st h := ev_s n174_20 rfl rfl
theorem n174_21 : mx_ins 174 21 = some ((.aload_n 0), 1) := mx_ins_of mi174 dX20_body_21 rfl
theorem u174_21 : ev d 174 21 lo st h = evS (mx_ldA 0) d 174 22 lo st h := ev_s n174_21 rfl rfl
theorem n174_22 : mx_ins 174 22 = some ((.getfield 13), 3) := mx_ins_of mi174 dX20_body_22 rfl
theorem u174_22 : ev d 174 22 lo st h = evS (mx_gf 20 13) d 174 25 lo st h := ev_s n174_22 rfl rfl
theorem n174_25 : mx_ins 174 25 = some ((.iload_n 3), 1) := mx_ins_of mi174 dX20_body_25 rfl
theorem u174_25 : ev d 174 25 lo st h = evS (mx_ldI 3) d 174 26 lo st h := ev_s n174_25 rfl rfl
theorem n174_26 : mx_ins 174 26 = some (.iaload, 1) := mx_ins_of mi174 dX20_body_26 rfl
theorem u174_26 : ev d 174 26 lo st h = evI d 174 26 27 lo st h .iaload := ev_u n174_26 rfl
theorem n174_27 : mx_ins 174 27 = some ((.aload_n 0), 1) := mx_ins_of mi174 dX20_body_27 rfl
theorem u174_27 : ev d 174 27 lo st h = evS (mx_ldA 0) d 174 28 lo st h := ev_s n174_27 rfl rfl
theorem n174_28 : mx_ins 174 28 = some ((.getfield 16), 3) := mx_ins_of mi174 dX20_body_28 rfl
theorem u174_28 : ev d 174 28 lo st h = evS (mx_gf 20 16) d 174 31 lo st h := ev_s n174_28 rfl rfl
theorem n174_31 : mx_ins 174 31 = some ((.iload_n 3), 1) := mx_ins_of mi174 dX20_body_31 rfl
theorem u174_31 : ev d 174 31 lo st h = evS (mx_ldI 3) d 174 32 lo st h := ev_s n174_31 rfl rfl
theorem n174_32 : mx_ins 174 32 = some (.iaload, 1) := mx_ins_of mi174 dX20_body_32 rfl
theorem u174_32 : ev d 174 32 lo st h = evI d 174 32 33 lo st h .iaload := ev_u n174_32 rfl
theorem n174_33 : mx_ins 174 33 = some ((.invokestatic 100), 3) := mx_ins_of mi174 dX20_body_33 rfl
theorem u174_33 : ev d 174 33 lo st h = evIn d 174 33 36 20 100 3 true lo st h := ev_inv n174_33 rfl rfl ow174 ia20_100
theorem n174_36 : mx_ins 174 36 = some ((.ifCond .ne 5), 3) := mx_ins_of mi174 dX20_body_36 rfl
theorem u174_36 : ev d 174 36 lo st h = evJ .ne d 174 41 39 lo st h := ev_if n174_36 rfl rfl
theorem n174_39 : mx_ins 174 39 = some ((.iconst (-1)), 1) := mx_ins_of mi174 dX20_body_39 rfl
theorem u174_39 : ev d 174 39 lo st h = ev d 174 40 lo (.int (-1) :: st) h := (ev_s (f := mx_push (.int (-1))) n174_39 rfl rfl).trans es_push
theorem n174_40 : mx_ins 174 40 = some (.ireturn, 1) := mx_ins_of mi174 dX20_body_40 rfl
theorem u174_40 : ev d 174 40 lo st h = evI d 174 40 41 lo st h .ireturn := ev_u n174_40 rfl
theorem n174_41 : mx_ins 174 41 = some ((.aload_n 0), 1) := mx_ins_of mi174 dX20_body_41 rfl
theorem u174_41 : ev d 174 41 lo st h = evS (mx_ldA 0) d 174 42 lo st h := ev_s n174_41 rfl rfl
theorem n174_42 : mx_ins 174 42 = some ((.getfield 7), 3) := mx_ins_of mi174 dX20_body_42 rfl
theorem u174_42 : ev d 174 42 lo st h = evS (mx_gf 20 7) d 174 45 lo st h := ev_s n174_42 rfl rfl
theorem n174_45 : mx_ins 174 45 = some ((.iload_n 1), 1) := mx_ins_of mi174 dX20_body_45 rfl
theorem u174_45 : ev d 174 45 lo st h = evS (mx_ldI 1) d 174 46 lo st h := ev_s n174_45 rfl rfl
theorem n174_46 : mx_ins 174 46 = some (.iaload, 1) := mx_ins_of mi174 dX20_body_46 rfl
theorem u174_46 : ev d 174 46 lo st h = evI d 174 46 47 lo st h .iaload := ev_u n174_46 rfl
theorem n174_47 : mx_ins 174 47 = some ((.istore 4), 2) := mx_ins_of mi174 dX20_body_47 rfl
theorem u174_47 : ev d 174 47 lo st h = evS (mx_stI 4) d 174 49 lo st h := ev_s n174_47 rfl rfl
theorem n174_49 : mx_ins 174 49 = some ((.aload_n 0), 1) := mx_ins_of mi174 dX20_body_49 rfl
theorem u174_49 : ev d 174 49 lo st h = evS (mx_ldA 0) d 174 50 lo st h := ev_s n174_49 rfl rfl
theorem n174_50 : mx_ins 174 50 = some ((.getfield 7), 3) := mx_ins_of mi174 dX20_body_50 rfl
theorem u174_50 : ev d 174 50 lo st h = evS (mx_gf 20 7) d 174 53 lo st h := ev_s n174_50 rfl rfl
theorem n174_53 : mx_ins 174 53 = some ((.iload_n 1), 1) := mx_ins_of mi174 dX20_body_53 rfl
theorem u174_53 : ev d 174 53 lo st h = evS (mx_ldI 1) d 174 54 lo st h := ev_s n174_53 rfl rfl
theorem n174_54 : mx_ins 174 54 = some ((.iload_n 2), 1) := mx_ins_of mi174 dX20_body_54 rfl
theorem u174_54 : ev d 174 54 lo st h = evS (mx_ldI 2) d 174 55 lo st h := ev_s n174_54 rfl rfl
theorem n174_55 : mx_ins 174 55 = some (.iastore, 1) := mx_ins_of mi174 dX20_body_55 rfl
theorem u174_55 : ev d 174 55 lo st h = evI d 174 55 56 lo st h .iastore := ev_u n174_55 rfl
theorem n174_56 : mx_ins 174 56 = some ((.iload 4), 2) := mx_ins_of mi174 dX20_body_56 rfl
theorem u174_56 : ev d 174 56 lo st h = evS (mx_ldI 4) d 174 58 lo st h := ev_s n174_56 rfl rfl
theorem n174_58 : mx_ins 174 58 = some (.ireturn, 1) := mx_ins_of mi174 dX20_body_58 rfl
theorem u174_58 : ev d 174 58 lo st h = evI d 174 58 59 lo st h .ireturn := ev_u n174_58 rfl
theorem mi175 : mx_mi 175 = some (yX20_bodyOf, cX20_bodyOf, 2, (Option.some Jvm.ClassFile.FieldType.int), 20, 2, []) := rfl
theorem ow175 : mx_own 175 = 20 := mx_mi_own mi175
theorem mm175 : mx_max 175 = 2 := mx_mi_max mi175
theorem rt175 : mx_ret 175 = (Option.some Jvm.ClassFile.FieldType.int) := mx_mi_ret mi175
theorem hn175 : mx_hnd 175 = [] := mx_mi_hnd mi175
theorem n175_0 : mx_ins 175 0 = some ((.iload_n 1), 1) := mx_ins_of mi175 dX20_bodyOf_0 rfl
theorem u175_0 : ev d 175 0 lo st h = evS (mx_ldI 1) d 175 1 lo st h := ev_s n175_0 rfl rfl
theorem n175_1 : mx_ins 175 1 = some ((.tableswitch 71 6 9 #[31, 36, 44, 57]), 31) := mx_ins_of mi175 dX20_bodyOf_1 rfl
theorem u175_1 : ev d 175 1 lo st h = evTS d 175 [(6, 32), (7, 37), (8, 45), (9, 58)] 72 lo st h := ev_ts n175_1 rfl rfl
theorem n175_32 : mx_ins 175 32 = some ((.aload_n 0), 1) := mx_ins_of mi175 dX20_bodyOf_32 rfl
theorem u175_32 : ev d 175 32 lo st h = evS (mx_ldA 0) d 175 33 lo st h := ev_s n175_32 rfl rfl
theorem n175_33 : mx_ins 175 33 = some ((.invokevirtual 260), 3) := mx_ins_of mi175 dX20_bodyOf_33 rfl
theorem u175_33 : ev d 175 33 lo st h = evIn d 175 33 36 20 260 1 false lo st h := ev_inv n175_33 rfl rfl ow175 ia20_260
theorem n175_36 : mx_ins 175 36 = some (.ireturn, 1) := mx_ins_of mi175 dX20_bodyOf_36 rfl
theorem u175_36 : ev d 175 36 lo st h = evI d 175 36 37 lo st h .ireturn := ev_u n175_36 rfl
theorem n175_37 : mx_ins 175 37 = some ((.aload_n 0), 1) := mx_ins_of mi175 dX20_bodyOf_37 rfl
theorem u175_37 : ev d 175 37 lo st h = evS (mx_ldA 0) d 175 38 lo st h := ev_s n175_37 rfl rfl
theorem n175_38 : mx_ins 175 38 = some ((.getfield 7), 3) := mx_ins_of mi175 dX20_bodyOf_38 rfl
theorem u175_38 : ev d 175 38 lo st h = evS (mx_gf 20 7) d 175 41 lo st h := ev_s n175_38 rfl rfl
theorem n175_41 : mx_ins 175 41 = some ((.bipush 6), 2) := mx_ins_of mi175 dX20_bodyOf_41 rfl
theorem u175_41 : ev d 175 41 lo st h = ev d 175 43 lo (.int 6 :: st) h := (ev_s (f := mx_push (.int 6)) n175_41 rfl rfl).trans es_push
theorem n175_43 : mx_ins 175 43 = some (.iaload, 1) := mx_ins_of mi175 dX20_bodyOf_43 rfl
theorem u175_43 : ev d 175 43 lo st h = evI d 175 43 44 lo st h .iaload := ev_u n175_43 rfl
theorem n175_44 : mx_ins 175 44 = some (.ireturn, 1) := mx_ins_of mi175 dX20_bodyOf_44 rfl
theorem u175_44 : ev d 175 44 lo st h = evI d 175 44 45 lo st h .ireturn := ev_u n175_44 rfl
theorem n175_45 : mx_ins 175 45 = some ((.aload_n 0), 1) := mx_ins_of mi175 dX20_bodyOf_45 rfl
theorem u175_45 : ev d 175 45 lo st h = evS (mx_ldA 0) d 175 46 lo st h := ev_s n175_45 rfl rfl
theorem n175_46 : mx_ins 175 46 = some ((.invokevirtual 263), 3) := mx_ins_of mi175 dX20_bodyOf_46 rfl
theorem u175_46 : ev d 175 46 lo st h = evIn d 175 46 49 20 263 1 false lo st h := ev_inv n175_46 rfl rfl ow175 ia20_263
theorem n175_49 : mx_ins 175 49 = some ((.ifCond .eq 7), 3) := mx_ins_of mi175 dX20_bodyOf_49 rfl
theorem u175_49 : ev d 175 49 lo st h = evJ .eq d 175 56 52 lo st h := ev_if n175_49 rfl rfl
theorem n175_52 : mx_ins 175 52 = some ((.iconst 1), 1) := mx_ins_of mi175 dX20_bodyOf_52 rfl
theorem u175_52 : ev d 175 52 lo st h = ev d 175 53 lo (.int 1 :: st) h := (ev_s (f := mx_push (.int 1)) n175_52 rfl rfl).trans es_push
theorem n175_53 : mx_ins 175 53 = some ((.goto 4), 3) := mx_ins_of mi175 dX20_bodyOf_53 rfl
theorem u175_53 : ev d 175 53 lo st h = ev d 175 57 lo st h := ev_goto n175_53 rfl
theorem n175_56 : mx_ins 175 56 = some ((.iconst 0), 1) := mx_ins_of mi175 dX20_bodyOf_56 rfl
theorem u175_56 : ev d 175 56 lo st h = ev d 175 57 lo (.int 0 :: st) h := (ev_s (f := mx_push (.int 0)) n175_56 rfl rfl).trans es_push
theorem n175_57 : mx_ins 175 57 = some (.ireturn, 1) := mx_ins_of mi175 dX20_bodyOf_57 rfl
theorem u175_57 : ev d 175 57 lo st h = evI d 175 57 58 lo st h .ireturn := ev_u n175_57 rfl
theorem n175_58 : mx_ins 175 58 = some ((.aload_n 0), 1) := mx_ins_of mi175 dX20_bodyOf_58 rfl
theorem u175_58 : ev d 175 58 lo st h = evS (mx_ldA 0) d 175 59 lo st h := ev_s n175_58 rfl rfl
theorem n175_59 : mx_ins 175 59 = some ((.getfield 7), 3) := mx_ins_of mi175 dX20_bodyOf_59 rfl
theorem u175_59 : ev d 175 59 lo st h = evS (mx_gf 20 7) d 175 62 lo st h := ev_s n175_59 rfl rfl
theorem n175_62 : mx_ins 175 62 = some ((.iconst 0), 1) := mx_ins_of mi175 dX20_bodyOf_62 rfl
theorem u175_62 : ev d 175 62 lo st h = ev d 175 63 lo (.int 0 :: st) h := (ev_s (f := mx_push (.int 0)) n175_62 rfl rfl).trans es_push
theorem n175_63 : mx_ins 175 63 = some (.iaload, 1) := mx_ins_of mi175 dX20_bodyOf_63 rfl
theorem u175_63 : ev d 175 63 lo st h = evI d 175 63 64 lo st h .iaload := ev_u n175_63 rfl
theorem n175_64 : mx_ins 175 64 = some ((.aload_n 0), 1) := mx_ins_of mi175 dX20_bodyOf_64 rfl
theorem u175_64 : ev d 175 64 lo st h = evS (mx_ldA 0) d 175 65 lo st h := ev_s n175_64 rfl rfl
theorem n175_65 : mx_ins 175 65 = some ((.invokevirtual 260), 3) := mx_ins_of mi175 dX20_bodyOf_65 rfl
theorem u175_65 : ev d 175 65 lo st h = evIn d 175 65 68 20 260 1 false lo st h := ev_inv n175_65 rfl rfl ow175 ia20_260
theorem n175_68 : mx_ins 175 68 = some ((.invokestatic 267), 3) := mx_ins_of mi175 dX20_bodyOf_68 rfl
theorem u175_68 : ev d 175 68 lo st h = evIn d 175 68 71 20 267 2 true lo st h := ev_inv n175_68 rfl rfl ow175 ia20_267
theorem n175_71 : mx_ins 175 71 = some (.ireturn, 1) := mx_ins_of mi175 dX20_bodyOf_71 rfl
theorem u175_71 : ev d 175 71 lo st h = evI d 175 71 72 lo st h .ireturn := ev_u n175_71 rfl
theorem n175_72 : mx_ins 175 72 = some ((.iload_n 1), 1) := mx_ins_of mi175 dX20_bodyOf_72 rfl
theorem u175_72 : ev d 175 72 lo st h = evS (mx_ldI 1) d 175 73 lo st h := ev_s n175_72 rfl rfl
theorem n175_73 : mx_ins 175 73 = some ((.iconst 0), 1) := mx_ins_of mi175 dX20_bodyOf_73 rfl
theorem u175_73 : ev d 175 73 lo st h = ev d 175 74 lo (.int 0 :: st) h := (ev_s (f := mx_push (.int 0)) n175_73 rfl rfl).trans es_push
theorem n175_74 : mx_ins 175 74 = some ((.iconst 5), 1) := mx_ins_of mi175 dX20_bodyOf_74 rfl
theorem u175_74 : ev d 175 74 lo st h = ev d 175 75 lo (.int 5 :: st) h := (ev_s (f := mx_push (.int 5)) n175_74 rfl rfl).trans es_push
theorem n175_75 : mx_ins 175 75 = some ((.invokestatic 100), 3) := mx_ins_of mi175 dX20_bodyOf_75 rfl
theorem u175_75 : ev d 175 75 lo st h = evIn d 175 75 78 20 100 3 true lo st h := ev_inv n175_75 rfl rfl ow175 ia20_100
theorem n175_78 : mx_ins 175 78 = some ((.ifCond .eq 12), 3) := mx_ins_of mi175 dX20_bodyOf_78 rfl
theorem u175_78 : ev d 175 78 lo st h = evJ .eq d 175 90 81 lo st h := ev_if n175_78 rfl rfl
theorem n175_81 : mx_ins 175 81 = some ((.aload_n 0), 1) := mx_ins_of mi175 dX20_bodyOf_81 rfl
theorem u175_81 : ev d 175 81 lo st h = evS (mx_ldA 0) d 175 82 lo st h := ev_s n175_81 rfl rfl
theorem n175_82 : mx_ins 175 82 = some ((.getfield 7), 3) := mx_ins_of mi175 dX20_bodyOf_82 rfl
theorem u175_82 : ev d 175 82 lo st h = evS (mx_gf 20 7) d 175 85 lo st h := ev_s n175_82 rfl rfl
theorem n175_85 : mx_ins 175 85 = some ((.iload_n 1), 1) := mx_ins_of mi175 dX20_bodyOf_85 rfl
theorem u175_85 : ev d 175 85 lo st h = evS (mx_ldI 1) d 175 86 lo st h := ev_s n175_85 rfl rfl
theorem n175_86 : mx_ins 175 86 = some (.iaload, 1) := mx_ins_of mi175 dX20_bodyOf_86 rfl
theorem u175_86 : ev d 175 86 lo st h = evI d 175 86 87 lo st h .iaload := ev_u n175_86 rfl
theorem n175_87 : mx_ins 175 87 = some ((.goto 4), 3) := mx_ins_of mi175 dX20_bodyOf_87 rfl
theorem u175_87 : ev d 175 87 lo st h = ev d 175 91 lo st h := ev_goto n175_87 rfl
theorem n175_90 : mx_ins 175 90 = some ((.iconst (-1)), 1) := mx_ins_of mi175 dX20_bodyOf_90 rfl
theorem u175_90 : ev d 175 90 lo st h = ev d 175 91 lo (.int (-1) :: st) h := (ev_s (f := mx_push (.int (-1))) n175_90 rfl rfl).trans es_push
theorem n175_91 : mx_ins 175 91 = some (.ireturn, 1) := mx_ins_of mi175 dX20_bodyOf_91 rfl
theorem u175_91 : ev d 175 91 lo st h = evI d 175 91 92 lo st h .ireturn := ev_u n175_91 rfl
theorem mi176 : mx_mi 176 = some (yX20_weight, cX20_weight, 1, (Option.some Jvm.ClassFile.FieldType.int), 20, 1, []) := rfl
theorem ow176 : mx_own 176 = 20 := mx_mi_own mi176
theorem mm176 : mx_max 176 = 1 := mx_mi_max mi176
theorem rt176 : mx_ret 176 = (Option.some Jvm.ClassFile.FieldType.int) := mx_mi_ret mi176
theorem hn176 : mx_hnd 176 = [] := mx_mi_hnd mi176
theorem n176_0 : mx_ins 176 0 = some ((.aload_n 0), 1) := mx_ins_of mi176 dX20_weight_0 rfl
theorem u176_0 : ev d 176 0 lo st h = evS (mx_ldA 0) d 176 1 lo st h := ev_s n176_0 rfl rfl
theorem n176_1 : mx_ins 176 1 = some ((.iconst 1), 1) := mx_ins_of mi176 dX20_weight_1 rfl
theorem u176_1 : ev d 176 1 lo st h = ev d 176 2 lo (.int 1 :: st) h := (ev_s (f := mx_push (.int 1)) n176_1 rfl rfl).trans es_push
theorem n176_2 : mx_ins 176 2 = some ((.invokevirtual 255), 3) := mx_ins_of mi176 dX20_weight_2 rfl
theorem u176_2 : ev d 176 2 lo st h = evIn d 176 2 5 20 255 2 false lo st h := ev_inv n176_2 rfl rfl ow176 ia20_255
theorem n176_5 : mx_ins 176 5 = some ((.aload_n 0), 1) := mx_ins_of mi176 dX20_weight_5 rfl
theorem u176_5 : ev d 176 5 lo st h = evS (mx_ldA 0) d 176 6 lo st h := ev_s n176_5 rfl rfl
theorem n176_6 : mx_ins 176 6 = some ((.iconst 2), 1) := mx_ins_of mi176 dX20_weight_6 rfl
theorem u176_6 : ev d 176 6 lo st h = ev d 176 7 lo (.int 2 :: st) h := (ev_s (f := mx_push (.int 2)) n176_6 rfl rfl).trans es_push
theorem n176_7 : mx_ins 176 7 = some ((.invokevirtual 255), 3) := mx_ins_of mi176 dX20_weight_7 rfl
theorem u176_7 : ev d 176 7 lo st h = evIn d 176 7 10 20 255 2 false lo st h := ev_inv n176_7 rfl rfl ow176 ia20_255
theorem n176_10 : mx_ins 176 10 = some (.iadd, 1) := mx_ins_of mi176 dX20_weight_10 rfl
theorem u176_10 : ev d 176 10 lo st h = evI d 176 10 11 lo st h .iadd := ev_u n176_10 rfl
theorem n176_11 : mx_ins 176 11 = some ((.aload_n 0), 1) := mx_ins_of mi176 dX20_weight_11 rfl
theorem u176_11 : ev d 176 11 lo st h = evS (mx_ldA 0) d 176 12 lo st h := ev_s n176_11 rfl rfl
theorem n176_12 : mx_ins 176 12 = some ((.iconst 3), 1) := mx_ins_of mi176 dX20_weight_12 rfl
theorem u176_12 : ev d 176 12 lo st h = ev d 176 13 lo (.int 3 :: st) h := (ev_s (f := mx_push (.int 3)) n176_12 rfl rfl).trans es_push
theorem n176_13 : mx_ins 176 13 = some ((.invokevirtual 255), 3) := mx_ins_of mi176 dX20_weight_13 rfl
theorem u176_13 : ev d 176 13 lo st h = evIn d 176 13 16 20 255 2 false lo st h := ev_inv n176_13 rfl rfl ow176 ia20_255
theorem n176_16 : mx_ins 176 16 = some (.iadd, 1) := mx_ins_of mi176 dX20_weight_16 rfl
theorem u176_16 : ev d 176 16 lo st h = evI d 176 16 17 lo st h .iadd := ev_u n176_16 rfl
theorem n176_17 : mx_ins 176 17 = some (.ireturn, 1) := mx_ins_of mi176 dX20_weight_17 rfl
theorem u176_17 : ev d 176 17 lo st h = evI d 176 17 18 lo st h .ireturn := ev_u n176_17 rfl
theorem mi177 : mx_mi 177 = some (yX20_its, cX20_its, 2, (Option.some Jvm.ClassFile.FieldType.int), 20, 2, []) := rfl
theorem ow177 : mx_own 177 = 20 := mx_mi_own mi177
theorem mm177 : mx_max 177 = 2 := mx_mi_max mi177
theorem rt177 : mx_ret 177 = (Option.some Jvm.ClassFile.FieldType.int) := mx_mi_ret mi177
theorem hn177 : mx_hnd 177 = [] := mx_mi_hnd mi177
theorem n177_0 : mx_ins 177 0 = some ((.aload_n 0), 1) := mx_ins_of mi177 dX20_its_0 rfl
theorem u177_0 : ev d 177 0 lo st h = evS (mx_ldA 0) d 177 1 lo st h := ev_s n177_0 rfl rfl
theorem n177_1 : mx_ins 177 1 = some ((.getfield 7), 3) := mx_ins_of mi177 dX20_its_1 rfl
theorem u177_1 : ev d 177 1 lo st h = evS (mx_gf 20 7) d 177 4 lo st h := ev_s n177_1 rfl rfl
theorem n177_4 : mx_ins 177 4 = some ((.aload_n 0), 1) := mx_ins_of mi177 dX20_its_4 rfl
theorem u177_4 : ev d 177 4 lo st h = evS (mx_ldA 0) d 177 5 lo st h := ev_s n177_4 rfl rfl
theorem n177_5 : mx_ins 177 5 = some ((.getfield 104), 3) := mx_ins_of mi177 dX20_its_5 rfl
theorem u177_5 : ev d 177 5 lo st h = evS (mx_gf 20 104) d 177 8 lo st h := ev_s n177_5 rfl rfl
theorem n177_8 : mx_ins 177 8 = some ((.iload_n 1), 1) := mx_ins_of mi177 dX20_its_8 rfl
theorem u177_8 : ev d 177 8 lo st h = evS (mx_ldI 1) d 177 9 lo st h := ev_s n177_8 rfl rfl
theorem n177_9 : mx_ins 177 9 = some (.iadd, 1) := mx_ins_of mi177 dX20_its_9 rfl
theorem u177_9 : ev d 177 9 lo st h = evI d 177 9 10 lo st h .iadd := ev_u n177_9 rfl
theorem n177_10 : mx_ins 177 10 = some (.iaload, 1) := mx_ins_of mi177 dX20_its_10 rfl
theorem u177_10 : ev d 177 10 lo st h = evI d 177 10 11 lo st h .iaload := ev_u n177_10 rfl
theorem n177_11 : mx_ins 177 11 = some (.ireturn, 1) := mx_ins_of mi177 dX20_its_11 rfl
theorem u177_11 : ev d 177 11 lo st h = evI d 177 11 12 lo st h .ireturn := ev_u n177_11 rfl
theorem mi178 : mx_mi 178 = some (yX20_isAlive, cX20_isAlive, 1, (Option.some Jvm.ClassFile.FieldType.boolean), 20, 1, []) := rfl
theorem ow178 : mx_own 178 = 20 := mx_mi_own mi178
theorem mm178 : mx_max 178 = 1 := mx_mi_max mi178
theorem rt178 : mx_ret 178 = (Option.some Jvm.ClassFile.FieldType.boolean) := mx_mi_ret mi178
theorem hn178 : mx_hnd 178 = [] := mx_mi_hnd mi178
theorem n178_0 : mx_ins 178 0 = some ((.aload_n 0), 1) := mx_ins_of mi178 dX20_isAlive_0 rfl
theorem u178_0 : ev d 178 0 lo st h = evS (mx_ldA 0) d 178 1 lo st h := ev_s n178_0 rfl rfl
theorem n178_1 : mx_ins 178 1 = some ((.iconst 1), 1) := mx_ins_of mi178 dX20_isAlive_1 rfl
theorem u178_1 : ev d 178 1 lo st h = ev d 178 2 lo (.int 1 :: st) h := (ev_s (f := mx_push (.int 1)) n178_1 rfl rfl).trans es_push
theorem n178_2 : mx_ins 178 2 = some ((.invokevirtual 255), 3) := mx_ins_of mi178 dX20_isAlive_2 rfl
theorem u178_2 : ev d 178 2 lo st h = evIn d 178 2 5 20 255 2 false lo st h := ev_inv n178_2 rfl rfl ow178 ia20_255
theorem n178_5 : mx_ins 178 5 = some ((.ifCond .le 15), 3) := mx_ins_of mi178 dX20_isAlive_5 rfl
theorem u178_5 : ev d 178 5 lo st h = evJ .le d 178 20 8 lo st h := ev_if n178_5 rfl rfl
theorem n178_8 : mx_ins 178 8 = some ((.aload_n 0), 1) := mx_ins_of mi178 dX20_isAlive_8 rfl
theorem u178_8 : ev d 178 8 lo st h = evS (mx_ldA 0) d 178 9 lo st h := ev_s n178_8 rfl rfl
theorem n178_9 : mx_ins 178 9 = some ((.iconst 2), 1) := mx_ins_of mi178 dX20_isAlive_9 rfl
theorem u178_9 : ev d 178 9 lo st h = ev d 178 10 lo (.int 2 :: st) h := (ev_s (f := mx_push (.int 2)) n178_9 rfl rfl).trans es_push
theorem n178_10 : mx_ins 178 10 = some ((.invokevirtual 255), 3) := mx_ins_of mi178 dX20_isAlive_10 rfl
theorem u178_10 : ev d 178 10 lo st h = evIn d 178 10 13 20 255 2 false lo st h := ev_inv n178_10 rfl rfl ow178 ia20_255
theorem n178_13 : mx_ins 178 13 = some ((.ifCond .le 7), 3) := mx_ins_of mi178 dX20_isAlive_13 rfl
theorem u178_13 : ev d 178 13 lo st h = evJ .le d 178 20 16 lo st h := ev_if n178_13 rfl rfl
theorem n178_16 : mx_ins 178 16 = some ((.iconst 1), 1) := mx_ins_of mi178 dX20_isAlive_16 rfl
theorem u178_16 : ev d 178 16 lo st h = ev d 178 17 lo (.int 1 :: st) h := (ev_s (f := mx_push (.int 1)) n178_16 rfl rfl).trans es_push
theorem n178_17 : mx_ins 178 17 = some ((.goto 4), 3) := mx_ins_of mi178 dX20_isAlive_17 rfl
theorem u178_17 : ev d 178 17 lo st h = ev d 178 21 lo st h := ev_goto n178_17 rfl
theorem n178_20 : mx_ins 178 20 = some ((.iconst 0), 1) := mx_ins_of mi178 dX20_isAlive_20 rfl
theorem u178_20 : ev d 178 20 lo st h = ev d 178 21 lo (.int 0 :: st) h := (ev_s (f := mx_push (.int 0)) n178_20 rfl rfl).trans es_push
theorem n178_21 : mx_ins 178 21 = some (.ireturn, 1) := mx_ins_of mi178 dX20_isAlive_21 rfl
theorem u178_21 : ev d 178 21 lo st h = evI d 178 21 22 lo st h .ireturn := ev_u n178_21 rfl
theorem mi179 : mx_mi 179 = some (yX20_ratioOf, cX20_ratioOf, 4, (Option.some Jvm.ClassFile.FieldType.int), 20, 2, []) := rfl
theorem ow179 : mx_own 179 = 20 := mx_mi_own mi179
theorem mm179 : mx_max 179 = 4 := mx_mi_max mi179
theorem rt179 : mx_ret 179 = (Option.some Jvm.ClassFile.FieldType.int) := mx_mi_ret mi179
theorem hn179 : mx_hnd 179 = [] := mx_mi_hnd mi179
theorem n179_0 : mx_ins 179 0 = some ((.iload_n 1), 1) := mx_ins_of mi179 dX20_ratioOf_0 rfl
theorem u179_0 : ev d 179 0 lo st h = evS (mx_ldI 1) d 179 1 lo st h := ev_s n179_0 rfl rfl
theorem n179_1 : mx_ins 179 1 = some (.i2l, 1) := mx_ins_of mi179 dX20_ratioOf_1 rfl
theorem u179_1 : ev d 179 1 lo st h = evI d 179 1 2 lo st h .i2l := ev_u n179_1 rfl
theorem n179_2 : mx_ins 179 2 = some ((.ldc2_w 258), 3) := mx_ins_of mi179 dX20_ratioOf_2 rfl
theorem u179_2 : ev d 179 2 lo st h = ev d 179 5 lo (.long 1000000 :: st) h := (ev_s (f := mx_push (.long 1000000)) n179_2 rfl rfl).trans es_push
theorem n179_5 : mx_ins 179 5 = some (.lmul, 1) := mx_ins_of mi179 dX20_ratioOf_5 rfl
theorem u179_5 : ev d 179 5 lo st h = evI d 179 5 6 lo st h .lmul := ev_u n179_5 rfl
theorem n179_6 : mx_ins 179 6 = some ((.iload_n 0), 1) := mx_ins_of mi179 dX20_ratioOf_6 rfl
theorem u179_6 : ev d 179 6 lo st h = evS (mx_ldI 0) d 179 7 lo st h := ev_s n179_6 rfl rfl
theorem n179_7 : mx_ins 179 7 = some (.i2l, 1) := mx_ins_of mi179 dX20_ratioOf_7 rfl
theorem u179_7 : ev d 179 7 lo st h = evI d 179 7 8 lo st h .i2l := ev_u n179_7 rfl
theorem n179_8 : mx_ins 179 8 = some (.ldiv, 1) := mx_ins_of mi179 dX20_ratioOf_8 rfl
theorem u179_8 : ev d 179 8 lo st h = evI d 179 8 9 lo st h .ldiv := ev_u n179_8 rfl
theorem n179_9 : mx_ins 179 9 = some ((.lstore_n 2), 1) := mx_ins_of mi179 dX20_ratioOf_9 rfl
theorem u179_9 : ev d 179 9 lo st h = evS (mx_stL 2) d 179 10 lo st h := ev_s n179_9 rfl rfl
theorem n179_10 : mx_ins 179 10 = some ((.lload_n 2), 1) := mx_ins_of mi179 dX20_ratioOf_10 rfl
theorem u179_10 : ev d 179 10 lo st h = evS (mx_ldL 2) d 179 11 lo st h := ev_s n179_10 rfl rfl
theorem n179_11 : mx_ins 179 11 = some ((.iload_n 0), 1) := mx_ins_of mi179 dX20_ratioOf_11 rfl
theorem u179_11 : ev d 179 11 lo st h = evS (mx_ldI 0) d 179 12 lo st h := ev_s n179_11 rfl rfl
theorem n179_12 : mx_ins 179 12 = some (.i2l, 1) := mx_ins_of mi179 dX20_ratioOf_12 rfl
theorem u179_12 : ev d 179 12 lo st h = evI d 179 12 13 lo st h .i2l := ev_u n179_12 rfl
theorem n179_13 : mx_ins 179 13 = some (.ldiv, 1) := mx_ins_of mi179 dX20_ratioOf_13 rfl
theorem u179_13 : ev d 179 13 lo st h = evI d 179 13 14 lo st h .ldiv := ev_u n179_13 rfl
theorem n179_14 : mx_ins 179 14 = some ((.lstore_n 2), 1) := mx_ins_of mi179 dX20_ratioOf_14 rfl
theorem u179_14 : ev d 179 14 lo st h = evS (mx_stL 2) d 179 15 lo st h := ev_s n179_14 rfl rfl
theorem n179_15 : mx_ins 179 15 = some ((.lload_n 2), 1) := mx_ins_of mi179 dX20_ratioOf_15 rfl
theorem u179_15 : ev d 179 15 lo st h = evS (mx_ldL 2) d 179 16 lo st h := ev_s n179_15 rfl rfl
theorem n179_16 : mx_ins 179 16 = some ((.iload_n 0), 1) := mx_ins_of mi179 dX20_ratioOf_16 rfl
theorem u179_16 : ev d 179 16 lo st h = evS (mx_ldI 0) d 179 17 lo st h := ev_s n179_16 rfl rfl
theorem n179_17 : mx_ins 179 17 = some (.i2l, 1) := mx_ins_of mi179 dX20_ratioOf_17 rfl
theorem u179_17 : ev d 179 17 lo st h = evI d 179 17 18 lo st h .i2l := ev_u n179_17 rfl
theorem n179_18 : mx_ins 179 18 = some (.ldiv, 1) := mx_ins_of mi179 dX20_ratioOf_18 rfl
theorem u179_18 : ev d 179 18 lo st h = evI d 179 18 19 lo st h .ldiv := ev_u n179_18 rfl
theorem n179_19 : mx_ins 179 19 = some (.l2i, 1) := mx_ins_of mi179 dX20_ratioOf_19 rfl
theorem u179_19 : ev d 179 19 lo st h = evI d 179 19 20 lo st h .l2i := ev_u n179_19 rfl
theorem n179_20 : mx_ins 179 20 = some (.ireturn, 1) := mx_ins_of mi179 dX20_ratioOf_20 rfl
theorem u179_20 : ev d 179 20 lo st h = evI d 179 20 21 lo st h .ireturn := ev_u n179_20 rfl
theorem mi180 : mx_mi 180 = some (yX20_uses, cX20_uses, 3, (Option.some Jvm.ClassFile.FieldType.int), 20, 3, []) := rfl
theorem ow180 : mx_own 180 = 20 := mx_mi_own mi180
theorem mm180 : mx_max 180 = 3 := mx_mi_max mi180
theorem rt180 : mx_ret 180 = (Option.some Jvm.ClassFile.FieldType.int) := mx_mi_ret mi180
theorem hn180 : mx_hnd 180 = [] := mx_mi_hnd mi180
theorem n180_0 : mx_ins 180 0 = some ((.iload_n 1), 1) := mx_ins_of mi180 dX20_uses_0 rfl
theorem u180_0 : ev d 180 0 lo st h = evS (mx_ldI 1) d 180 1 lo st h := ev_s n180_0 rfl rfl
theorem n180_1 : mx_ins 180 1 = some ((.invokestatic 238), 3) := mx_ins_of mi180 dX20_uses_1 rfl
theorem u180_1 : ev d 180 1 lo st h = evIn d 180 1 4 20 238 1 true lo st h := ev_inv n180_1 rfl rfl ow180 ia20_238
theorem n180_4 : mx_ins 180 4 = some ((.ifCond .eq 19), 3) := mx_ins_of mi180 dX20_uses_4 rfl
theorem u180_4 : ev d 180 4 lo st h = evJ .eq d 180 23 7 lo st h := ev_if n180_4 rfl rfl
theorem n180_7 : mx_ins 180 7 = some ((.iload_n 2), 1) := mx_ins_of mi180 dX20_uses_7 rfl
theorem u180_7 : ev d 180 7 lo st h = evS (mx_ldI 2) d 180 8 lo st h := ev_s n180_7 rfl rfl
theorem n180_8 : mx_ins 180 8 = some ((.invokestatic 246), 3) := mx_ins_of mi180 dX20_uses_8 rfl
theorem u180_8 : ev d 180 8 lo st h = evIn d 180 8 11 20 246 1 true lo st h := ev_inv n180_8 rfl rfl ow180 ia20_246
theorem n180_11 : mx_ins 180 11 = some ((.ifCond .eq 12), 3) := mx_ins_of mi180 dX20_uses_11 rfl
theorem u180_11 : ev d 180 11 lo st h = evJ .eq d 180 23 14 lo st h := ev_if n180_11 rfl rfl
theorem n180_14 : mx_ins 180 14 = some ((.aload_n 0), 1) := mx_ins_of mi180 dX20_uses_14 rfl
theorem u180_14 : ev d 180 14 lo st h = evS (mx_ldA 0) d 180 15 lo st h := ev_s n180_14 rfl rfl
theorem n180_15 : mx_ins 180 15 = some ((.iload_n 1), 1) := mx_ins_of mi180 dX20_uses_15 rfl
theorem u180_15 : ev d 180 15 lo st h = evS (mx_ldI 1) d 180 16 lo st h := ev_s n180_15 rfl rfl
theorem n180_16 : mx_ins 180 16 = some ((.iload_n 2), 1) := mx_ins_of mi180 dX20_uses_16 rfl
theorem u180_16 : ev d 180 16 lo st h = evS (mx_ldI 2) d 180 17 lo st h := ev_s n180_16 rfl rfl
theorem n180_17 : mx_ins 180 17 = some ((.invokevirtual 270), 3) := mx_ins_of mi180 dX20_uses_17 rfl
theorem u180_17 : ev d 180 17 lo st h = evIn d 180 17 20 20 270 3 false lo st h := ev_inv n180_17 rfl rfl ow180 ia20_270
theorem n180_20 : mx_ins 180 20 = some ((.goto 4), 3) := mx_ins_of mi180 dX20_uses_20 rfl
theorem u180_20 : ev d 180 20 lo st h = ev d 180 24 lo st h := ev_goto n180_20 rfl
theorem n180_23 : mx_ins 180 23 = some ((.iconst (-1)), 1) := mx_ins_of mi180 dX20_uses_23 rfl
theorem u180_23 : ev d 180 23 lo st h = ev d 180 24 lo (.int (-1) :: st) h := (ev_s (f := mx_push (.int (-1))) n180_23 rfl rfl).trans es_push
theorem n180_24 : mx_ins 180 24 = some (.ireturn, 1) := mx_ins_of mi180 dX20_uses_24 rfl
theorem u180_24 : ev d 180 24 lo st h = evI d 180 24 25 lo st h .ireturn := ev_u n180_24 rfl
theorem mi181 : mx_mi 181 = some (yX20_usesOf, cX20_usesOf, 4, (Option.some Jvm.ClassFile.FieldType.int), 20, 3, []) := rfl
theorem ow181 : mx_own 181 = 20 := mx_mi_own mi181
theorem mm181 : mx_max 181 = 4 := mx_mi_max mi181
theorem rt181 : mx_ret 181 = (Option.some Jvm.ClassFile.FieldType.int) := mx_mi_ret mi181
theorem hn181 : mx_hnd 181 = [] := mx_mi_hnd mi181
theorem n181_0 : mx_ins 181 0 = some ((.aload_n 0), 1) := mx_ins_of mi181 dX20_usesOf_0 rfl
theorem u181_0 : ev d 181 0 lo st h = evS (mx_ldA 0) d 181 1 lo st h := ev_s n181_0 rfl rfl
theorem n181_1 : mx_ins 181 1 = some ((.invokevirtual 260), 3) := mx_ins_of mi181 dX20_usesOf_1 rfl
theorem u181_1 : ev d 181 1 lo st h = evIn d 181 1 4 20 260 1 false lo st h := ev_inv n181_1 rfl rfl ow181 ia20_260
theorem n181_4 : mx_ins 181 4 = some ((.aload_n 0), 1) := mx_ins_of mi181 dX20_usesOf_4 rfl
theorem u181_4 : ev d 181 4 lo st h = evS (mx_ldA 0) d 181 5 lo st h := ev_s n181_4 rfl rfl
theorem n181_5 : mx_ins 181 5 = some ((.aload_n 0), 1) := mx_ins_of mi181 dX20_usesOf_5 rfl
theorem u181_5 : ev d 181 5 lo st h = evS (mx_ldA 0) d 181 6 lo st h := ev_s n181_5 rfl rfl
theorem n181_6 : mx_ins 181 6 = some ((.iload_n 1), 1) := mx_ins_of mi181 dX20_usesOf_6 rfl
theorem u181_6 : ev d 181 6 lo st h = evS (mx_ldI 1) d 181 7 lo st h := ev_s n181_6 rfl rfl
theorem n181_7 : mx_ins 181 7 = some ((.iload_n 2), 1) := mx_ins_of mi181 dX20_usesOf_7 rfl
theorem u181_7 : ev d 181 7 lo st h = evS (mx_ldI 2) d 181 8 lo st h := ev_s n181_7 rfl rfl
theorem n181_8 : mx_ins 181 8 = some ((.invokevirtual 242), 3) := mx_ins_of mi181 dX20_usesOf_8 rfl
theorem u181_8 : ev d 181 8 lo st h = evIn d 181 8 11 20 242 3 false lo st h := ev_inv n181_8 rfl rfl ow181 ia20_242
theorem n181_11 : mx_ins 181 11 = some ((.invokevirtual 252), 3) := mx_ins_of mi181 dX20_usesOf_11 rfl
theorem u181_11 : ev d 181 11 lo st h = evIn d 181 11 14 20 252 2 false lo st h := ev_inv n181_11 rfl rfl ow181 ia20_252
theorem n181_14 : mx_ins 181 14 = some (.imul, 1) := mx_ins_of mi181 dX20_usesOf_14 rfl
theorem u181_14 : ev d 181 14 lo st h = evI d 181 14 15 lo st h .imul := ev_u n181_14 rfl
theorem n181_15 : mx_ins 181 15 = some ((.sipush 1000), 3) := mx_ins_of mi181 dX20_usesOf_15 rfl
theorem u181_15 : ev d 181 15 lo st h = ev d 181 18 lo (.int 1000 :: st) h := (ev_s (f := mx_push (.int 1000)) n181_15 rfl rfl).trans es_push
theorem n181_18 : mx_ins 181 18 = some (.idiv, 1) := mx_ins_of mi181 dX20_usesOf_18 rfl
theorem u181_18 : ev d 181 18 lo st h = evI d 181 18 19 lo st h .idiv := ev_u n181_18 rfl
theorem n181_19 : mx_ins 181 19 = some ((.istore_n 3), 1) := mx_ins_of mi181 dX20_usesOf_19 rfl
theorem u181_19 : ev d 181 19 lo st h = evS (mx_stI 3) d 181 20 lo st h := ev_s n181_19 rfl rfl
theorem n181_20 : mx_ins 181 20 = some ((.aload_n 0), 1) := mx_ins_of mi181 dX20_usesOf_20 rfl
theorem u181_20 : ev d 181 20 lo st h = evS (mx_ldA 0) d 181 21 lo st h := ev_s n181_20 rfl rfl
theorem n181_21 : mx_ins 181 21 = some ((.iload_n 1), 1) := mx_ins_of mi181 dX20_usesOf_21 rfl
theorem u181_21 : ev d 181 21 lo st h = evS (mx_ldI 1) d 181 22 lo st h := ev_s n181_21 rfl rfl
theorem n181_22 : mx_ins 181 22 = some ((.iload_n 2), 1) := mx_ins_of mi181 dX20_usesOf_22 rfl
theorem u181_22 : ev d 181 22 lo st h = evS (mx_ldI 2) d 181 23 lo st h := ev_s n181_22 rfl rfl
theorem n181_23 : mx_ins 181 23 = some ((.invokevirtual 249), 3) := mx_ins_of mi181 dX20_usesOf_23 rfl
theorem u181_23 : ev d 181 23 lo st h = evIn d 181 23 26 20 249 3 false lo st h := ev_inv n181_23 rfl rfl ow181 ia20_249
theorem n181_26 : mx_ins 181 26 = some ((.tableswitch 44 1 4 #[30, 36, 40, 30]), 30) := mx_ins_of mi181 dX20_usesOf_26 rfl
theorem u181_26 : ev d 181 26 lo st h = evTS d 181 [(1, 56), (2, 62), (3, 66), (4, 56)] 70 lo st h := ev_ts n181_26 rfl rfl
theorem n181_56 : mx_ins 181 56 = some ((.iload_n 3), 1) := mx_ins_of mi181 dX20_usesOf_56 rfl
theorem u181_56 : ev d 181 56 lo st h = evS (mx_ldI 3) d 181 57 lo st h := ev_s n181_56 rfl rfl
theorem n181_57 : mx_ins 181 57 = some ((.iconst 3), 1) := mx_ins_of mi181 dX20_usesOf_57 rfl
theorem u181_57 : ev d 181 57 lo st h = ev d 181 58 lo (.int 3 :: st) h := (ev_s (f := mx_push (.int 3)) n181_57 rfl rfl).trans es_push
theorem n181_58 : mx_ins 181 58 = some (.imul, 1) := mx_ins_of mi181 dX20_usesOf_58 rfl
theorem u181_58 : ev d 181 58 lo st h = evI d 181 58 59 lo st h .imul := ev_u n181_58 rfl
theorem n181_59 : mx_ins 181 59 = some ((.iconst 4), 1) := mx_ins_of mi181 dX20_usesOf_59 rfl
theorem u181_59 : ev d 181 59 lo st h = ev d 181 60 lo (.int 4 :: st) h := (ev_s (f := mx_push (.int 4)) n181_59 rfl rfl).trans es_push
theorem n181_60 : mx_ins 181 60 = some (.idiv, 1) := mx_ins_of mi181 dX20_usesOf_60 rfl
theorem u181_60 : ev d 181 60 lo st h = evI d 181 60 61 lo st h .idiv := ev_u n181_60 rfl
theorem n181_61 : mx_ins 181 61 = some (.ireturn, 1) := mx_ins_of mi181 dX20_usesOf_61 rfl
theorem u181_61 : ev d 181 61 lo st h = evI d 181 61 62 lo st h .ireturn := ev_u n181_61 rfl
theorem n181_62 : mx_ins 181 62 = some ((.iconst 2), 1) := mx_ins_of mi181 dX20_usesOf_62 rfl
theorem u181_62 : ev d 181 62 lo st h = ev d 181 63 lo (.int 2 :: st) h := (ev_s (f := mx_push (.int 2)) n181_62 rfl rfl).trans es_push
theorem n181_63 : mx_ins 181 63 = some ((.iload_n 3), 1) := mx_ins_of mi181 dX20_usesOf_63 rfl
theorem u181_63 : ev d 181 63 lo st h = evS (mx_ldI 3) d 181 64 lo st h := ev_s n181_63 rfl rfl
theorem n181_64 : mx_ins 181 64 = some (.imul, 1) := mx_ins_of mi181 dX20_usesOf_64 rfl
theorem u181_64 : ev d 181 64 lo st h = evI d 181 64 65 lo st h .imul := ev_u n181_64 rfl
theorem n181_65 : mx_ins 181 65 = some (.ireturn, 1) := mx_ins_of mi181 dX20_usesOf_65 rfl
theorem u181_65 : ev d 181 65 lo st h = evI d 181 65 66 lo st h .ireturn := ev_u n181_65 rfl
theorem n181_66 : mx_ins 181 66 = some ((.iconst 4), 1) := mx_ins_of mi181 dX20_usesOf_66 rfl
theorem u181_66 : ev d 181 66 lo st h = ev d 181 67 lo (.int 4 :: st) h := (ev_s (f := mx_push (.int 4)) n181_66 rfl rfl).trans es_push
theorem n181_67 : mx_ins 181 67 = some ((.iload_n 3), 1) := mx_ins_of mi181 dX20_usesOf_67 rfl
theorem u181_67 : ev d 181 67 lo st h = evS (mx_ldI 3) d 181 68 lo st h := ev_s n181_67 rfl rfl
theorem n181_68 : mx_ins 181 68 = some (.imul, 1) := mx_ins_of mi181 dX20_usesOf_68 rfl
theorem u181_68 : ev d 181 68 lo st h = evI d 181 68 69 lo st h .imul := ev_u n181_68 rfl
theorem n181_69 : mx_ins 181 69 = some (.ireturn, 1) := mx_ins_of mi181 dX20_usesOf_69 rfl
theorem u181_69 : ev d 181 69 lo st h = evI d 181 69 70 lo st h .ireturn := ev_u n181_69 rfl
theorem n181_70 : mx_ins 181 70 = some ((.iload_n 3), 1) := mx_ins_of mi181 dX20_usesOf_70 rfl
theorem u181_70 : ev d 181 70 lo st h = evS (mx_ldI 3) d 181 71 lo st h := ev_s n181_70 rfl rfl
theorem n181_71 : mx_ins 181 71 = some (.ireturn, 1) := mx_ins_of mi181 dX20_usesOf_71 rfl
theorem u181_71 : ev d 181 71 lo st h = evI d 181 71 72 lo st h .ireturn := ev_u n181_71 rfl
theorem mi182 : mx_mi 182 = some (yX20_dries, cX20_dries, 3, (Option.some Jvm.ClassFile.FieldType.int), 20, 3, []) := rfl
theorem ow182 : mx_own 182 = 20 := mx_mi_own mi182
theorem mm182 : mx_max 182 = 3 := mx_mi_max mi182
theorem rt182 : mx_ret 182 = (Option.some Jvm.ClassFile.FieldType.int) := mx_mi_ret mi182
theorem hn182 : mx_hnd 182 = [] := mx_mi_hnd mi182
theorem n182_0 : mx_ins 182 0 = some ((.iload_n 1), 1) := mx_ins_of mi182 dX20_dries_0 rfl
theorem u182_0 : ev d 182 0 lo st h = evS (mx_ldI 1) d 182 1 lo st h := ev_s n182_0 rfl rfl
theorem n182_1 : mx_ins 182 1 = some ((.invokestatic 238), 3) := mx_ins_of mi182 dX20_dries_1 rfl
theorem u182_1 : ev d 182 1 lo st h = evIn d 182 1 4 20 238 1 true lo st h := ev_inv n182_1 rfl rfl ow182 ia20_238
theorem n182_4 : mx_ins 182 4 = some ((.ifCond .eq 19), 3) := mx_ins_of mi182 dX20_dries_4 rfl
theorem u182_4 : ev d 182 4 lo st h = evJ .eq d 182 23 7 lo st h := ev_if n182_4 rfl rfl
theorem n182_7 : mx_ins 182 7 = some ((.iload_n 2), 1) := mx_ins_of mi182 dX20_dries_7 rfl
theorem u182_7 : ev d 182 7 lo st h = evS (mx_ldI 2) d 182 8 lo st h := ev_s n182_7 rfl rfl
theorem n182_8 : mx_ins 182 8 = some ((.invokestatic 246), 3) := mx_ins_of mi182 dX20_dries_8 rfl
theorem u182_8 : ev d 182 8 lo st h = evIn d 182 8 11 20 246 1 true lo st h := ev_inv n182_8 rfl rfl ow182 ia20_246
theorem n182_11 : mx_ins 182 11 = some ((.ifCond .eq 12), 3) := mx_ins_of mi182 dX20_dries_11 rfl
theorem u182_11 : ev d 182 11 lo st h = evJ .eq d 182 23 14 lo st h := ev_if n182_11 rfl rfl
theorem n182_14 : mx_ins 182 14 = some ((.aload_n 0), 1) := mx_ins_of mi182 dX20_dries_14 rfl
theorem u182_14 : ev d 182 14 lo st h = evS (mx_ldA 0) d 182 15 lo st h := ev_s n182_14 rfl rfl
theorem n182_15 : mx_ins 182 15 = some ((.iload_n 1), 1) := mx_ins_of mi182 dX20_dries_15 rfl
theorem u182_15 : ev d 182 15 lo st h = evS (mx_ldI 1) d 182 16 lo st h := ev_s n182_15 rfl rfl
theorem n182_16 : mx_ins 182 16 = some ((.iload_n 2), 1) := mx_ins_of mi182 dX20_dries_16 rfl
theorem u182_16 : ev d 182 16 lo st h = evS (mx_ldI 2) d 182 17 lo st h := ev_s n182_16 rfl rfl
theorem n182_17 : mx_ins 182 17 = some ((.invokevirtual 273), 3) := mx_ins_of mi182 dX20_dries_17 rfl
theorem u182_17 : ev d 182 17 lo st h = evIn d 182 17 20 20 273 3 false lo st h := ev_inv n182_17 rfl rfl ow182 ia20_273
theorem n182_20 : mx_ins 182 20 = some ((.goto 4), 3) := mx_ins_of mi182 dX20_dries_20 rfl
theorem u182_20 : ev d 182 20 lo st h = ev d 182 24 lo st h := ev_goto n182_20 rfl
theorem n182_23 : mx_ins 182 23 = some ((.iconst (-1)), 1) := mx_ins_of mi182 dX20_dries_23 rfl
theorem u182_23 : ev d 182 23 lo st h = ev d 182 24 lo (.int (-1) :: st) h := (ev_s (f := mx_push (.int (-1))) n182_23 rfl rfl).trans es_push
theorem n182_24 : mx_ins 182 24 = some (.ireturn, 1) := mx_ins_of mi182 dX20_dries_24 rfl
theorem u182_24 : ev d 182 24 lo st h = evI d 182 24 25 lo st h .ireturn := ev_u n182_24 rfl
theorem mi183 : mx_mi 183 = some (yX20_driesOf, cX20_driesOf, 4, (Option.some Jvm.ClassFile.FieldType.int), 20, 3, []) := rfl
theorem ow183 : mx_own 183 = 20 := mx_mi_own mi183
theorem mm183 : mx_max 183 = 4 := mx_mi_max mi183
theorem rt183 : mx_ret 183 = (Option.some Jvm.ClassFile.FieldType.int) := mx_mi_ret mi183
theorem hn183 : mx_hnd 183 = [] := mx_mi_hnd mi183
theorem n183_0 : mx_ins 183 0 = some ((.iconst 2), 1) := mx_ins_of mi183 dX20_driesOf_0 rfl
theorem u183_0 : ev d 183 0 lo st h = ev d 183 1 lo (.int 2 :: st) h := (ev_s (f := mx_push (.int 2)) n183_0 rfl rfl).trans es_push
theorem n183_1 : mx_ins 183 1 = some ((.bipush 10), 2) := mx_ins_of mi183 dX20_driesOf_1 rfl
theorem u183_1 : ev d 183 1 lo st h = ev d 183 3 lo (.int 10 :: st) h := (ev_s (f := mx_push (.int 10)) n183_1 rfl rfl).trans es_push
theorem n183_3 : mx_ins 183 3 = some ((.aload_n 0), 1) := mx_ins_of mi183 dX20_driesOf_3 rfl
theorem u183_3 : ev d 183 3 lo st h = evS (mx_ldA 0) d 183 4 lo st h := ev_s n183_3 rfl rfl
theorem n183_4 : mx_ins 183 4 = some ((.getfield 22), 3) := mx_ins_of mi183 dX20_driesOf_4 rfl
theorem u183_4 : ev d 183 4 lo st h = evS (mx_gf 20 22) d 183 7 lo st h := ev_s n183_4 rfl rfl
theorem n183_7 : mx_ins 183 7 = some ((.iload_n 1), 1) := mx_ins_of mi183 dX20_driesOf_7 rfl
theorem u183_7 : ev d 183 7 lo st h = evS (mx_ldI 1) d 183 8 lo st h := ev_s n183_7 rfl rfl
theorem n183_8 : mx_ins 183 8 = some (.iaload, 1) := mx_ins_of mi183 dX20_driesOf_8 rfl
theorem u183_8 : ev d 183 8 lo st h = evI d 183 8 9 lo st h .iaload := ev_u n183_8 rfl
theorem n183_9 : mx_ins 183 9 = some (.isub, 1) := mx_ins_of mi183 dX20_driesOf_9 rfl
theorem u183_9 : ev d 183 9 lo st h = evI d 183 9 10 lo st h .isub := ev_u n183_9 rfl
theorem n183_10 : mx_ins 183 10 = some (.imul, 1) := mx_ins_of mi183 dX20_driesOf_10 rfl
theorem u183_10 : ev d 183 10 lo st h = evI d 183 10 11 lo st h .imul := ev_u n183_10 rfl
theorem n183_11 : mx_ins 183 11 = some ((.istore_n 3), 1) := mx_ins_of mi183 dX20_driesOf_11 rfl
theorem u183_11 : ev d 183 11 lo st h = evS (mx_stI 3) d 183 12 lo st h := ev_s n183_11 rfl rfl
theorem n183_12 : mx_ins 183 12 = some ((.aload_n 0), 1) := mx_ins_of mi183 dX20_driesOf_12 rfl
theorem u183_12 : ev d 183 12 lo st h = evS (mx_ldA 0) d 183 13 lo st h := ev_s n183_12 rfl rfl
theorem n183_13 : mx_ins 183 13 = some ((.iload_n 1), 1) := mx_ins_of mi183 dX20_driesOf_13 rfl
theorem u183_13 : ev d 183 13 lo st h = evS (mx_ldI 1) d 183 14 lo st h := ev_s n183_13 rfl rfl
theorem n183_14 : mx_ins 183 14 = some ((.iload_n 2), 1) := mx_ins_of mi183 dX20_driesOf_14 rfl
theorem u183_14 : ev d 183 14 lo st h = evS (mx_ldI 2) d 183 15 lo st h := ev_s n183_14 rfl rfl
theorem n183_15 : mx_ins 183 15 = some ((.invokevirtual 249), 3) := mx_ins_of mi183 dX20_driesOf_15 rfl
theorem u183_15 : ev d 183 15 lo st h = evIn d 183 15 18 20 249 3 false lo st h := ev_inv n183_15 rfl rfl ow183 ia20_249
theorem n183_18 : mx_ins 183 18 = some ((.tableswitch 57 1 5 #[34, 44, 48, 38, 53]), 34) := mx_ins_of mi183 dX20_driesOf_18 rfl
theorem u183_18 : ev d 183 18 lo st h = evTS d 183 [(1, 52), (2, 62), (3, 66), (4, 56), (5, 71)] 75 lo st h := ev_ts n183_18 rfl rfl
theorem n183_52 : mx_ins 183 52 = some ((.iload_n 3), 1) := mx_ins_of mi183 dX20_driesOf_52 rfl
theorem u183_52 : ev d 183 52 lo st h = evS (mx_ldI 3) d 183 53 lo st h := ev_s n183_52 rfl rfl
theorem n183_53 : mx_ins 183 53 = some ((.iconst 2), 1) := mx_ins_of mi183 dX20_driesOf_53 rfl
theorem u183_53 : ev d 183 53 lo st h = ev d 183 54 lo (.int 2 :: st) h := (ev_s (f := mx_push (.int 2)) n183_53 rfl rfl).trans es_push
theorem n183_54 : mx_ins 183 54 = some (.idiv, 1) := mx_ins_of mi183 dX20_driesOf_54 rfl
theorem u183_54 : ev d 183 54 lo st h = evI d 183 54 55 lo st h .idiv := ev_u n183_54 rfl
theorem n183_55 : mx_ins 183 55 = some (.ireturn, 1) := mx_ins_of mi183 dX20_driesOf_55 rfl
theorem u183_55 : ev d 183 55 lo st h = evI d 183 55 56 lo st h .ireturn := ev_u n183_55 rfl
theorem n183_56 : mx_ins 183 56 = some ((.iload_n 3), 1) := mx_ins_of mi183 dX20_driesOf_56 rfl
theorem u183_56 : ev d 183 56 lo st h = evS (mx_ldI 3) d 183 57 lo st h := ev_s n183_56 rfl rfl
theorem n183_57 : mx_ins 183 57 = some ((.iconst 2), 1) := mx_ins_of mi183 dX20_driesOf_57 rfl
theorem u183_57 : ev d 183 57 lo st h = ev d 183 58 lo (.int 2 :: st) h := (ev_s (f := mx_push (.int 2)) n183_57 rfl rfl).trans es_push
theorem n183_58 : mx_ins 183 58 = some (.idiv, 1) := mx_ins_of mi183 dX20_driesOf_58 rfl
theorem u183_58 : ev d 183 58 lo st h = evI d 183 58 59 lo st h .idiv := ev_u n183_58 rfl
theorem n183_59 : mx_ins 183 59 = some ((.iconst 1), 1) := mx_ins_of mi183 dX20_driesOf_59 rfl
theorem u183_59 : ev d 183 59 lo st h = ev d 183 60 lo (.int 1 :: st) h := (ev_s (f := mx_push (.int 1)) n183_59 rfl rfl).trans es_push
theorem n183_60 : mx_ins 183 60 = some (.iadd, 1) := mx_ins_of mi183 dX20_driesOf_60 rfl
theorem u183_60 : ev d 183 60 lo st h = evI d 183 60 61 lo st h .iadd := ev_u n183_60 rfl
theorem n183_61 : mx_ins 183 61 = some (.ireturn, 1) := mx_ins_of mi183 dX20_driesOf_61 rfl
theorem u183_61 : ev d 183 61 lo st h = evI d 183 61 62 lo st h .ireturn := ev_u n183_61 rfl
theorem n183_62 : mx_ins 183 62 = some ((.iload_n 3), 1) := mx_ins_of mi183 dX20_driesOf_62 rfl
theorem u183_62 : ev d 183 62 lo st h = evS (mx_ldI 3) d 183 63 lo st h := ev_s n183_62 rfl rfl
theorem n183_63 : mx_ins 183 63 = some ((.iconst 5), 1) := mx_ins_of mi183 dX20_driesOf_63 rfl
theorem u183_63 : ev d 183 63 lo st h = ev d 183 64 lo (.int 5 :: st) h := (ev_s (f := mx_push (.int 5)) n183_63 rfl rfl).trans es_push
theorem n183_64 : mx_ins 183 64 = some (.iadd, 1) := mx_ins_of mi183 dX20_driesOf_64 rfl
theorem u183_64 : ev d 183 64 lo st h = evI d 183 64 65 lo st h .iadd := ev_u n183_64 rfl
theorem n183_65 : mx_ins 183 65 = some (.ireturn, 1) := mx_ins_of mi183 dX20_driesOf_65 rfl
theorem u183_65 : ev d 183 65 lo st h = evI d 183 65 66 lo st h .ireturn := ev_u n183_65 rfl
theorem n183_66 : mx_ins 183 66 = some ((.iload_n 3), 1) := mx_ins_of mi183 dX20_driesOf_66 rfl
theorem u183_66 : ev d 183 66 lo st h = evS (mx_ldI 3) d 183 67 lo st h := ev_s n183_66 rfl rfl
theorem n183_67 : mx_ins 183 67 = some ((.bipush 25), 2) := mx_ins_of mi183 dX20_driesOf_67 rfl
theorem u183_67 : ev d 183 67 lo st h = ev d 183 69 lo (.int 25 :: st) h := (ev_s (f := mx_push (.int 25)) n183_67 rfl rfl).trans es_push
theorem n183_69 : mx_ins 183 69 = some (.iadd, 1) := mx_ins_of mi183 dX20_driesOf_69 rfl
theorem u183_69 : ev d 183 69 lo st h = evI d 183 69 70 lo st h .iadd := ev_u n183_69 rfl
theorem n183_70 : mx_ins 183 70 = some (.ireturn, 1) := mx_ins_of mi183 dX20_driesOf_70 rfl
theorem u183_70 : ev d 183 70 lo st h = evI d 183 70 71 lo st h .ireturn := ev_u n183_70 rfl
theorem n183_71 : mx_ins 183 71 = some ((.iconst 2), 1) := mx_ins_of mi183 dX20_driesOf_71 rfl
theorem u183_71 : ev d 183 71 lo st h = ev d 183 72 lo (.int 2 :: st) h := (ev_s (f := mx_push (.int 2)) n183_71 rfl rfl).trans es_push
theorem n183_72 : mx_ins 183 72 = some ((.iload_n 3), 1) := mx_ins_of mi183 dX20_driesOf_72 rfl
theorem u183_72 : ev d 183 72 lo st h = evS (mx_ldI 3) d 183 73 lo st h := ev_s n183_72 rfl rfl
theorem n183_73 : mx_ins 183 73 = some (.imul, 1) := mx_ins_of mi183 dX20_driesOf_73 rfl
theorem u183_73 : ev d 183 73 lo st h = evI d 183 73 74 lo st h .imul := ev_u n183_73 rfl
theorem n183_74 : mx_ins 183 74 = some (.ireturn, 1) := mx_ins_of mi183 dX20_driesOf_74 rfl
theorem u183_74 : ev d 183 74 lo st h = evI d 183 74 75 lo st h .ireturn := ev_u n183_74 rfl
theorem n183_75 : mx_ins 183 75 = some ((.iload_n 3), 1) := mx_ins_of mi183 dX20_driesOf_75 rfl
theorem u183_75 : ev d 183 75 lo st h = evS (mx_ldI 3) d 183 76 lo st h := ev_s n183_75 rfl rfl
theorem n183_76 : mx_ins 183 76 = some (.ireturn, 1) := mx_ins_of mi183 dX20_driesOf_76 rfl
theorem u183_76 : ev d 183 76 lo st h = evI d 183 76 77 lo st h .ireturn := ev_u n183_76 rfl
theorem mi184 : mx_mi 184 = some (yX20_goes, cX20_goes, 3, (Option.some Jvm.ClassFile.FieldType.int), 20, 2, []) := rfl
theorem ow184 : mx_own 184 = 20 := mx_mi_own mi184
theorem mm184 : mx_max 184 = 3 := mx_mi_max mi184
theorem rt184 : mx_ret 184 = (Option.some Jvm.ClassFile.FieldType.int) := mx_mi_ret mi184
theorem hn184 : mx_hnd 184 = [] := mx_mi_hnd mi184
theorem n184_0 : mx_ins 184 0 = some ((.iload_n 1), 1) := mx_ins_of mi184 dX20_goes_0 rfl
theorem u184_0 : ev d 184 0 lo st h = evS (mx_ldI 1) d 184 1 lo st h := ev_s n184_0 rfl rfl
theorem n184_1 : mx_ins 184 1 = some ((.iconst 0), 1) := mx_ins_of mi184 dX20_goes_1 rfl
theorem u184_1 : ev d 184 1 lo st h = ev d 184 2 lo (.int 0 :: st) h := (ev_s (f := mx_push (.int 0)) n184_1 rfl rfl).trans es_push
theorem n184_2 : mx_ins 184 2 = some ((.bipush 24), 2) := mx_ins_of mi184 dX20_goes_2 rfl
theorem u184_2 : ev d 184 2 lo st h = ev d 184 4 lo (.int 24 :: st) h := (ev_s (f := mx_push (.int 24)) n184_2 rfl rfl).trans es_push
theorem n184_4 : mx_ins 184 4 = some ((.invokestatic 100), 3) := mx_ins_of mi184 dX20_goes_4 rfl
theorem u184_4 : ev d 184 4 lo st h = evIn d 184 4 7 20 100 3 true lo st h := ev_inv n184_4 rfl rfl ow184 ia20_100
theorem n184_7 : mx_ins 184 7 = some ((.ifCond .ne 5), 3) := mx_ins_of mi184 dX20_goes_7 rfl
theorem u184_7 : ev d 184 7 lo st h = evJ .ne d 184 12 10 lo st h := ev_if n184_7 rfl rfl
theorem n184_10 : mx_ins 184 10 = some ((.iconst (-1)), 1) := mx_ins_of mi184 dX20_goes_10 rfl
theorem u184_10 : ev d 184 10 lo st h = ev d 184 11 lo (.int (-1) :: st) h := (ev_s (f := mx_push (.int (-1))) n184_10 rfl rfl).trans es_push
theorem n184_11 : mx_ins 184 11 = some (.ireturn, 1) := mx_ins_of mi184 dX20_goes_11 rfl
theorem u184_11 : ev d 184 11 lo st h = evI d 184 11 12 lo st h .ireturn := ev_u n184_11 rfl
theorem n184_12 : mx_ins 184 12 = some ((.iconst 0), 1) := mx_ins_of mi184 dX20_goes_12 rfl
theorem u184_12 : ev d 184 12 lo st h = ev d 184 13 lo (.int 0 :: st) h := (ev_s (f := mx_push (.int 0)) n184_12 rfl rfl).trans es_push
theorem n184_13 : mx_ins 184 13 = some ((.istore_n 2), 1) := mx_ins_of mi184 dX20_goes_13 rfl
theorem u184_13 : ev d 184 13 lo st h = evS (mx_stI 2) d 184 14 lo st h := ev_s n184_13 rfl rfl
theorem n184_14 : mx_ins 184 14 = some ((.iload_n 2), 1) := mx_ins_of mi184 dX20_goes_14 rfl
theorem u184_14 : ev d 184 14 lo st h = evS (mx_ldI 2) d 184 15 lo st h := ev_s n184_14 rfl rfl
theorem n184_15 : mx_ins 184 15 = some ((.iload_n 1), 1) := mx_ins_of mi184 dX20_goes_15 rfl
theorem u184_15 : ev d 184 15 lo st h = evS (mx_ldI 1) d 184 16 lo st h := ev_s n184_15 rfl rfl
theorem n184_16 : mx_ins 184 16 = some ((.if_icmp .ge 25), 3) := mx_ins_of mi184 dX20_goes_16 rfl
theorem u184_16 : ev d 184 16 lo st h = evK .ge d 184 41 19 lo st h := ev_ic n184_16 rfl rfl
theorem n184_19 : mx_ins 184 19 = some ((.aload_n 0), 1) := mx_ins_of mi184 dX20_goes_19 rfl
theorem u184_19 : ev d 184 19 lo st h = evS (mx_ldA 0) d 184 20 lo st h := ev_s n184_19 rfl rfl
theorem n184_20 : mx_ins 184 20 = some ((.getfield 7), 3) := mx_ins_of mi184 dX20_goes_20 rfl
theorem u184_20 : ev d 184 20 lo st h = evS (mx_gf 20 7) d 184 23 lo st h := ev_s n184_20 rfl rfl
theorem n184_23 : mx_ins 184 23 = some ((.bipush 6), 2) := mx_ins_of mi184 dX20_goes_23 rfl
theorem u184_23 : ev d 184 23 lo st h = ev d 184 25 lo (.int 6 :: st) h := (ev_s (f := mx_push (.int 6)) n184_23 rfl rfl).trans es_push
theorem n184_25 : mx_ins 184 25 = some (.iaload, 1) := mx_ins_of mi184 dX20_goes_25 rfl
theorem u184_25 : ev d 184 25 lo st h = evI d 184 25 26 lo st h .iaload := ev_u n184_25 rfl
theorem n184_26 : mx_ins 184 26 = some ((.bipush 24), 2) := mx_ins_of mi184 dX20_goes_26 rfl
theorem u184_26 : ev d 184 26 lo st h = ev d 184 28 lo (.int 24 :: st) h := (ev_s (f := mx_push (.int 24)) n184_26 rfl rfl).trans es_push
theorem n184_28 : mx_ins 184 28 = some ((.if_icmp .ge 13), 3) := mx_ins_of mi184 dX20_goes_28 rfl
theorem u184_28 : ev d 184 28 lo st h = evK .ge d 184 41 31 lo st h := ev_ic n184_28 rfl rfl
theorem n184_31 : mx_ins 184 31 = some ((.aload_n 0), 1) := mx_ins_of mi184 dX20_goes_31 rfl
theorem u184_31 : ev d 184 31 lo st h = evS (mx_ldA 0) d 184 32 lo st h := ev_s n184_31 rfl rfl
theorem n184_32 : mx_ins 184 32 = some ((.invokevirtual 276), 3) := mx_ins_of mi184 dX20_goes_32 rfl
theorem u184_32 : ev d 184 32 lo st h = evIn d 184 32 35 20 276 1 false lo st h := ev_inv n184_32 rfl rfl ow184 ia20_276
theorem n184_35 : mx_ins 184 35 = some ((.iinc 2 1), 3) := mx_ins_of mi184 dX20_goes_35 rfl
theorem u184_35 : ev d 184 35 lo st h = evS (mx_inc 2 (1)) d 184 38 lo st h := ev_s n184_35 rfl rfl
theorem n184_38 : mx_ins 184 38 = some ((.goto (-24)), 3) := mx_ins_of mi184 dX20_goes_38 rfl
theorem u184_38 : ev d 184 38 lo st h = ev d 184 14 lo st h := ev_goto n184_38 rfl
theorem n184_41 : mx_ins 184 41 = some ((.aload_n 0), 1) := mx_ins_of mi184 dX20_goes_41 rfl
theorem u184_41 : ev d 184 41 lo st h = evS (mx_ldA 0) d 184 42 lo st h := ev_s n184_41 rfl rfl
theorem n184_42 : mx_ins 184 42 = some ((.getfield 7), 3) := mx_ins_of mi184 dX20_goes_42 rfl
theorem u184_42 : ev d 184 42 lo st h = evS (mx_gf 20 7) d 184 45 lo st h := ev_s n184_42 rfl rfl
theorem n184_45 : mx_ins 184 45 = some ((.bipush 6), 2) := mx_ins_of mi184 dX20_goes_45 rfl
theorem u184_45 : ev d 184 45 lo st h = ev d 184 47 lo (.int 6 :: st) h := (ev_s (f := mx_push (.int 6)) n184_45 rfl rfl).trans es_push
theorem n184_47 : mx_ins 184 47 = some (.iaload, 1) := mx_ins_of mi184 dX20_goes_47 rfl
theorem u184_47 : ev d 184 47 lo st h = evI d 184 47 48 lo st h .iaload := ev_u n184_47 rfl
theorem n184_48 : mx_ins 184 48 = some (.ireturn, 1) := mx_ins_of mi184 dX20_goes_48 rfl
theorem u184_48 : ev d 184 48 lo st h = evI d 184 48 49 lo st h .ireturn := ev_u n184_48 rfl
theorem mi185 : mx_mi 185 = some (yX20_weekGoes, cX20_weekGoes, 4, (none : Option FieldType), 20, 1, []) := rfl
theorem ow185 : mx_own 185 = 20 := mx_mi_own mi185
theorem mm185 : mx_max 185 = 4 := mx_mi_max mi185
theorem rt185 : mx_ret 185 = (none : Option FieldType) := mx_mi_ret mi185
theorem hn185 : mx_hnd 185 = [] := mx_mi_hnd mi185
theorem n185_0 : mx_ins 185 0 = some ((.aload_n 0), 1) := mx_ins_of mi185 dX20_weekGoes_0 rfl
theorem u185_0 : ev d 185 0 lo st h = evS (mx_ldA 0) d 185 1 lo st h := ev_s n185_0 rfl rfl
theorem n185_1 : mx_ins 185 1 = some ((.bipush 6), 2) := mx_ins_of mi185 dX20_weekGoes_1 rfl
theorem u185_1 : ev d 185 1 lo st h = ev d 185 3 lo (.int 6 :: st) h := (ev_s (f := mx_push (.int 6)) n185_1 rfl rfl).trans es_push
theorem n185_3 : mx_ins 185 3 = some ((.invokevirtual 255), 3) := mx_ins_of mi185 dX20_weekGoes_3 rfl
theorem u185_3 : ev d 185 3 lo st h = evIn d 185 3 6 20 255 2 false lo st h := ev_inv n185_3 rfl rfl ow185 ia20_255
theorem n185_6 : mx_ins 185 6 = some ((.istore_n 1), 1) := mx_ins_of mi185 dX20_weekGoes_6 rfl
theorem u185_6 : ev d 185 6 lo st h = evS (mx_stI 1) d 185 7 lo st h := ev_s n185_6 rfl rfl
theorem n185_7 : mx_ins 185 7 = some ((.aload_n 0), 1) := mx_ins_of mi185 dX20_weekGoes_7 rfl
theorem u185_7 : ev d 185 7 lo st h = evS (mx_ldA 0) d 185 8 lo st h := ev_s n185_7 rfl rfl
theorem n185_8 : mx_ins 185 8 = some ((.getfield 7), 3) := mx_ins_of mi185 dX20_weekGoes_8 rfl
theorem u185_8 : ev d 185 8 lo st h = evS (mx_gf 20 7) d 185 11 lo st h := ev_s n185_8 rfl rfl
theorem n185_11 : mx_ins 185 11 = some ((.aload_n 0), 1) := mx_ins_of mi185 dX20_weekGoes_11 rfl
theorem u185_11 : ev d 185 11 lo st h = evS (mx_ldA 0) d 185 12 lo st h := ev_s n185_11 rfl rfl
theorem n185_12 : mx_ins 185 12 = some ((.getfield 104), 3) := mx_ins_of mi185 dX20_weekGoes_12 rfl
theorem u185_12 : ev d 185 12 lo st h = evS (mx_gf 20 104) d 185 15 lo st h := ev_s n185_12 rfl rfl
theorem n185_15 : mx_ins 185 15 = some ((.bipush 6), 2) := mx_ins_of mi185 dX20_weekGoes_15 rfl
theorem u185_15 : ev d 185 15 lo st h = ev d 185 17 lo (.int 6 :: st) h := (ev_s (f := mx_push (.int 6)) n185_15 rfl rfl).trans es_push
theorem n185_17 : mx_ins 185 17 = some (.iadd, 1) := mx_ins_of mi185 dX20_weekGoes_17 rfl
theorem u185_17 : ev d 185 17 lo st h = evI d 185 17 18 lo st h .iadd := ev_u n185_17 rfl
theorem n185_18 : mx_ins 185 18 = some (.dup2, 1) := mx_ins_of mi185 dX20_weekGoes_18 rfl
theorem u185_18 : ev d 185 18 lo st h = evI d 185 18 19 lo st h .dup2 := ev_u n185_18 rfl
theorem n185_19 : mx_ins 185 19 = some (.iaload, 1) := mx_ins_of mi185 dX20_weekGoes_19 rfl
theorem u185_19 : ev d 185 19 lo st h = evI d 185 19 20 lo st h .iaload := ev_u n185_19 rfl
theorem n185_20 : mx_ins 185 20 = some ((.iconst 1), 1) := mx_ins_of mi185 dX20_weekGoes_20 rfl
theorem u185_20 : ev d 185 20 lo st h = ev d 185 21 lo (.int 1 :: st) h := (ev_s (f := mx_push (.int 1)) n185_20 rfl rfl).trans es_push
theorem n185_21 : mx_ins 185 21 = some (.iadd, 1) := mx_ins_of mi185 dX20_weekGoes_21 rfl
theorem u185_21 : ev d 185 21 lo st h = evI d 185 21 22 lo st h .iadd := ev_u n185_21 rfl
theorem n185_22 : mx_ins 185 22 = some (.iastore, 1) := mx_ins_of mi185 dX20_weekGoes_22 rfl
theorem u185_22 : ev d 185 22 lo st h = evI d 185 22 23 lo st h .iastore := ev_u n185_22 rfl
theorem n185_23 : mx_ins 185 23 = some ((.aload_n 0), 1) := mx_ins_of mi185 dX20_weekGoes_23 rfl
theorem u185_23 : ev d 185 23 lo st h = evS (mx_ldA 0) d 185 24 lo st h := ev_s n185_23 rfl rfl
theorem n185_24 : mx_ins 185 24 = some ((.invokevirtual 263), 3) := mx_ins_of mi185 dX20_weekGoes_24 rfl
theorem u185_24 : ev d 185 24 lo st h = evIn d 185 24 27 20 263 1 false lo st h := ev_inv n185_24 rfl rfl ow185 ia20_263
theorem n185_27 : mx_ins 185 27 = some ((.ifCond .ne 4), 3) := mx_ins_of mi185 dX20_weekGoes_27 rfl
theorem u185_27 : ev d 185 27 lo st h = evJ .ne d 185 31 30 lo st h := ev_if n185_27 rfl rfl
theorem n185_30 : mx_ins 185 30 = some (.return_, 1) := mx_ins_of mi185 dX20_weekGoes_30 rfl
theorem u185_30 : ev d 185 30 lo st h = evI d 185 30 31 lo st h .return_ := ev_u n185_30 rfl
theorem n185_31 : mx_ins 185 31 = some ((.aload_n 0), 1) := mx_ins_of mi185 dX20_weekGoes_31 rfl
theorem u185_31 : ev d 185 31 lo st h = evS (mx_ldA 0) d 185 32 lo st h := ev_s n185_31 rfl rfl
theorem n185_32 : mx_ins 185 32 = some ((.iload_n 1), 1) := mx_ins_of mi185 dX20_weekGoes_32 rfl
theorem u185_32 : ev d 185 32 lo st h = evS (mx_ldI 1) d 185 33 lo st h := ev_s n185_32 rfl rfl
theorem n185_33 : mx_ins 185 33 = some ((.aload_n 0), 1) := mx_ins_of mi185 dX20_weekGoes_33 rfl
theorem u185_33 : ev d 185 33 lo st h = evS (mx_ldA 0) d 185 34 lo st h := ev_s n185_33 rfl rfl
theorem n185_34 : mx_ins 185 34 = some ((.iconst 5), 1) := mx_ins_of mi185 dX20_weekGoes_34 rfl
theorem u185_34 : ev d 185 34 lo st h = ev d 185 35 lo (.int 5 :: st) h := (ev_s (f := mx_push (.int 5)) n185_34 rfl rfl).trans es_push
theorem n185_35 : mx_ins 185 35 = some ((.invokevirtual 255), 3) := mx_ins_of mi185 dX20_weekGoes_35 rfl
theorem u185_35 : ev d 185 35 lo st h = evIn d 185 35 38 20 255 2 false lo st h := ev_inv n185_35 rfl rfl ow185 ia20_255
theorem n185_38 : mx_ins 185 38 = some ((.invokevirtual 270), 3) := mx_ins_of mi185 dX20_weekGoes_38 rfl
theorem u185_38 : ev d 185 38 lo st h = evIn d 185 38 41 20 270 3 false lo st h := ev_inv n185_38 rfl rfl ow185 ia20_270
theorem n185_41 : mx_ins 185 41 = some ((.istore_n 2), 1) := mx_ins_of mi185 dX20_weekGoes_41 rfl
theorem u185_41 : ev d 185 41 lo st h = evS (mx_stI 2) d 185 42 lo st h := ev_s n185_41 rfl rfl
theorem n185_42 : mx_ins 185 42 = some ((.aload_n 0), 1) := mx_ins_of mi185 dX20_weekGoes_42 rfl
theorem u185_42 : ev d 185 42 lo st h = evS (mx_ldA 0) d 185 43 lo st h := ev_s n185_42 rfl rfl
theorem n185_43 : mx_ins 185 43 = some ((.iload_n 1), 1) := mx_ins_of mi185 dX20_weekGoes_43 rfl
theorem u185_43 : ev d 185 43 lo st h = evS (mx_ldI 1) d 185 44 lo st h := ev_s n185_43 rfl rfl
theorem n185_44 : mx_ins 185 44 = some ((.aload_n 0), 1) := mx_ins_of mi185 dX20_weekGoes_44 rfl
theorem u185_44 : ev d 185 44 lo st h = evS (mx_ldA 0) d 185 45 lo st h := ev_s n185_44 rfl rfl
theorem n185_45 : mx_ins 185 45 = some ((.iconst 5), 1) := mx_ins_of mi185 dX20_weekGoes_45 rfl
theorem u185_45 : ev d 185 45 lo st h = ev d 185 46 lo (.int 5 :: st) h := (ev_s (f := mx_push (.int 5)) n185_45 rfl rfl).trans es_push
theorem n185_46 : mx_ins 185 46 = some ((.invokevirtual 255), 3) := mx_ins_of mi185 dX20_weekGoes_46 rfl
theorem u185_46 : ev d 185 46 lo st h = evIn d 185 46 49 20 255 2 false lo st h := ev_inv n185_46 rfl rfl ow185 ia20_255
theorem n185_49 : mx_ins 185 49 = some ((.invokevirtual 273), 3) := mx_ins_of mi185 dX20_weekGoes_49 rfl
theorem u185_49 : ev d 185 49 lo st h = evIn d 185 49 52 20 273 3 false lo st h := ev_inv n185_49 rfl rfl ow185 ia20_273
theorem n185_52 : mx_ins 185 52 = some ((.istore_n 3), 1) := mx_ins_of mi185 dX20_weekGoes_52 rfl
theorem u185_52 : ev d 185 52 lo st h = evS (mx_stI 3) d 185 53 lo st h := ev_s n185_52 rfl rfl
theorem n185_53 : mx_ins 185 53 = some ((.aload_n 0), 1) := mx_ins_of mi185 dX20_weekGoes_53 rfl
theorem u185_53 : ev d 185 53 lo st h = evS (mx_ldA 0) d 185 54 lo st h := ev_s n185_53 rfl rfl
theorem n185_54 : mx_ins 185 54 = some ((.getfield 7), 3) := mx_ins_of mi185 dX20_weekGoes_54 rfl
theorem u185_54 : ev d 185 54 lo st h = evS (mx_gf 20 7) d 185 57 lo st h := ev_s n185_54 rfl rfl
theorem n185_57 : mx_ins 185 57 = some ((.aload_n 0), 1) := mx_ins_of mi185 dX20_weekGoes_57 rfl
theorem u185_57 : ev d 185 57 lo st h = evS (mx_ldA 0) d 185 58 lo st h := ev_s n185_57 rfl rfl
theorem n185_58 : mx_ins 185 58 = some ((.getfield 104), 3) := mx_ins_of mi185 dX20_weekGoes_58 rfl
theorem u185_58 : ev d 185 58 lo st h = evS (mx_gf 20 104) d 185 61 lo st h := ev_s n185_58 rfl rfl
theorem n185_61 : mx_ins 185 61 = some ((.iconst 1), 1) := mx_ins_of mi185 dX20_weekGoes_61 rfl
theorem u185_61 : ev d 185 61 lo st h = ev d 185 62 lo (.int 1 :: st) h := (ev_s (f := mx_push (.int 1)) n185_61 rfl rfl).trans es_push
theorem n185_62 : mx_ins 185 62 = some (.iadd, 1) := mx_ins_of mi185 dX20_weekGoes_62 rfl
theorem u185_62 : ev d 185 62 lo st h = evI d 185 62 63 lo st h .iadd := ev_u n185_62 rfl
theorem n185_63 : mx_ins 185 63 = some ((.aload_n 0), 1) := mx_ins_of mi185 dX20_weekGoes_63 rfl
theorem u185_63 : ev d 185 63 lo st h = evS (mx_ldA 0) d 185 64 lo st h := ev_s n185_63 rfl rfl
theorem n185_64 : mx_ins 185 64 = some ((.iconst 1), 1) := mx_ins_of mi185 dX20_weekGoes_64 rfl
theorem u185_64 : ev d 185 64 lo st h = ev d 185 65 lo (.int 1 :: st) h := (ev_s (f := mx_push (.int 1)) n185_64 rfl rfl).trans es_push
theorem n185_65 : mx_ins 185 65 = some ((.invokevirtual 255), 3) := mx_ins_of mi185 dX20_weekGoes_65 rfl
theorem u185_65 : ev d 185 65 lo st h = evIn d 185 65 68 20 255 2 false lo st h := ev_inv n185_65 rfl rfl ow185 ia20_255
theorem n185_68 : mx_ins 185 68 = some ((.iload_n 2), 1) := mx_ins_of mi185 dX20_weekGoes_68 rfl
theorem u185_68 : ev d 185 68 lo st h = evS (mx_ldI 2) d 185 69 lo st h := ev_s n185_68 rfl rfl
theorem n185_69 : mx_ins 185 69 = some ((.if_icmp .ge 7), 3) := mx_ins_of mi185 dX20_weekGoes_69 rfl
theorem u185_69 : ev d 185 69 lo st h = evK .ge d 185 76 72 lo st h := ev_ic n185_69 rfl rfl
theorem n185_72 : mx_ins 185 72 = some ((.iconst 0), 1) := mx_ins_of mi185 dX20_weekGoes_72 rfl
theorem u185_72 : ev d 185 72 lo st h = ev d 185 73 lo (.int 0 :: st) h := (ev_s (f := mx_push (.int 0)) n185_72 rfl rfl).trans es_push
theorem n185_73 : mx_ins 185 73 = some ((.goto 10), 3) := mx_ins_of mi185 dX20_weekGoes_73 rfl
theorem u185_73 : ev d 185 73 lo st h = ev d 185 83 lo st h := ev_goto n185_73 rfl
theorem n185_76 : mx_ins 185 76 = some ((.aload_n 0), 1) := mx_ins_of mi185 dX20_weekGoes_76 rfl
theorem u185_76 : ev d 185 76 lo st h = evS (mx_ldA 0) d 185 77 lo st h := ev_s n185_76 rfl rfl
theorem n185_77 : mx_ins 185 77 = some ((.iconst 1), 1) := mx_ins_of mi185 dX20_weekGoes_77 rfl
theorem u185_77 : ev d 185 77 lo st h = ev d 185 78 lo (.int 1 :: st) h := (ev_s (f := mx_push (.int 1)) n185_77 rfl rfl).trans es_push
theorem n185_78 : mx_ins 185 78 = some ((.invokevirtual 255), 3) := mx_ins_of mi185 dX20_weekGoes_78 rfl
theorem u185_78 : ev d 185 78 lo st h = evIn d 185 78 81 20 255 2 false lo st h := ev_inv n185_78 rfl rfl ow185 ia20_255
theorem n185_81 : mx_ins 185 81 = some ((.iload_n 2), 1) := mx_ins_of mi185 dX20_weekGoes_81 rfl
theorem u185_81 : ev d 185 81 lo st h = evS (mx_ldI 2) d 185 82 lo st h := ev_s n185_81 rfl rfl
theorem n185_82 : mx_ins 185 82 = some (.isub, 1) := mx_ins_of mi185 dX20_weekGoes_82 rfl
theorem u185_82 : ev d 185 82 lo st h = evI d 185 82 83 lo st h .isub := ev_u n185_82 rfl
theorem n185_83 : mx_ins 185 83 = some (.iastore, 1) := mx_ins_of mi185 dX20_weekGoes_83 rfl
theorem u185_83 : ev d 185 83 lo st h = evI d 185 83 84 lo st h .iastore := ev_u n185_83 rfl
theorem n185_84 : mx_ins 185 84 = some ((.aload_n 0), 1) := mx_ins_of mi185 dX20_weekGoes_84 rfl
theorem u185_84 : ev d 185 84 lo st h = evS (mx_ldA 0) d 185 85 lo st h := ev_s n185_84 rfl rfl
theorem n185_85 : mx_ins 185 85 = some ((.getfield 7), 3) := mx_ins_of mi185 dX20_weekGoes_85 rfl
theorem u185_85 : ev d 185 85 lo st h = evS (mx_gf 20 7) d 185 88 lo st h := ev_s n185_85 rfl rfl
theorem n185_88 : mx_ins 185 88 = some ((.aload_n 0), 1) := mx_ins_of mi185 dX20_weekGoes_88 rfl
theorem u185_88 : ev d 185 88 lo st h = evS (mx_ldA 0) d 185 89 lo st h := ev_s n185_88 rfl rfl
theorem n185_89 : mx_ins 185 89 = some ((.getfield 104), 3) := mx_ins_of mi185 dX20_weekGoes_89 rfl
theorem u185_89 : ev d 185 89 lo st h = evS (mx_gf 20 104) d 185 92 lo st h := ev_s n185_89 rfl rfl
theorem n185_92 : mx_ins 185 92 = some ((.iconst 2), 1) := mx_ins_of mi185 dX20_weekGoes_92 rfl
theorem u185_92 : ev d 185 92 lo st h = ev d 185 93 lo (.int 2 :: st) h := (ev_s (f := mx_push (.int 2)) n185_92 rfl rfl).trans es_push
theorem n185_93 : mx_ins 185 93 = some (.iadd, 1) := mx_ins_of mi185 dX20_weekGoes_93 rfl
theorem u185_93 : ev d 185 93 lo st h = evI d 185 93 94 lo st h .iadd := ev_u n185_93 rfl
theorem n185_94 : mx_ins 185 94 = some ((.aload_n 0), 1) := mx_ins_of mi185 dX20_weekGoes_94 rfl
theorem u185_94 : ev d 185 94 lo st h = evS (mx_ldA 0) d 185 95 lo st h := ev_s n185_94 rfl rfl
theorem n185_95 : mx_ins 185 95 = some ((.iconst 2), 1) := mx_ins_of mi185 dX20_weekGoes_95 rfl
theorem u185_95 : ev d 185 95 lo st h = ev d 185 96 lo (.int 2 :: st) h := (ev_s (f := mx_push (.int 2)) n185_95 rfl rfl).trans es_push
theorem n185_96 : mx_ins 185 96 = some ((.invokevirtual 255), 3) := mx_ins_of mi185 dX20_weekGoes_96 rfl
theorem u185_96 : ev d 185 96 lo st h = evIn d 185 96 99 20 255 2 false lo st h := ev_inv n185_96 rfl rfl ow185 ia20_255
theorem n185_99 : mx_ins 185 99 = some ((.iload_n 3), 1) := mx_ins_of mi185 dX20_weekGoes_99 rfl
theorem u185_99 : ev d 185 99 lo st h = evS (mx_ldI 3) d 185 100 lo st h := ev_s n185_99 rfl rfl
theorem n185_100 : mx_ins 185 100 = some ((.if_icmp .ge 7), 3) := mx_ins_of mi185 dX20_weekGoes_100 rfl
theorem u185_100 : ev d 185 100 lo st h = evK .ge d 185 107 103 lo st h := ev_ic n185_100 rfl rfl
theorem n185_103 : mx_ins 185 103 = some ((.iconst 0), 1) := mx_ins_of mi185 dX20_weekGoes_103 rfl
theorem u185_103 : ev d 185 103 lo st h = ev d 185 104 lo (.int 0 :: st) h := (ev_s (f := mx_push (.int 0)) n185_103 rfl rfl).trans es_push
theorem n185_104 : mx_ins 185 104 = some ((.goto 10), 3) := mx_ins_of mi185 dX20_weekGoes_104 rfl
theorem u185_104 : ev d 185 104 lo st h = ev d 185 114 lo st h := ev_goto n185_104 rfl
theorem n185_107 : mx_ins 185 107 = some ((.aload_n 0), 1) := mx_ins_of mi185 dX20_weekGoes_107 rfl
theorem u185_107 : ev d 185 107 lo st h = evS (mx_ldA 0) d 185 108 lo st h := ev_s n185_107 rfl rfl
theorem n185_108 : mx_ins 185 108 = some ((.iconst 2), 1) := mx_ins_of mi185 dX20_weekGoes_108 rfl
theorem u185_108 : ev d 185 108 lo st h = ev d 185 109 lo (.int 2 :: st) h := (ev_s (f := mx_push (.int 2)) n185_108 rfl rfl).trans es_push
theorem n185_109 : mx_ins 185 109 = some ((.invokevirtual 255), 3) := mx_ins_of mi185 dX20_weekGoes_109 rfl
theorem u185_109 : ev d 185 109 lo st h = evIn d 185 109 112 20 255 2 false lo st h := ev_inv n185_109 rfl rfl ow185 ia20_255
theorem n185_112 : mx_ins 185 112 = some ((.iload_n 3), 1) := mx_ins_of mi185 dX20_weekGoes_112 rfl
theorem u185_112 : ev d 185 112 lo st h = evS (mx_ldI 3) d 185 113 lo st h := ev_s n185_112 rfl rfl
theorem n185_113 : mx_ins 185 113 = some (.isub, 1) := mx_ins_of mi185 dX20_weekGoes_113 rfl
theorem u185_113 : ev d 185 113 lo st h = evI d 185 113 114 lo st h .isub := ev_u n185_113 rfl
theorem n185_114 : mx_ins 185 114 = some (.iastore, 1) := mx_ins_of mi185 dX20_weekGoes_114 rfl
theorem u185_114 : ev d 185 114 lo st h = evI d 185 114 115 lo st h .iastore := ev_u n185_114 rfl
theorem n185_115 : mx_ins 185 115 = some ((.aload_n 0), 1) := mx_ins_of mi185 dX20_weekGoes_115 rfl
theorem u185_115 : ev d 185 115 lo st h = evS (mx_ldA 0) d 185 116 lo st h := ev_s n185_115 rfl rfl
theorem n185_116 : mx_ins 185 116 = some ((.iload_n 1), 1) := mx_ins_of mi185 dX20_weekGoes_116 rfl
theorem u185_116 : ev d 185 116 lo st h = evS (mx_ldI 1) d 185 117 lo st h := ev_s n185_116 rfl rfl
theorem n185_117 : mx_ins 185 117 = some ((.aload_n 0), 1) := mx_ins_of mi185 dX20_weekGoes_117 rfl
theorem u185_117 : ev d 185 117 lo st h = evS (mx_ldA 0) d 185 118 lo st h := ev_s n185_117 rfl rfl
theorem n185_118 : mx_ins 185 118 = some ((.iconst 5), 1) := mx_ins_of mi185 dX20_weekGoes_118 rfl
theorem u185_118 : ev d 185 118 lo st h = ev d 185 119 lo (.int 5 :: st) h := (ev_s (f := mx_push (.int 5)) n185_118 rfl rfl).trans es_push
theorem n185_119 : mx_ins 185 119 = some ((.invokevirtual 255), 3) := mx_ins_of mi185 dX20_weekGoes_119 rfl
theorem u185_119 : ev d 185 119 lo st h = evIn d 185 119 122 20 255 2 false lo st h := ev_inv n185_119 rfl rfl ow185 ia20_255
theorem n185_122 : mx_ins 185 122 = some ((.invokevirtual 249), 3) := mx_ins_of mi185 dX20_weekGoes_122 rfl
theorem u185_122 : ev d 185 122 lo st h = evIn d 185 122 125 20 249 3 false lo st h := ev_inv n185_122 rfl rfl ow185 ia20_249
theorem n185_125 : mx_ins 185 125 = some ((.iconst 4), 1) := mx_ins_of mi185 dX20_weekGoes_125 rfl
theorem u185_125 : ev d 185 125 lo st h = ev d 185 126 lo (.int 4 :: st) h := (ev_s (f := mx_push (.int 4)) n185_125 rfl rfl).trans es_push
theorem n185_126 : mx_ins 185 126 = some ((.if_icmp .ne 28), 3) := mx_ins_of mi185 dX20_weekGoes_126 rfl
theorem u185_126 : ev d 185 126 lo st h = evK .ne d 185 154 129 lo st h := ev_ic n185_126 rfl rfl
theorem n185_129 : mx_ins 185 129 = some ((.aload_n 0), 1) := mx_ins_of mi185 dX20_weekGoes_129 rfl
theorem u185_129 : ev d 185 129 lo st h = evS (mx_ldA 0) d 185 130 lo st h := ev_s n185_129 rfl rfl
theorem n185_130 : mx_ins 185 130 = some ((.iconst 4), 1) := mx_ins_of mi185 dX20_weekGoes_130 rfl
theorem u185_130 : ev d 185 130 lo st h = ev d 185 131 lo (.int 4 :: st) h := (ev_s (f := mx_push (.int 4)) n185_130 rfl rfl).trans es_push
theorem n185_131 : mx_ins 185 131 = some ((.invokevirtual 255), 3) := mx_ins_of mi185 dX20_weekGoes_131 rfl
theorem u185_131 : ev d 185 131 lo st h = evIn d 185 131 134 20 255 2 false lo st h := ev_inv n185_131 rfl rfl ow185 ia20_255
theorem n185_134 : mx_ins 185 134 = some ((.bipush 9), 2) := mx_ins_of mi185 dX20_weekGoes_134 rfl
theorem u185_134 : ev d 185 134 lo st h = ev d 185 136 lo (.int 9 :: st) h := (ev_s (f := mx_push (.int 9)) n185_134 rfl rfl).trans es_push
theorem n185_136 : mx_ins 185 136 = some ((.if_icmp .ge 18), 3) := mx_ins_of mi185 dX20_weekGoes_136 rfl
theorem u185_136 : ev d 185 136 lo st h = evK .ge d 185 154 139 lo st h := ev_ic n185_136 rfl rfl
theorem n185_139 : mx_ins 185 139 = some ((.aload_n 0), 1) := mx_ins_of mi185 dX20_weekGoes_139 rfl
theorem u185_139 : ev d 185 139 lo st h = evS (mx_ldA 0) d 185 140 lo st h := ev_s n185_139 rfl rfl
theorem n185_140 : mx_ins 185 140 = some ((.getfield 7), 3) := mx_ins_of mi185 dX20_weekGoes_140 rfl
theorem u185_140 : ev d 185 140 lo st h = evS (mx_gf 20 7) d 185 143 lo st h := ev_s n185_140 rfl rfl
theorem n185_143 : mx_ins 185 143 = some ((.aload_n 0), 1) := mx_ins_of mi185 dX20_weekGoes_143 rfl
theorem u185_143 : ev d 185 143 lo st h = evS (mx_ldA 0) d 185 144 lo st h := ev_s n185_143 rfl rfl
theorem n185_144 : mx_ins 185 144 = some ((.getfield 104), 3) := mx_ins_of mi185 dX20_weekGoes_144 rfl
theorem u185_144 : ev d 185 144 lo st h = evS (mx_gf 20 104) d 185 147 lo st h := ev_s n185_144 rfl rfl
theorem n185_147 : mx_ins 185 147 = some ((.iconst 4), 1) := mx_ins_of mi185 dX20_weekGoes_147 rfl
theorem u185_147 : ev d 185 147 lo st h = ev d 185 148 lo (.int 4 :: st) h := (ev_s (f := mx_push (.int 4)) n185_147 rfl rfl).trans es_push
theorem n185_148 : mx_ins 185 148 = some (.iadd, 1) := mx_ins_of mi185 dX20_weekGoes_148 rfl
theorem u185_148 : ev d 185 148 lo st h = evI d 185 148 149 lo st h .iadd := ev_u n185_148 rfl
theorem n185_149 : mx_ins 185 149 = some (.dup2, 1) := mx_ins_of mi185 dX20_weekGoes_149 rfl
theorem u185_149 : ev d 185 149 lo st h = evI d 185 149 150 lo st h .dup2 := ev_u n185_149 rfl
theorem n185_150 : mx_ins 185 150 = some (.iaload, 1) := mx_ins_of mi185 dX20_weekGoes_150 rfl
theorem u185_150 : ev d 185 150 lo st h = evI d 185 150 151 lo st h .iaload := ev_u n185_150 rfl
theorem n185_151 : mx_ins 185 151 = some ((.iconst 1), 1) := mx_ins_of mi185 dX20_weekGoes_151 rfl
theorem u185_151 : ev d 185 151 lo st h = ev d 185 152 lo (.int 1 :: st) h := (ev_s (f := mx_push (.int 1)) n185_151 rfl rfl).trans es_push
theorem n185_152 : mx_ins 185 152 = some (.iadd, 1) := mx_ins_of mi185 dX20_weekGoes_152 rfl
theorem u185_152 : ev d 185 152 lo st h = evI d 185 152 153 lo st h .iadd := ev_u n185_152 rfl
theorem n185_153 : mx_ins 185 153 = some (.iastore, 1) := mx_ins_of mi185 dX20_weekGoes_153 rfl
theorem u185_153 : ev d 185 153 lo st h = evI d 185 153 154 lo st h .iastore := ev_u n185_153 rfl
theorem n185_154 : mx_ins 185 154 = some (.return_, 1) := mx_ins_of mi185 dX20_weekGoes_154 rfl
theorem u185_154 : ev d 185 154 lo st h = evI d 185 154 155 lo st h .return_ := ev_u n185_154 rfl
theorem mi186 : mx_mi 186 = some (yX20_begin, cX20_begin, 3, (Option.some Jvm.ClassFile.FieldType.int), 20, 2, []) := rfl
theorem ow186 : mx_own 186 = 20 := mx_mi_own mi186
theorem mm186 : mx_max 186 = 3 := mx_mi_max mi186
theorem rt186 : mx_ret 186 = (Option.some Jvm.ClassFile.FieldType.int) := mx_mi_ret mi186
theorem hn186 : mx_hnd 186 = [] := mx_mi_hnd mi186
theorem n186_0 : mx_ins 186 0 = some ((.iload_n 1), 1) := mx_ins_of mi186 dX20_begin_0 rfl
theorem u186_0 : ev d 186 0 lo st h = evS (mx_ldI 1) d 186 1 lo st h := ev_s n186_0 rfl rfl
theorem n186_1 : mx_ins 186 1 = some ((.iconst 0), 1) := mx_ins_of mi186 dX20_begin_1 rfl
theorem u186_1 : ev d 186 1 lo st h = ev d 186 2 lo (.int 0 :: st) h := (ev_s (f := mx_push (.int 0)) n186_1 rfl rfl).trans es_push
theorem n186_2 : mx_ins 186 2 = some ((.bipush 24), 2) := mx_ins_of mi186 dX20_begin_2 rfl
theorem u186_2 : ev d 186 2 lo st h = ev d 186 4 lo (.int 24 :: st) h := (ev_s (f := mx_push (.int 24)) n186_2 rfl rfl).trans es_push
theorem n186_4 : mx_ins 186 4 = some ((.invokestatic 100), 3) := mx_ins_of mi186 dX20_begin_4 rfl
theorem u186_4 : ev d 186 4 lo st h = evIn d 186 4 7 20 100 3 true lo st h := ev_inv n186_4 rfl rfl ow186 ia20_100
theorem n186_7 : mx_ins 186 7 = some ((.ifCond .ne 5), 3) := mx_ins_of mi186 dX20_begin_7 rfl
theorem u186_7 : ev d 186 7 lo st h = evJ .ne d 186 12 10 lo st h := ev_if n186_7 rfl rfl
theorem n186_10 : mx_ins 186 10 = some ((.iconst (-1)), 1) := mx_ins_of mi186 dX20_begin_10 rfl
theorem u186_10 : ev d 186 10 lo st h = ev d 186 11 lo (.int (-1) :: st) h := (ev_s (f := mx_push (.int (-1))) n186_10 rfl rfl).trans es_push
theorem n186_11 : mx_ins 186 11 = some (.ireturn, 1) := mx_ins_of mi186 dX20_begin_11 rfl
theorem u186_11 : ev d 186 11 lo st h = evI d 186 11 12 lo st h .ireturn := ev_u n186_11 rfl
theorem n186_12 : mx_ins 186 12 = some ((.aload_n 0), 1) := mx_ins_of mi186 dX20_begin_12 rfl
theorem u186_12 : ev d 186 12 lo st h = evS (mx_ldA 0) d 186 13 lo st h := ev_s n186_12 rfl rfl
theorem n186_13 : mx_ins 186 13 = some ((.getfield 7), 3) := mx_ins_of mi186 dX20_begin_13 rfl
theorem u186_13 : ev d 186 13 lo st h = evS (mx_gf 20 7) d 186 16 lo st h := ev_s n186_13 rfl rfl
theorem n186_16 : mx_ins 186 16 = some ((.bipush 6), 2) := mx_ins_of mi186 dX20_begin_16 rfl
theorem u186_16 : ev d 186 16 lo st h = ev d 186 18 lo (.int 6 :: st) h := (ev_s (f := mx_push (.int 6)) n186_16 rfl rfl).trans es_push
theorem n186_18 : mx_ins 186 18 = some (.iaload, 1) := mx_ins_of mi186 dX20_begin_18 rfl
theorem u186_18 : ev d 186 18 lo st h = evI d 186 18 19 lo st h .iaload := ev_u n186_18 rfl
theorem n186_19 : mx_ins 186 19 = some ((.istore_n 2), 1) := mx_ins_of mi186 dX20_begin_19 rfl
theorem u186_19 : ev d 186 19 lo st h = evS (mx_stI 2) d 186 20 lo st h := ev_s n186_19 rfl rfl
theorem n186_20 : mx_ins 186 20 = some ((.aload_n 0), 1) := mx_ins_of mi186 dX20_begin_20 rfl
theorem u186_20 : ev d 186 20 lo st h = evS (mx_ldA 0) d 186 21 lo st h := ev_s n186_20 rfl rfl
theorem n186_21 : mx_ins 186 21 = some ((.getfield 7), 3) := mx_ins_of mi186 dX20_begin_21 rfl
theorem u186_21 : ev d 186 21 lo st h = evS (mx_gf 20 7) d 186 24 lo st h := ev_s n186_21 rfl rfl
theorem n186_24 : mx_ins 186 24 = some ((.bipush 6), 2) := mx_ins_of mi186 dX20_begin_24 rfl
theorem u186_24 : ev d 186 24 lo st h = ev d 186 26 lo (.int 6 :: st) h := (ev_s (f := mx_push (.int 6)) n186_24 rfl rfl).trans es_push
theorem n186_26 : mx_ins 186 26 = some ((.iload_n 1), 1) := mx_ins_of mi186 dX20_begin_26 rfl
theorem u186_26 : ev d 186 26 lo st h = evS (mx_ldI 1) d 186 27 lo st h := ev_s n186_26 rfl rfl
theorem n186_27 : mx_ins 186 27 = some (.iastore, 1) := mx_ins_of mi186 dX20_begin_27 rfl
theorem u186_27 : ev d 186 27 lo st h = evI d 186 27 28 lo st h .iastore := ev_u n186_27 rfl
theorem n186_28 : mx_ins 186 28 = some ((.iload_n 2), 1) := mx_ins_of mi186 dX20_begin_28 rfl
theorem u186_28 : ev d 186 28 lo st h = evS (mx_ldI 2) d 186 29 lo st h := ev_s n186_28 rfl rfl
theorem n186_29 : mx_ins 186 29 = some (.ireturn, 1) := mx_ins_of mi186 dX20_begin_29 rfl
theorem u186_29 : ev d 186 29 lo st h = evI d 186 29 30 lo st h .ireturn := ev_u n186_29 rfl
theorem mi187 : mx_mi 187 = some (yX20_says, cX20_says, 1, (Option.some Jvm.ClassFile.FieldType.int), 20, 1, []) := rfl
theorem ow187 : mx_own 187 = 20 := mx_mi_own mi187
theorem mm187 : mx_max 187 = 1 := mx_mi_max mi187
theorem rt187 : mx_ret 187 = (Option.some Jvm.ClassFile.FieldType.int) := mx_mi_ret mi187
theorem hn187 : mx_hnd 187 = [] := mx_mi_hnd mi187
theorem n187_0 : mx_ins 187 0 = some ((.aload_n 0), 1) := mx_ins_of mi187 dX20_says_0 rfl
theorem u187_0 : ev d 187 0 lo st h = evS (mx_ldA 0) d 187 1 lo st h := ev_s n187_0 rfl rfl
theorem n187_1 : mx_ins 187 1 = some ((.aload_n 0), 1) := mx_ins_of mi187 dX20_says_1 rfl
theorem u187_1 : ev d 187 1 lo st h = evS (mx_ldA 0) d 187 2 lo st h := ev_s n187_1 rfl rfl
theorem n187_2 : mx_ins 187 2 = some ((.invokevirtual 260), 3) := mx_ins_of mi187 dX20_says_2 rfl
theorem u187_2 : ev d 187 2 lo st h = evIn d 187 2 5 20 260 1 false lo st h := ev_inv n187_2 rfl rfl ow187 ia20_260
theorem n187_5 : mx_ins 187 5 = some ((.invokevirtual 286), 3) := mx_ins_of mi187 dX20_says_5 rfl
theorem u187_5 : ev d 187 5 lo st h = evIn d 187 5 8 20 286 2 false lo st h := ev_inv n187_5 rfl rfl ow187 ia20_286
theorem n187_8 : mx_ins 187 8 = some (.ireturn, 1) := mx_ins_of mi187 dX20_says_8 rfl
theorem u187_8 : ev d 187 8 lo st h = evI d 187 8 9 lo st h .ireturn := ev_u n187_8 rfl
theorem mi188 : mx_mi 188 = some (yX20_clauseBy, cX20_clauseBy, 4, (Option.some Jvm.ClassFile.FieldType.int), 20, 2, []) := rfl
theorem ow188 : mx_own 188 = 20 := mx_mi_own mi188
theorem mm188 : mx_max 188 = 4 := mx_mi_max mi188
theorem rt188 : mx_ret 188 = (Option.some Jvm.ClassFile.FieldType.int) := mx_mi_ret mi188
theorem hn188 : mx_hnd 188 = [] := mx_mi_hnd mi188
theorem n188_0 : mx_ins 188 0 = some ((.aload_n 0), 1) := mx_ins_of mi188 dX20_clauseBy_0 rfl
theorem u188_0 : ev d 188 0 lo st h = evS (mx_ldA 0) d 188 1 lo st h := ev_s n188_0 rfl rfl
theorem n188_1 : mx_ins 188 1 = some ((.bipush 6), 2) := mx_ins_of mi188 dX20_clauseBy_1 rfl
theorem u188_1 : ev d 188 1 lo st h = ev d 188 3 lo (.int 6 :: st) h := (ev_s (f := mx_push (.int 6)) n188_1 rfl rfl).trans es_push
theorem n188_3 : mx_ins 188 3 = some ((.invokevirtual 255), 3) := mx_ins_of mi188 dX20_clauseBy_3 rfl
theorem u188_3 : ev d 188 3 lo st h = evIn d 188 3 6 20 255 2 false lo st h := ev_inv n188_3 rfl rfl ow188 ia20_255
theorem n188_6 : mx_ins 188 6 = some ((.istore_n 2), 1) := mx_ins_of mi188 dX20_clauseBy_6 rfl
theorem u188_6 : ev d 188 6 lo st h = evS (mx_stI 2) d 188 7 lo st h := ev_s n188_6 rfl rfl
theorem n188_7 : mx_ins 188 7 = some ((.aload_n 0), 1) := mx_ins_of mi188 dX20_clauseBy_7 rfl
theorem u188_7 : ev d 188 7 lo st h = evS (mx_ldA 0) d 188 8 lo st h := ev_s n188_7 rfl rfl
theorem n188_8 : mx_ins 188 8 = some ((.getfield 50), 3) := mx_ins_of mi188 dX20_clauseBy_8 rfl
theorem u188_8 : ev d 188 8 lo st h = evS (mx_gf 20 50) d 188 11 lo st h := ev_s n188_8 rfl rfl
theorem n188_11 : mx_ins 188 11 = some ((.iconst 0), 1) := mx_ins_of mi188 dX20_clauseBy_11 rfl
theorem u188_11 : ev d 188 11 lo st h = ev d 188 12 lo (.int 0 :: st) h := (ev_s (f := mx_push (.int 0)) n188_11 rfl rfl).trans es_push
theorem n188_12 : mx_ins 188 12 = some ((.iload_n 2), 1) := mx_ins_of mi188 dX20_clauseBy_12 rfl
theorem u188_12 : ev d 188 12 lo st h = evS (mx_ldI 2) d 188 13 lo st h := ev_s n188_12 rfl rfl
theorem n188_13 : mx_ins 188 13 = some (.iastore, 1) := mx_ins_of mi188 dX20_clauseBy_13 rfl
theorem u188_13 : ev d 188 13 lo st h = evI d 188 13 14 lo st h .iastore := ev_u n188_13 rfl
theorem n188_14 : mx_ins 188 14 = some ((.aload_n 0), 1) := mx_ins_of mi188 dX20_clauseBy_14 rfl
theorem u188_14 : ev d 188 14 lo st h = evS (mx_ldA 0) d 188 15 lo st h := ev_s n188_14 rfl rfl
theorem n188_15 : mx_ins 188 15 = some ((.getfield 50), 3) := mx_ins_of mi188 dX20_clauseBy_15 rfl
theorem u188_15 : ev d 188 15 lo st h = evS (mx_gf 20 50) d 188 18 lo st h := ev_s n188_15 rfl rfl
theorem n188_18 : mx_ins 188 18 = some ((.iconst 1), 1) := mx_ins_of mi188 dX20_clauseBy_18 rfl
theorem u188_18 : ev d 188 18 lo st h = ev d 188 19 lo (.int 1 :: st) h := (ev_s (f := mx_push (.int 1)) n188_18 rfl rfl).trans es_push
theorem n188_19 : mx_ins 188 19 = some ((.iload_n 1), 1) := mx_ins_of mi188 dX20_clauseBy_19 rfl
theorem u188_19 : ev d 188 19 lo st h = evS (mx_ldI 1) d 188 20 lo st h := ev_s n188_19 rfl rfl
theorem n188_20 : mx_ins 188 20 = some ((.aload_n 0), 1) := mx_ins_of mi188 dX20_clauseBy_20 rfl
theorem u188_20 : ev d 188 20 lo st h = evS (mx_ldA 0) d 188 21 lo st h := ev_s n188_20 rfl rfl
theorem n188_21 : mx_ins 188 21 = some ((.invokevirtual 260), 3) := mx_ins_of mi188 dX20_clauseBy_21 rfl
theorem u188_21 : ev d 188 21 lo st h = evIn d 188 21 24 20 260 1 false lo st h := ev_inv n188_21 rfl rfl ow188 ia20_260
theorem n188_24 : mx_ins 188 24 = some ((.invokestatic 279), 3) := mx_ins_of mi188 dX20_clauseBy_24 rfl
theorem u188_24 : ev d 188 24 lo st h = evIn d 188 24 27 20 279 2 true lo st h := ev_inv n188_24 rfl rfl ow188 ia20_279
theorem n188_27 : mx_ins 188 27 = some (.iastore, 1) := mx_ins_of mi188 dX20_clauseBy_27 rfl
theorem u188_27 : ev d 188 27 lo st h = evI d 188 27 28 lo st h .iastore := ev_u n188_27 rfl
theorem n188_28 : mx_ins 188 28 = some ((.aload_n 0), 1) := mx_ins_of mi188 dX20_clauseBy_28 rfl
theorem u188_28 : ev d 188 28 lo st h = evS (mx_ldA 0) d 188 29 lo st h := ev_s n188_28 rfl rfl
theorem n188_29 : mx_ins 188 29 = some ((.getfield 50), 3) := mx_ins_of mi188 dX20_clauseBy_29 rfl
theorem u188_29 : ev d 188 29 lo st h = evS (mx_gf 20 50) d 188 32 lo st h := ev_s n188_29 rfl rfl
theorem n188_32 : mx_ins 188 32 = some ((.iconst 2), 1) := mx_ins_of mi188 dX20_clauseBy_32 rfl
theorem u188_32 : ev d 188 32 lo st h = ev d 188 33 lo (.int 2 :: st) h := (ev_s (f := mx_push (.int 2)) n188_32 rfl rfl).trans es_push
theorem n188_33 : mx_ins 188 33 = some ((.aload_n 0), 1) := mx_ins_of mi188 dX20_clauseBy_33 rfl
theorem u188_33 : ev d 188 33 lo st h = evS (mx_ldA 0) d 188 34 lo st h := ev_s n188_33 rfl rfl
theorem n188_34 : mx_ins 188 34 = some ((.iconst 1), 1) := mx_ins_of mi188 dX20_clauseBy_34 rfl
theorem u188_34 : ev d 188 34 lo st h = ev d 188 35 lo (.int 1 :: st) h := (ev_s (f := mx_push (.int 1)) n188_34 rfl rfl).trans es_push
theorem n188_35 : mx_ins 188 35 = some ((.invokevirtual 255), 3) := mx_ins_of mi188 dX20_clauseBy_35 rfl
theorem u188_35 : ev d 188 35 lo st h = evIn d 188 35 38 20 255 2 false lo st h := ev_inv n188_35 rfl rfl ow188 ia20_255
theorem n188_38 : mx_ins 188 38 = some (.iastore, 1) := mx_ins_of mi188 dX20_clauseBy_38 rfl
theorem u188_38 : ev d 188 38 lo st h = evI d 188 38 39 lo st h .iastore := ev_u n188_38 rfl
theorem n188_39 : mx_ins 188 39 = some ((.aload_n 0), 1) := mx_ins_of mi188 dX20_clauseBy_39 rfl
theorem u188_39 : ev d 188 39 lo st h = evS (mx_ldA 0) d 188 40 lo st h := ev_s n188_39 rfl rfl
theorem n188_40 : mx_ins 188 40 = some ((.getfield 50), 3) := mx_ins_of mi188 dX20_clauseBy_40 rfl
theorem u188_40 : ev d 188 40 lo st h = evS (mx_gf 20 50) d 188 43 lo st h := ev_s n188_40 rfl rfl
theorem n188_43 : mx_ins 188 43 = some ((.iconst 3), 1) := mx_ins_of mi188 dX20_clauseBy_43 rfl
theorem u188_43 : ev d 188 43 lo st h = ev d 188 44 lo (.int 3 :: st) h := (ev_s (f := mx_push (.int 3)) n188_43 rfl rfl).trans es_push
theorem n188_44 : mx_ins 188 44 = some ((.aload_n 0), 1) := mx_ins_of mi188 dX20_clauseBy_44 rfl
theorem u188_44 : ev d 188 44 lo st h = evS (mx_ldA 0) d 188 45 lo st h := ev_s n188_44 rfl rfl
theorem n188_45 : mx_ins 188 45 = some ((.iconst 2), 1) := mx_ins_of mi188 dX20_clauseBy_45 rfl
theorem u188_45 : ev d 188 45 lo st h = ev d 188 46 lo (.int 2 :: st) h := (ev_s (f := mx_push (.int 2)) n188_45 rfl rfl).trans es_push
theorem n188_46 : mx_ins 188 46 = some ((.invokevirtual 255), 3) := mx_ins_of mi188 dX20_clauseBy_46 rfl
theorem u188_46 : ev d 188 46 lo st h = evIn d 188 46 49 20 255 2 false lo st h := ev_inv n188_46 rfl rfl ow188 ia20_255
theorem n188_49 : mx_ins 188 49 = some (.iastore, 1) := mx_ins_of mi188 dX20_clauseBy_49 rfl
theorem u188_49 : ev d 188 49 lo st h = evI d 188 49 50 lo st h .iastore := ev_u n188_49 rfl
theorem n188_50 : mx_ins 188 50 = some ((.aload_n 0), 1) := mx_ins_of mi188 dX20_clauseBy_50 rfl
theorem u188_50 : ev d 188 50 lo st h = evS (mx_ldA 0) d 188 51 lo st h := ev_s n188_50 rfl rfl
theorem n188_51 : mx_ins 188 51 = some ((.getfield 50), 3) := mx_ins_of mi188 dX20_clauseBy_51 rfl
theorem u188_51 : ev d 188 51 lo st h = evS (mx_gf 20 50) d 188 54 lo st h := ev_s n188_51 rfl rfl
theorem n188_54 : mx_ins 188 54 = some ((.iconst 4), 1) := mx_ins_of mi188 dX20_clauseBy_54 rfl
theorem u188_54 : ev d 188 54 lo st h = ev d 188 55 lo (.int 4 :: st) h := (ev_s (f := mx_push (.int 4)) n188_54 rfl rfl).trans es_push
theorem n188_55 : mx_ins 188 55 = some ((.aload_n 0), 1) := mx_ins_of mi188 dX20_clauseBy_55 rfl
theorem u188_55 : ev d 188 55 lo st h = evS (mx_ldA 0) d 188 56 lo st h := ev_s n188_55 rfl rfl
theorem n188_56 : mx_ins 188 56 = some ((.iconst 4), 1) := mx_ins_of mi188 dX20_clauseBy_56 rfl
theorem u188_56 : ev d 188 56 lo st h = ev d 188 57 lo (.int 4 :: st) h := (ev_s (f := mx_push (.int 4)) n188_56 rfl rfl).trans es_push
theorem n188_57 : mx_ins 188 57 = some ((.invokevirtual 255), 3) := mx_ins_of mi188 dX20_clauseBy_57 rfl
theorem u188_57 : ev d 188 57 lo st h = evIn d 188 57 60 20 255 2 false lo st h := ev_inv n188_57 rfl rfl ow188 ia20_255
theorem n188_60 : mx_ins 188 60 = some (.iastore, 1) := mx_ins_of mi188 dX20_clauseBy_60 rfl
theorem u188_60 : ev d 188 60 lo st h = evI d 188 60 61 lo st h .iastore := ev_u n188_60 rfl
theorem n188_61 : mx_ins 188 61 = some ((.aload_n 0), 1) := mx_ins_of mi188 dX20_clauseBy_61 rfl
theorem u188_61 : ev d 188 61 lo st h = evS (mx_ldA 0) d 188 62 lo st h := ev_s n188_61 rfl rfl
theorem n188_62 : mx_ins 188 62 = some ((.getfield 50), 3) := mx_ins_of mi188 dX20_clauseBy_62 rfl
theorem u188_62 : ev d 188 62 lo st h = evS (mx_gf 20 50) d 188 65 lo st h := ev_s n188_62 rfl rfl
theorem n188_65 : mx_ins 188 65 = some ((.iconst 5), 1) := mx_ins_of mi188 dX20_clauseBy_65 rfl
theorem u188_65 : ev d 188 65 lo st h = ev d 188 66 lo (.int 5 :: st) h := (ev_s (f := mx_push (.int 5)) n188_65 rfl rfl).trans es_push
theorem n188_66 : mx_ins 188 66 = some ((.iload_n 2), 1) := mx_ins_of mi188 dX20_clauseBy_66 rfl
theorem u188_66 : ev d 188 66 lo st h = evS (mx_ldI 2) d 188 67 lo st h := ev_s n188_66 rfl rfl
theorem n188_67 : mx_ins 188 67 = some ((.bipush 24), 2) := mx_ins_of mi188 dX20_clauseBy_67 rfl
theorem u188_67 : ev d 188 67 lo st h = ev d 188 69 lo (.int 24 :: st) h := (ev_s (f := mx_push (.int 24)) n188_67 rfl rfl).trans es_push
theorem n188_69 : mx_ins 188 69 = some ((.if_icmp .ge 41), 3) := mx_ins_of mi188 dX20_clauseBy_69 rfl
theorem u188_69 : ev d 188 69 lo st h = evK .ge d 188 110 72 lo st h := ev_ic n188_69 rfl rfl
theorem n188_72 : mx_ins 188 72 = some ((.aload_n 0), 1) := mx_ins_of mi188 dX20_clauseBy_72 rfl
theorem u188_72 : ev d 188 72 lo st h = evS (mx_ldA 0) d 188 73 lo st h := ev_s n188_72 rfl rfl
theorem n188_73 : mx_ins 188 73 = some ((.getfield 19), 3) := mx_ins_of mi188 dX20_clauseBy_73 rfl
theorem u188_73 : ev d 188 73 lo st h = evS (mx_gf 20 19) d 188 76 lo st h := ev_s n188_73 rfl rfl
theorem n188_76 : mx_ins 188 76 = some ((.iload_n 2), 1) := mx_ins_of mi188 dX20_clauseBy_76 rfl
theorem u188_76 : ev d 188 76 lo st h = evS (mx_ldI 2) d 188 77 lo st h := ev_s n188_76 rfl rfl
theorem n188_77 : mx_ins 188 77 = some ((.bipush 24), 2) := mx_ins_of mi188 dX20_clauseBy_77 rfl
theorem u188_77 : ev d 188 77 lo st h = ev d 188 79 lo (.int 24 :: st) h := (ev_s (f := mx_push (.int 24)) n188_77 rfl rfl).trans es_push
theorem n188_79 : mx_ins 188 79 = some ((.if_icmp .ge 7), 3) := mx_ins_of mi188 dX20_clauseBy_79 rfl
theorem u188_79 : ev d 188 79 lo st h = evK .ge d 188 86 82 lo st h := ev_ic n188_79 rfl rfl
theorem n188_82 : mx_ins 188 82 = some ((.iload_n 2), 1) := mx_ins_of mi188 dX20_clauseBy_82 rfl
theorem u188_82 : ev d 188 82 lo st h = evS (mx_ldI 2) d 188 83 lo st h := ev_s n188_82 rfl rfl
theorem n188_83 : mx_ins 188 83 = some ((.goto 4), 3) := mx_ins_of mi188 dX20_clauseBy_83 rfl
theorem u188_83 : ev d 188 83 lo st h = ev d 188 87 lo st h := ev_goto n188_83 rfl
theorem n188_86 : mx_ins 188 86 = some ((.iconst 0), 1) := mx_ins_of mi188 dX20_clauseBy_86 rfl
theorem u188_86 : ev d 188 86 lo st h = ev d 188 87 lo (.int 0 :: st) h := (ev_s (f := mx_push (.int 0)) n188_86 rfl rfl).trans es_push
theorem n188_87 : mx_ins 188 87 = some (.iaload, 1) := mx_ins_of mi188 dX20_clauseBy_87 rfl
theorem u188_87 : ev d 188 87 lo st h = evI d 188 87 88 lo st h .iaload := ev_u n188_87 rfl
theorem n188_88 : mx_ins 188 88 = some ((.ifCond .le 22), 3) := mx_ins_of mi188 dX20_clauseBy_88 rfl
theorem u188_88 : ev d 188 88 lo st h = evJ .le d 188 110 91 lo st h := ev_if n188_88 rfl rfl
theorem n188_91 : mx_ins 188 91 = some ((.aload_n 0), 1) := mx_ins_of mi188 dX20_clauseBy_91 rfl
theorem u188_91 : ev d 188 91 lo st h = evS (mx_ldA 0) d 188 92 lo st h := ev_s n188_91 rfl rfl
theorem n188_92 : mx_ins 188 92 = some ((.getfield 19), 3) := mx_ins_of mi188 dX20_clauseBy_92 rfl
theorem u188_92 : ev d 188 92 lo st h = evS (mx_gf 20 19) d 188 95 lo st h := ev_s n188_92 rfl rfl
theorem n188_95 : mx_ins 188 95 = some ((.iload_n 2), 1) := mx_ins_of mi188 dX20_clauseBy_95 rfl
theorem u188_95 : ev d 188 95 lo st h = evS (mx_ldI 2) d 188 96 lo st h := ev_s n188_95 rfl rfl
theorem n188_96 : mx_ins 188 96 = some ((.bipush 24), 2) := mx_ins_of mi188 dX20_clauseBy_96 rfl
theorem u188_96 : ev d 188 96 lo st h = ev d 188 98 lo (.int 24 :: st) h := (ev_s (f := mx_push (.int 24)) n188_96 rfl rfl).trans es_push
theorem n188_98 : mx_ins 188 98 = some ((.if_icmp .ge 7), 3) := mx_ins_of mi188 dX20_clauseBy_98 rfl
theorem u188_98 : ev d 188 98 lo st h = evK .ge d 188 105 101 lo st h := ev_ic n188_98 rfl rfl
theorem n188_101 : mx_ins 188 101 = some ((.iload_n 2), 1) := mx_ins_of mi188 dX20_clauseBy_101 rfl
theorem u188_101 : ev d 188 101 lo st h = evS (mx_ldI 2) d 188 102 lo st h := ev_s n188_101 rfl rfl
theorem n188_102 : mx_ins 188 102 = some ((.goto 4), 3) := mx_ins_of mi188 dX20_clauseBy_102 rfl
theorem u188_102 : ev d 188 102 lo st h = ev d 188 106 lo st h := ev_goto n188_102 rfl
theorem n188_105 : mx_ins 188 105 = some ((.iconst 0), 1) := mx_ins_of mi188 dX20_clauseBy_105 rfl
theorem u188_105 : ev d 188 105 lo st h = ev d 188 106 lo (.int 0 :: st) h := (ev_s (f := mx_push (.int 0)) n188_105 rfl rfl).trans es_push
theorem n188_106 : mx_ins 188 106 = some (.iaload, 1) := mx_ins_of mi188 dX20_clauseBy_106 rfl
theorem u188_106 : ev d 188 106 lo st h = evI d 188 106 107 lo st h .iaload := ev_u n188_106 rfl
theorem n188_107 : mx_ins 188 107 = some ((.goto 4), 3) := mx_ins_of mi188 dX20_clauseBy_107 rfl
theorem u188_107 : ev d 188 107 lo st h = ev d 188 111 lo st h := ev_goto n188_107 rfl
theorem n188_110 : mx_ins 188 110 = some ((.iconst 0), 1) := mx_ins_of mi188 dX20_clauseBy_110 rfl
theorem u188_110 : ev d 188 110 lo st h = ev d 188 111 lo (.int 0 :: st) h := (ev_s (f := mx_push (.int 0)) n188_110 rfl rfl).trans es_push
theorem n188_111 : mx_ins 188 111 = some (.iastore, 1) := mx_ins_of mi188 dX20_clauseBy_111 rfl
theorem u188_111 : ev d 188 111 lo st h = evI d 188 111 112 lo st h .iastore := ev_u n188_111 rfl
theorem n188_112 : mx_ins 188 112 = some ((.iconst 0), 1) := mx_ins_of mi188 dX20_clauseBy_112 rfl
theorem u188_112 : ev d 188 112 lo st h = ev d 188 113 lo (.int 0 :: st) h := (ev_s (f := mx_push (.int 0)) n188_112 rfl rfl).trans es_push
theorem n188_113 : mx_ins 188 113 = some ((.istore_n 3), 1) := mx_ins_of mi188 dX20_clauseBy_113 rfl
theorem u188_113 : ev d 188 113 lo st h = evS (mx_stI 3) d 188 114 lo st h := ev_s n188_113 rfl rfl
theorem n188_114 : mx_ins 188 114 = some ((.iload_n 3), 1) := mx_ins_of mi188 dX20_clauseBy_114 rfl
theorem u188_114 : ev d 188 114 lo st h = evS (mx_ldI 3) d 188 115 lo st h := ev_s n188_114 rfl rfl
theorem n188_115 : mx_ins 188 115 = some ((.aload_n 0), 1) := mx_ins_of mi188 dX20_clauseBy_115 rfl
theorem u188_115 : ev d 188 115 lo st h = evS (mx_ldA 0) d 188 116 lo st h := ev_s n188_115 rfl rfl
theorem n188_116 : mx_ins 188 116 = some ((.getfield 235), 3) := mx_ins_of mi188 dX20_clauseBy_116 rfl
theorem u188_116 : ev d 188 116 lo st h = evS (mx_gf 20 235) d 188 119 lo st h := ev_s n188_116 rfl rfl
theorem n188_119 : mx_ins 188 119 = some ((.if_icmp .ge 42), 3) := mx_ins_of mi188 dX20_clauseBy_119 rfl
theorem u188_119 : ev d 188 119 lo st h = evK .ge d 188 161 122 lo st h := ev_ic n188_119 rfl rfl
theorem n188_122 : mx_ins 188 122 = some ((.aload_n 0), 1) := mx_ins_of mi188 dX20_clauseBy_122 rfl
theorem u188_122 : ev d 188 122 lo st h = evS (mx_ldA 0) d 188 123 lo st h := ev_s n188_122 rfl rfl
theorem n188_123 : mx_ins 188 123 = some ((.aload_n 0), 1) := mx_ins_of mi188 dX20_clauseBy_123 rfl
theorem u188_123 : ev d 188 123 lo st h = evS (mx_ldA 0) d 188 124 lo st h := ev_s n188_123 rfl rfl
theorem n188_124 : mx_ins 188 124 = some ((.getfield 40), 3) := mx_ins_of mi188 dX20_clauseBy_124 rfl
theorem u188_124 : ev d 188 124 lo st h = evS (mx_gf 20 40) d 188 127 lo st h := ev_s n188_124 rfl rfl
theorem n188_127 : mx_ins 188 127 = some ((.aload_n 0), 1) := mx_ins_of mi188 dX20_clauseBy_127 rfl
theorem u188_127 : ev d 188 127 lo st h = evS (mx_ldA 0) d 188 128 lo st h := ev_s n188_127 rfl rfl
theorem n188_128 : mx_ins 188 128 = some ((.getfield 37), 3) := mx_ins_of mi188 dX20_clauseBy_128 rfl
theorem u188_128 : ev d 188 128 lo st h = evS (mx_gf 20 37) d 188 131 lo st h := ev_s n188_128 rfl rfl
theorem n188_131 : mx_ins 188 131 = some ((.iconst 3), 1) := mx_ins_of mi188 dX20_clauseBy_131 rfl
theorem u188_131 : ev d 188 131 lo st h = ev d 188 132 lo (.int 3 :: st) h := (ev_s (f := mx_push (.int 3)) n188_131 rfl rfl).trans es_push
theorem n188_132 : mx_ins 188 132 = some ((.iload_n 3), 1) := mx_ins_of mi188 dX20_clauseBy_132 rfl
theorem u188_132 : ev d 188 132 lo st h = evS (mx_ldI 3) d 188 133 lo st h := ev_s n188_132 rfl rfl
theorem n188_133 : mx_ins 188 133 = some (.imul, 1) := mx_ins_of mi188 dX20_clauseBy_133 rfl
theorem u188_133 : ev d 188 133 lo st h = evI d 188 133 134 lo st h .imul := ev_u n188_133 rfl
theorem n188_134 : mx_ins 188 134 = some ((.iconst 1), 1) := mx_ins_of mi188 dX20_clauseBy_134 rfl
theorem u188_134 : ev d 188 134 lo st h = ev d 188 135 lo (.int 1 :: st) h := (ev_s (f := mx_push (.int 1)) n188_134 rfl rfl).trans es_push
theorem n188_135 : mx_ins 188 135 = some (.iadd, 1) := mx_ins_of mi188 dX20_clauseBy_135 rfl
theorem u188_135 : ev d 188 135 lo st h = evI d 188 135 136 lo st h .iadd := ev_u n188_135 rfl
theorem n188_136 : mx_ins 188 136 = some (.iaload, 1) := mx_ins_of mi188 dX20_clauseBy_136 rfl
theorem u188_136 : ev d 188 136 lo st h = evI d 188 136 137 lo st h .iaload := ev_u n188_136 rfl
theorem n188_137 : mx_ins 188 137 = some ((.aload_n 0), 1) := mx_ins_of mi188 dX20_clauseBy_137 rfl
theorem u188_137 : ev d 188 137 lo st h = evS (mx_ldA 0) d 188 138 lo st h := ev_s n188_137 rfl rfl
theorem n188_138 : mx_ins 188 138 = some ((.getfield 37), 3) := mx_ins_of mi188 dX20_clauseBy_138 rfl
theorem u188_138 : ev d 188 138 lo st h = evS (mx_gf 20 37) d 188 141 lo st h := ev_s n188_138 rfl rfl
theorem n188_141 : mx_ins 188 141 = some ((.iconst 3), 1) := mx_ins_of mi188 dX20_clauseBy_141 rfl
theorem u188_141 : ev d 188 141 lo st h = ev d 188 142 lo (.int 3 :: st) h := (ev_s (f := mx_push (.int 3)) n188_141 rfl rfl).trans es_push
theorem n188_142 : mx_ins 188 142 = some ((.iload_n 3), 1) := mx_ins_of mi188 dX20_clauseBy_142 rfl
theorem u188_142 : ev d 188 142 lo st h = evS (mx_ldI 3) d 188 143 lo st h := ev_s n188_142 rfl rfl
theorem n188_143 : mx_ins 188 143 = some (.imul, 1) := mx_ins_of mi188 dX20_clauseBy_143 rfl
theorem u188_143 : ev d 188 143 lo st h = evI d 188 143 144 lo st h .imul := ev_u n188_143 rfl
theorem n188_144 : mx_ins 188 144 = some ((.iconst 2), 1) := mx_ins_of mi188 dX20_clauseBy_144 rfl
theorem u188_144 : ev d 188 144 lo st h = ev d 188 145 lo (.int 2 :: st) h := (ev_s (f := mx_push (.int 2)) n188_144 rfl rfl).trans es_push
theorem n188_145 : mx_ins 188 145 = some (.iadd, 1) := mx_ins_of mi188 dX20_clauseBy_145 rfl
theorem u188_145 : ev d 188 145 lo st h = evI d 188 145 146 lo st h .iadd := ev_u n188_145 rfl
theorem n188_146 : mx_ins 188 146 = some (.iaload, 1) := mx_ins_of mi188 dX20_clauseBy_146 rfl
theorem u188_146 : ev d 188 146 lo st h = evI d 188 146 147 lo st h .iaload := ev_u n188_146 rfl
theorem n188_147 : mx_ins 188 147 = some ((.invokevirtual 282), 3) := mx_ins_of mi188 dX20_clauseBy_147 rfl
theorem u188_147 : ev d 188 147 lo st h = evIn d 188 147 150 20 282 4 false lo st h := ev_inv n188_147 rfl rfl ow188 ia20_282
theorem n188_150 : mx_ins 188 150 = some ((.ifCond .eq 5), 3) := mx_ins_of mi188 dX20_clauseBy_150 rfl
theorem u188_150 : ev d 188 150 lo st h = evJ .eq d 188 155 153 lo st h := ev_if n188_150 rfl rfl
theorem n188_153 : mx_ins 188 153 = some ((.iload_n 3), 1) := mx_ins_of mi188 dX20_clauseBy_153 rfl
theorem u188_153 : ev d 188 153 lo st h = evS (mx_ldI 3) d 188 154 lo st h := ev_s n188_153 rfl rfl
theorem n188_154 : mx_ins 188 154 = some (.ireturn, 1) := mx_ins_of mi188 dX20_clauseBy_154 rfl
theorem u188_154 : ev d 188 154 lo st h = evI d 188 154 155 lo st h .ireturn := ev_u n188_154 rfl
theorem n188_155 : mx_ins 188 155 = some ((.iinc 3 1), 3) := mx_ins_of mi188 dX20_clauseBy_155 rfl
theorem u188_155 : ev d 188 155 lo st h = evS (mx_inc 3 (1)) d 188 158 lo st h := ev_s n188_155 rfl rfl
theorem n188_158 : mx_ins 188 158 = some ((.goto (-44)), 3) := mx_ins_of mi188 dX20_clauseBy_158 rfl
theorem u188_158 : ev d 188 158 lo st h = ev d 188 114 lo st h := ev_goto n188_158 rfl
theorem n188_161 : mx_ins 188 161 = some ((.bipush (-9)), 2) := mx_ins_of mi188 dX20_clauseBy_161 rfl
theorem u188_161 : ev d 188 161 lo st h = ev d 188 163 lo (.int (-9) :: st) h := (ev_s (f := mx_push (.int (-9))) n188_161 rfl rfl).trans es_push
theorem n188_163 : mx_ins 188 163 = some (.ireturn, 1) := mx_ins_of mi188 dX20_clauseBy_163 rfl
theorem u188_163 : ev d 188 163 lo st h = evI d 188 163 164 lo st h .ireturn := ev_u n188_163 rfl
theorem mi189 : mx_mi 189 = some (yX20_lossOf, cX20_lossOf, 2, (Option.some Jvm.ClassFile.FieldType.int), 20, 2, []) := rfl
theorem ow189 : mx_own 189 = 20 := mx_mi_own mi189
theorem mm189 : mx_max 189 = 2 := mx_mi_max mi189
theorem rt189 : mx_ret 189 = (Option.some Jvm.ClassFile.FieldType.int) := mx_mi_ret mi189
theorem hn189 : mx_hnd 189 = [] := mx_mi_hnd mi189
theorem n189_0 : mx_ins 189 0 = some ((.iload_n 0), 1) := mx_ins_of mi189 dX20_lossOf_0 rfl
theorem u189_0 : ev d 189 0 lo st h = evS (mx_ldI 0) d 189 1 lo st h := ev_s n189_0 rfl rfl
theorem n189_1 : mx_ins 189 1 = some ((.iload_n 1), 1) := mx_ins_of mi189 dX20_lossOf_1 rfl
theorem u189_1 : ev d 189 1 lo st h = evS (mx_ldI 1) d 189 2 lo st h := ev_s n189_1 rfl rfl
theorem n189_2 : mx_ins 189 2 = some (.isub, 1) := mx_ins_of mi189 dX20_lossOf_2 rfl
theorem u189_2 : ev d 189 2 lo st h = evI d 189 2 3 lo st h .isub := ev_u n189_2 rfl
theorem n189_3 : mx_ins 189 3 = some ((.sipush 1000), 3) := mx_ins_of mi189 dX20_lossOf_3 rfl
theorem u189_3 : ev d 189 3 lo st h = ev d 189 6 lo (.int 1000 :: st) h := (ev_s (f := mx_push (.int 1000)) n189_3 rfl rfl).trans es_push
theorem n189_6 : mx_ins 189 6 = some (.imul, 1) := mx_ins_of mi189 dX20_lossOf_6 rfl
theorem u189_6 : ev d 189 6 lo st h = evI d 189 6 7 lo st h .imul := ev_u n189_6 rfl
theorem n189_7 : mx_ins 189 7 = some ((.iload_n 0), 1) := mx_ins_of mi189 dX20_lossOf_7 rfl
theorem u189_7 : ev d 189 7 lo st h = evS (mx_ldI 0) d 189 8 lo st h := ev_s n189_7 rfl rfl
theorem n189_8 : mx_ins 189 8 = some (.idiv, 1) := mx_ins_of mi189 dX20_lossOf_8 rfl
theorem u189_8 : ev d 189 8 lo st h = evI d 189 8 9 lo st h .idiv := ev_u n189_8 rfl
theorem n189_9 : mx_ins 189 9 = some (.ireturn, 1) := mx_ins_of mi189 dX20_lossOf_9 rfl
theorem u189_9 : ev d 189 9 lo st h = evI d 189 9 10 lo st h .ireturn := ev_u n189_9 rfl
theorem mi190 : mx_mi 190 = some (yX20_isSo, cX20_isSo, 9, (Option.some Jvm.ClassFile.FieldType.boolean), 20, 4, []) := rfl
theorem ow190 : mx_own 190 = 20 := mx_mi_own mi190
theorem mm190 : mx_max 190 = 9 := mx_mi_max mi190
theorem rt190 : mx_ret 190 = (Option.some Jvm.ClassFile.FieldType.boolean) := mx_mi_ret mi190
theorem hn190 : mx_hnd 190 = [] := mx_mi_hnd mi190
theorem n190_0 : mx_ins 190 0 = some ((.iconst 0), 1) := mx_ins_of mi190 dX20_isSo_0 rfl
theorem u190_0 : ev d 190 0 lo st h = ev d 190 1 lo (.int 0 :: st) h := (ev_s (f := mx_push (.int 0)) n190_0 rfl rfl).trans es_push
theorem n190_1 : mx_ins 190 1 = some ((.istore 4), 2) := mx_ins_of mi190 dX20_isSo_1 rfl
theorem u190_1 : ev d 190 1 lo st h = evS (mx_stI 4) d 190 3 lo st h := ev_s n190_1 rfl rfl
theorem n190_3 : mx_ins 190 3 = some ((.iload_n 2), 1) := mx_ins_of mi190 dX20_isSo_3 rfl
theorem u190_3 : ev d 190 3 lo st h = evS (mx_ldI 2) d 190 4 lo st h := ev_s n190_3 rfl rfl
theorem n190_4 : mx_ins 190 4 = some ((.istore 5), 2) := mx_ins_of mi190 dX20_isSo_4 rfl
theorem u190_4 : ev d 190 4 lo st h = evS (mx_stI 5) d 190 6 lo st h := ev_s n190_4 rfl rfl
theorem n190_6 : mx_ins 190 6 = some ((.iload 5), 2) := mx_ins_of mi190 dX20_isSo_6 rfl
theorem u190_6 : ev d 190 6 lo st h = evS (mx_ldI 5) d 190 8 lo st h := ev_s n190_6 rfl rfl
theorem n190_8 : mx_ins 190 8 = some ((.iload_n 3), 1) := mx_ins_of mi190 dX20_isSo_8 rfl
theorem u190_8 : ev d 190 8 lo st h = evS (mx_ldI 3) d 190 9 lo st h := ev_s n190_8 rfl rfl
theorem n190_9 : mx_ins 190 9 = some ((.if_icmp .ge 285), 3) := mx_ins_of mi190 dX20_isSo_9 rfl
theorem u190_9 : ev d 190 9 lo st h = evK .ge d 190 294 12 lo st h := ev_ic n190_9 rfl rfl
theorem n190_12 : mx_ins 190 12 = some ((.aload_n 1), 1) := mx_ins_of mi190 dX20_isSo_12 rfl
theorem u190_12 : ev d 190 12 lo st h = evS (mx_ldA 1) d 190 13 lo st h := ev_s n190_12 rfl rfl
theorem n190_13 : mx_ins 190 13 = some ((.iload 5), 2) := mx_ins_of mi190 dX20_isSo_13 rfl
theorem u190_13 : ev d 190 13 lo st h = evS (mx_ldI 5) d 190 15 lo st h := ev_s n190_13 rfl rfl
theorem n190_15 : mx_ins 190 15 = some (.iaload, 1) := mx_ins_of mi190 dX20_isSo_15 rfl
theorem u190_15 : ev d 190 15 lo st h = evI d 190 15 16 lo st h .iaload := ev_u n190_15 rfl
theorem n190_16 : mx_ins 190 16 = some ((.istore 6), 2) := mx_ins_of mi190 dX20_isSo_16 rfl
theorem u190_16 : ev d 190 16 lo st h = evS (mx_stI 6) d 190 18 lo st h := ev_s n190_16 rfl rfl
theorem n190_18 : mx_ins 190 18 = some ((.iload 6), 2) := mx_ins_of mi190 dX20_isSo_18 rfl
theorem u190_18 : ev d 190 18 lo st h = evS (mx_ldI 6) d 190 20 lo st h := ev_s n190_18 rfl rfl
theorem n190_20 : mx_ins 190 20 = some ((.ldc 191), 2) := mx_ins_of mi190 dX20_isSo_20 rfl
theorem u190_20 : ev d 190 20 lo st h = ev d 190 22 lo (.int 40002 :: st) h := (ev_s (f := mx_push (.int 40002)) n190_20 rfl rfl).trans es_push
theorem n190_22 : mx_ins 190 22 = some ((.if_icmp .ne 32), 3) := mx_ins_of mi190 dX20_isSo_22 rfl
theorem u190_22 : ev d 190 22 lo st h = evK .ne d 190 54 25 lo st h := ev_ic n190_22 rfl rfl
theorem n190_25 : mx_ins 190 25 = some ((.aload_n 0), 1) := mx_ins_of mi190 dX20_isSo_25 rfl
theorem u190_25 : ev d 190 25 lo st h = evS (mx_ldA 0) d 190 26 lo st h := ev_s n190_25 rfl rfl
theorem n190_26 : mx_ins 190 26 = some ((.getfield 59), 3) := mx_ins_of mi190 dX20_isSo_26 rfl
theorem u190_26 : ev d 190 26 lo st h = evS (mx_gf 20 59) d 190 29 lo st h := ev_s n190_26 rfl rfl
theorem n190_29 : mx_ins 190 29 = some ((.iload 4), 2) := mx_ins_of mi190 dX20_isSo_29 rfl
theorem u190_29 : ev d 190 29 lo st h = evS (mx_ldI 4) d 190 31 lo st h := ev_s n190_29 rfl rfl
theorem n190_31 : mx_ins 190 31 = some ((.iconst 1), 1) := mx_ins_of mi190 dX20_isSo_31 rfl
theorem u190_31 : ev d 190 31 lo st h = ev d 190 32 lo (.int 1 :: st) h := (ev_s (f := mx_push (.int 1)) n190_31 rfl rfl).trans es_push
theorem n190_32 : mx_ins 190 32 = some (.isub, 1) := mx_ins_of mi190 dX20_isSo_32 rfl
theorem u190_32 : ev d 190 32 lo st h = evI d 190 32 33 lo st h .isub := ev_u n190_32 rfl
theorem n190_33 : mx_ins 190 33 = some ((.aload_n 0), 1) := mx_ins_of mi190 dX20_isSo_33 rfl
theorem u190_33 : ev d 190 33 lo st h = evS (mx_ldA 0) d 190 34 lo st h := ev_s n190_33 rfl rfl
theorem n190_34 : mx_ins 190 34 = some ((.getfield 59), 3) := mx_ins_of mi190 dX20_isSo_34 rfl
theorem u190_34 : ev d 190 34 lo st h = evS (mx_gf 20 59) d 190 37 lo st h := ev_s n190_34 rfl rfl
theorem n190_37 : mx_ins 190 37 = some ((.iload 4), 2) := mx_ins_of mi190 dX20_isSo_37 rfl
theorem u190_37 : ev d 190 37 lo st h = evS (mx_ldI 4) d 190 39 lo st h := ev_s n190_37 rfl rfl
theorem n190_39 : mx_ins 190 39 = some ((.iconst 1), 1) := mx_ins_of mi190 dX20_isSo_39 rfl
theorem u190_39 : ev d 190 39 lo st h = ev d 190 40 lo (.int 1 :: st) h := (ev_s (f := mx_push (.int 1)) n190_39 rfl rfl).trans es_push
theorem n190_40 : mx_ins 190 40 = some (.isub, 1) := mx_ins_of mi190 dX20_isSo_40 rfl
theorem u190_40 : ev d 190 40 lo st h = evI d 190 40 41 lo st h .isub := ev_u n190_40 rfl
theorem n190_41 : mx_ins 190 41 = some (.baload, 1) := mx_ins_of mi190 dX20_isSo_41 rfl
theorem u190_41 : ev d 190 41 lo st h = evI d 190 41 42 lo st h .baload := ev_u n190_41 rfl
theorem n190_42 : mx_ins 190 42 = some ((.ifCond .ne 7), 3) := mx_ins_of mi190 dX20_isSo_42 rfl
theorem u190_42 : ev d 190 42 lo st h = evJ .ne d 190 49 45 lo st h := ev_if n190_42 rfl rfl
theorem n190_45 : mx_ins 190 45 = some ((.iconst 1), 1) := mx_ins_of mi190 dX20_isSo_45 rfl
theorem u190_45 : ev d 190 45 lo st h = ev d 190 46 lo (.int 1 :: st) h := (ev_s (f := mx_push (.int 1)) n190_45 rfl rfl).trans es_push
theorem n190_46 : mx_ins 190 46 = some ((.goto 4), 3) := mx_ins_of mi190 dX20_isSo_46 rfl
theorem u190_46 : ev d 190 46 lo st h = ev d 190 50 lo st h := ev_goto n190_46 rfl
theorem n190_49 : mx_ins 190 49 = some ((.iconst 0), 1) := mx_ins_of mi190 dX20_isSo_49 rfl
theorem u190_49 : ev d 190 49 lo st h = ev d 190 50 lo (.int 0 :: st) h := (ev_s (f := mx_push (.int 0)) n190_49 rfl rfl).trans es_push
theorem n190_50 : mx_ins 190 50 = some (.bastore, 1) := mx_ins_of mi190 dX20_isSo_50 rfl
theorem u190_50 : ev d 190 50 lo st h = evI d 190 50 51 lo st h .bastore := ev_u n190_50 rfl
theorem n190_51 : mx_ins 190 51 = some ((.goto 237), 3) := mx_ins_of mi190 dX20_isSo_51 rfl
theorem u190_51 : ev d 190 51 lo st h = ev d 190 288 lo st h := ev_goto n190_51 rfl
theorem n190_54 : mx_ins 190 54 = some ((.iload 6), 2) := mx_ins_of mi190 dX20_isSo_54 rfl
theorem u190_54 : ev d 190 54 lo st h = evS (mx_ldI 6) d 190 56 lo st h := ev_s n190_54 rfl rfl
theorem n190_56 : mx_ins 190 56 = some ((.ldc 205), 2) := mx_ins_of mi190 dX20_isSo_56 rfl
theorem u190_56 : ev d 190 56 lo st h = ev d 190 58 lo (.int 40000 :: st) h := (ev_s (f := mx_push (.int 40000)) n190_56 rfl rfl).trans es_push
theorem n190_58 : mx_ins 190 58 = some ((.if_icmp .eq 10), 3) := mx_ins_of mi190 dX20_isSo_58 rfl
theorem u190_58 : ev d 190 58 lo st h = evK .eq d 190 68 61 lo st h := ev_ic n190_58 rfl rfl
theorem n190_61 : mx_ins 190 61 = some ((.iload 6), 2) := mx_ins_of mi190 dX20_isSo_61 rfl
theorem u190_61 : ev d 190 61 lo st h = evS (mx_ldI 6) d 190 63 lo st h := ev_s n190_61 rfl rfl
theorem n190_63 : mx_ins 190 63 = some ((.ldc 206), 2) := mx_ins_of mi190 dX20_isSo_63 rfl
theorem u190_63 : ev d 190 63 lo st h = ev d 190 65 lo (.int 40001 :: st) h := (ev_s (f := mx_push (.int 40001)) n190_63 rfl rfl).trans es_push
theorem n190_65 : mx_ins 190 65 = some ((.if_icmp .ne 82), 3) := mx_ins_of mi190 dX20_isSo_65 rfl
theorem u190_65 : ev d 190 65 lo st h = evK .ne d 190 147 68 lo st h := ev_ic n190_65 rfl rfl
theorem n190_68 : mx_ins 190 68 = some ((.iinc 4 (-1)), 3) := mx_ins_of mi190 dX20_isSo_68 rfl
theorem u190_68 : ev d 190 68 lo st h = evS (mx_inc 4 (-1)) d 190 71 lo st h := ev_s n190_68 rfl rfl
theorem n190_71 : mx_ins 190 71 = some ((.aload_n 0), 1) := mx_ins_of mi190 dX20_isSo_71 rfl
theorem u190_71 : ev d 190 71 lo st h = evS (mx_ldA 0) d 190 72 lo st h := ev_s n190_71 rfl rfl
theorem n190_72 : mx_ins 190 72 = some ((.getfield 59), 3) := mx_ins_of mi190 dX20_isSo_72 rfl
theorem u190_72 : ev d 190 72 lo st h = evS (mx_gf 20 59) d 190 75 lo st h := ev_s n190_72 rfl rfl
theorem n190_75 : mx_ins 190 75 = some ((.iload 4), 2) := mx_ins_of mi190 dX20_isSo_75 rfl
theorem u190_75 : ev d 190 75 lo st h = evS (mx_ldI 4) d 190 77 lo st h := ev_s n190_75 rfl rfl
theorem n190_77 : mx_ins 190 77 = some ((.iconst 1), 1) := mx_ins_of mi190 dX20_isSo_77 rfl
theorem u190_77 : ev d 190 77 lo st h = ev d 190 78 lo (.int 1 :: st) h := (ev_s (f := mx_push (.int 1)) n190_77 rfl rfl).trans es_push
theorem n190_78 : mx_ins 190 78 = some (.isub, 1) := mx_ins_of mi190 dX20_isSo_78 rfl
theorem u190_78 : ev d 190 78 lo st h = evI d 190 78 79 lo st h .isub := ev_u n190_78 rfl
theorem n190_79 : mx_ins 190 79 = some ((.iload 6), 2) := mx_ins_of mi190 dX20_isSo_79 rfl
theorem u190_79 : ev d 190 79 lo st h = evS (mx_ldI 6) d 190 81 lo st h := ev_s n190_79 rfl rfl
theorem n190_81 : mx_ins 190 81 = some ((.ldc 205), 2) := mx_ins_of mi190 dX20_isSo_81 rfl
theorem u190_81 : ev d 190 81 lo st h = ev d 190 83 lo (.int 40000 :: st) h := (ev_s (f := mx_push (.int 40000)) n190_81 rfl rfl).trans es_push
theorem n190_83 : mx_ins 190 83 = some ((.if_icmp .ne 33), 3) := mx_ins_of mi190 dX20_isSo_83 rfl
theorem u190_83 : ev d 190 83 lo st h = evK .ne d 190 116 86 lo st h := ev_ic n190_83 rfl rfl
theorem n190_86 : mx_ins 190 86 = some ((.aload_n 0), 1) := mx_ins_of mi190 dX20_isSo_86 rfl
theorem u190_86 : ev d 190 86 lo st h = evS (mx_ldA 0) d 190 87 lo st h := ev_s n190_86 rfl rfl
theorem n190_87 : mx_ins 190 87 = some ((.getfield 59), 3) := mx_ins_of mi190 dX20_isSo_87 rfl
theorem u190_87 : ev d 190 87 lo st h = evS (mx_gf 20 59) d 190 90 lo st h := ev_s n190_87 rfl rfl
theorem n190_90 : mx_ins 190 90 = some ((.iload 4), 2) := mx_ins_of mi190 dX20_isSo_90 rfl
theorem u190_90 : ev d 190 90 lo st h = evS (mx_ldI 4) d 190 92 lo st h := ev_s n190_90 rfl rfl
theorem n190_92 : mx_ins 190 92 = some ((.iconst 1), 1) := mx_ins_of mi190 dX20_isSo_92 rfl
theorem u190_92 : ev d 190 92 lo st h = ev d 190 93 lo (.int 1 :: st) h := (ev_s (f := mx_push (.int 1)) n190_92 rfl rfl).trans es_push
theorem n190_93 : mx_ins 190 93 = some (.isub, 1) := mx_ins_of mi190 dX20_isSo_93 rfl
theorem u190_93 : ev d 190 93 lo st h = evI d 190 93 94 lo st h .isub := ev_u n190_93 rfl
theorem n190_94 : mx_ins 190 94 = some (.baload, 1) := mx_ins_of mi190 dX20_isSo_94 rfl
theorem u190_94 : ev d 190 94 lo st h = evI d 190 94 95 lo st h .baload := ev_u n190_94 rfl
theorem n190_95 : mx_ins 190 95 = some ((.ifCond .eq 17), 3) := mx_ins_of mi190 dX20_isSo_95 rfl
theorem u190_95 : ev d 190 95 lo st h = evJ .eq d 190 112 98 lo st h := ev_if n190_95 rfl rfl
theorem n190_98 : mx_ins 190 98 = some ((.aload_n 0), 1) := mx_ins_of mi190 dX20_isSo_98 rfl
theorem u190_98 : ev d 190 98 lo st h = evS (mx_ldA 0) d 190 99 lo st h := ev_s n190_98 rfl rfl
theorem n190_99 : mx_ins 190 99 = some ((.getfield 59), 3) := mx_ins_of mi190 dX20_isSo_99 rfl
theorem u190_99 : ev d 190 99 lo st h = evS (mx_gf 20 59) d 190 102 lo st h := ev_s n190_99 rfl rfl
theorem n190_102 : mx_ins 190 102 = some ((.iload 4), 2) := mx_ins_of mi190 dX20_isSo_102 rfl
theorem u190_102 : ev d 190 102 lo st h = evS (mx_ldI 4) d 190 104 lo st h := ev_s n190_102 rfl rfl
theorem n190_104 : mx_ins 190 104 = some (.baload, 1) := mx_ins_of mi190 dX20_isSo_104 rfl
theorem u190_104 : ev d 190 104 lo st h = evI d 190 104 105 lo st h .baload := ev_u n190_104 rfl
theorem n190_105 : mx_ins 190 105 = some ((.ifCond .eq 7), 3) := mx_ins_of mi190 dX20_isSo_105 rfl
theorem u190_105 : ev d 190 105 lo st h = evJ .eq d 190 112 108 lo st h := ev_if n190_105 rfl rfl
theorem n190_108 : mx_ins 190 108 = some ((.iconst 1), 1) := mx_ins_of mi190 dX20_isSo_108 rfl
theorem u190_108 : ev d 190 108 lo st h = ev d 190 109 lo (.int 1 :: st) h := (ev_s (f := mx_push (.int 1)) n190_108 rfl rfl).trans es_push
theorem n190_109 : mx_ins 190 109 = some ((.goto 34), 3) := mx_ins_of mi190 dX20_isSo_109 rfl
theorem u190_109 : ev d 190 109 lo st h = ev d 190 143 lo st h := ev_goto n190_109 rfl
theorem n190_112 : mx_ins 190 112 = some ((.iconst 0), 1) := mx_ins_of mi190 dX20_isSo_112 rfl
theorem u190_112 : ev d 190 112 lo st h = ev d 190 113 lo (.int 0 :: st) h := (ev_s (f := mx_push (.int 0)) n190_112 rfl rfl).trans es_push
theorem n190_113 : mx_ins 190 113 = some ((.goto 30), 3) := mx_ins_of mi190 dX20_isSo_113 rfl
theorem u190_113 : ev d 190 113 lo st h = ev d 190 143 lo st h := ev_goto n190_113 rfl
theorem n190_116 : mx_ins 190 116 = some ((.aload_n 0), 1) := mx_ins_of mi190 dX20_isSo_116 rfl
theorem u190_116 : ev d 190 116 lo st h = evS (mx_ldA 0) d 190 117 lo st h := ev_s n190_116 rfl rfl
theorem n190_117 : mx_ins 190 117 = some ((.getfield 59), 3) := mx_ins_of mi190 dX20_isSo_117 rfl
theorem u190_117 : ev d 190 117 lo st h = evS (mx_gf 20 59) d 190 120 lo st h := ev_s n190_117 rfl rfl
theorem n190_120 : mx_ins 190 120 = some ((.iload 4), 2) := mx_ins_of mi190 dX20_isSo_120 rfl
theorem u190_120 : ev d 190 120 lo st h = evS (mx_ldI 4) d 190 122 lo st h := ev_s n190_120 rfl rfl
theorem n190_122 : mx_ins 190 122 = some ((.iconst 1), 1) := mx_ins_of mi190 dX20_isSo_122 rfl
theorem u190_122 : ev d 190 122 lo st h = ev d 190 123 lo (.int 1 :: st) h := (ev_s (f := mx_push (.int 1)) n190_122 rfl rfl).trans es_push
theorem n190_123 : mx_ins 190 123 = some (.isub, 1) := mx_ins_of mi190 dX20_isSo_123 rfl
theorem u190_123 : ev d 190 123 lo st h = evI d 190 123 124 lo st h .isub := ev_u n190_123 rfl
theorem n190_124 : mx_ins 190 124 = some (.baload, 1) := mx_ins_of mi190 dX20_isSo_124 rfl
theorem u190_124 : ev d 190 124 lo st h = evI d 190 124 125 lo st h .baload := ev_u n190_124 rfl
theorem n190_125 : mx_ins 190 125 = some ((.ifCond .ne 13), 3) := mx_ins_of mi190 dX20_isSo_125 rfl
theorem u190_125 : ev d 190 125 lo st h = evJ .ne d 190 138 128 lo st h := ev_if n190_125 rfl rfl
theorem n190_128 : mx_ins 190 128 = some ((.aload_n 0), 1) := mx_ins_of mi190 dX20_isSo_128 rfl
theorem u190_128 : ev d 190 128 lo st h = evS (mx_ldA 0) d 190 129 lo st h := ev_s n190_128 rfl rfl
theorem n190_129 : mx_ins 190 129 = some ((.getfield 59), 3) := mx_ins_of mi190 dX20_isSo_129 rfl
theorem u190_129 : ev d 190 129 lo st h = evS (mx_gf 20 59) d 190 132 lo st h := ev_s n190_129 rfl rfl
theorem n190_132 : mx_ins 190 132 = some ((.iload 4), 2) := mx_ins_of mi190 dX20_isSo_132 rfl
theorem u190_132 : ev d 190 132 lo st h = evS (mx_ldI 4) d 190 134 lo st h := ev_s n190_132 rfl rfl
theorem n190_134 : mx_ins 190 134 = some (.baload, 1) := mx_ins_of mi190 dX20_isSo_134 rfl
theorem u190_134 : ev d 190 134 lo st h = evI d 190 134 135 lo st h .baload := ev_u n190_134 rfl
theorem n190_135 : mx_ins 190 135 = some ((.ifCond .eq 7), 3) := mx_ins_of mi190 dX20_isSo_135 rfl
theorem u190_135 : ev d 190 135 lo st h = evJ .eq d 190 142 138 lo st h := ev_if n190_135 rfl rfl
theorem n190_138 : mx_ins 190 138 = some ((.iconst 1), 1) := mx_ins_of mi190 dX20_isSo_138 rfl
theorem u190_138 : ev d 190 138 lo st h = ev d 190 139 lo (.int 1 :: st) h := (ev_s (f := mx_push (.int 1)) n190_138 rfl rfl).trans es_push
theorem n190_139 : mx_ins 190 139 = some ((.goto 4), 3) := mx_ins_of mi190 dX20_isSo_139 rfl
theorem u190_139 : ev d 190 139 lo st h = ev d 190 143 lo st h := ev_goto n190_139 rfl
theorem n190_142 : mx_ins 190 142 = some ((.iconst 0), 1) := mx_ins_of mi190 dX20_isSo_142 rfl
theorem u190_142 : ev d 190 142 lo st h = ev d 190 143 lo (.int 0 :: st) h := (ev_s (f := mx_push (.int 0)) n190_142 rfl rfl).trans es_push
theorem n190_143 : mx_ins 190 143 = some (.bastore, 1) := mx_ins_of mi190 dX20_isSo_143 rfl
theorem u190_143 : ev d 190 143 lo st h = evI d 190 143 144 lo st h .bastore := ev_u n190_143 rfl
theorem n190_144 : mx_ins 190 144 = some ((.goto 144), 3) := mx_ins_of mi190 dX20_isSo_144 rfl
theorem u190_144 : ev d 190 144 lo st h = ev d 190 288 lo st h := ev_goto n190_144 rfl
theorem n190_147 : mx_ins 190 147 = some ((.iload 6), 2) := mx_ins_of mi190 dX20_isSo_147 rfl
theorem u190_147 : ev d 190 147 lo st h = evS (mx_ldI 6) d 190 149 lo st h := ev_s n190_147 rfl rfl
theorem n190_149 : mx_ins 190 149 = some ((.sipush 20000), 3) := mx_ins_of mi190 dX20_isSo_149 rfl
theorem u190_149 : ev d 190 149 lo st h = ev d 190 152 lo (.int 20000 :: st) h := (ev_s (f := mx_push (.int 20000)) n190_149 rfl rfl).trans es_push
theorem n190_152 : mx_ins 190 152 = some ((.if_icmp .lt 17), 3) := mx_ins_of mi190 dX20_isSo_152 rfl
theorem u190_152 : ev d 190 152 lo st h = evK .lt d 190 169 155 lo st h := ev_ic n190_152 rfl rfl
theorem n190_155 : mx_ins 190 155 = some ((.aload_n 0), 1) := mx_ins_of mi190 dX20_isSo_155 rfl
theorem u190_155 : ev d 190 155 lo st h = evS (mx_ldA 0) d 190 156 lo st h := ev_s n190_155 rfl rfl
theorem n190_156 : mx_ins 190 156 = some ((.getfield 50), 3) := mx_ins_of mi190 dX20_isSo_156 rfl
theorem u190_156 : ev d 190 156 lo st h = evS (mx_gf 20 50) d 190 159 lo st h := ev_s n190_156 rfl rfl
theorem n190_159 : mx_ins 190 159 = some ((.iload 6), 2) := mx_ins_of mi190 dX20_isSo_159 rfl
theorem u190_159 : ev d 190 159 lo st h = evS (mx_ldI 6) d 190 161 lo st h := ev_s n190_159 rfl rfl
theorem n190_161 : mx_ins 190 161 = some ((.sipush 20000), 3) := mx_ins_of mi190 dX20_isSo_161 rfl
theorem u190_161 : ev d 190 161 lo st h = ev d 190 164 lo (.int 20000 :: st) h := (ev_s (f := mx_push (.int 20000)) n190_161 rfl rfl).trans es_push
theorem n190_164 : mx_ins 190 164 = some (.isub, 1) := mx_ins_of mi190 dX20_isSo_164 rfl
theorem u190_164 : ev d 190 164 lo st h = evI d 190 164 165 lo st h .isub := ev_u n190_164 rfl
theorem n190_165 : mx_ins 190 165 = some (.iaload, 1) := mx_ins_of mi190 dX20_isSo_165 rfl
theorem u190_165 : ev d 190 165 lo st h = evI d 190 165 166 lo st h .iaload := ev_u n190_165 rfl
theorem n190_166 : mx_ins 190 166 = some ((.goto 5), 3) := mx_ins_of mi190 dX20_isSo_166 rfl
theorem u190_166 : ev d 190 166 lo st h = ev d 190 171 lo st h := ev_goto n190_166 rfl
theorem n190_169 : mx_ins 190 169 = some ((.iload 6), 2) := mx_ins_of mi190 dX20_isSo_169 rfl
theorem u190_169 : ev d 190 169 lo st h = evS (mx_ldI 6) d 190 171 lo st h := ev_s n190_169 rfl rfl
theorem n190_171 : mx_ins 190 171 = some ((.istore 7), 2) := mx_ins_of mi190 dX20_isSo_171 rfl
theorem u190_171 : ev d 190 171 lo st h = evS (mx_stI 7) d 190 173 lo st h := ev_s n190_171 rfl rfl
theorem n190_173 : mx_ins 190 173 = some ((.aload_n 1), 1) := mx_ins_of mi190 dX20_isSo_173 rfl
theorem u190_173 : ev d 190 173 lo st h = evS (mx_ldA 1) d 190 174 lo st h := ev_s n190_173 rfl rfl
theorem n190_174 : mx_ins 190 174 = some ((.iload 5), 2) := mx_ins_of mi190 dX20_isSo_174 rfl
theorem u190_174 : ev d 190 174 lo st h = evS (mx_ldI 5) d 190 176 lo st h := ev_s n190_174 rfl rfl
theorem n190_176 : mx_ins 190 176 = some ((.iconst 2), 1) := mx_ins_of mi190 dX20_isSo_176 rfl
theorem u190_176 : ev d 190 176 lo st h = ev d 190 177 lo (.int 2 :: st) h := (ev_s (f := mx_push (.int 2)) n190_176 rfl rfl).trans es_push
theorem n190_177 : mx_ins 190 177 = some (.iadd, 1) := mx_ins_of mi190 dX20_isSo_177 rfl
theorem u190_177 : ev d 190 177 lo st h = evI d 190 177 178 lo st h .iadd := ev_u n190_177 rfl
theorem n190_178 : mx_ins 190 178 = some (.iaload, 1) := mx_ins_of mi190 dX20_isSo_178 rfl
theorem u190_178 : ev d 190 178 lo st h = evI d 190 178 179 lo st h .iaload := ev_u n190_178 rfl
theorem n190_179 : mx_ins 190 179 = some ((.sipush 20000), 3) := mx_ins_of mi190 dX20_isSo_179 rfl
theorem u190_179 : ev d 190 179 lo st h = ev d 190 182 lo (.int 20000 :: st) h := (ev_s (f := mx_push (.int 20000)) n190_179 rfl rfl).trans es_push
theorem n190_182 : mx_ins 190 182 = some ((.if_icmp .lt 21), 3) := mx_ins_of mi190 dX20_isSo_182 rfl
theorem u190_182 : ev d 190 182 lo st h = evK .lt d 190 203 185 lo st h := ev_ic n190_182 rfl rfl
theorem n190_185 : mx_ins 190 185 = some ((.aload_n 0), 1) := mx_ins_of mi190 dX20_isSo_185 rfl
theorem u190_185 : ev d 190 185 lo st h = evS (mx_ldA 0) d 190 186 lo st h := ev_s n190_185 rfl rfl
theorem n190_186 : mx_ins 190 186 = some ((.getfield 50), 3) := mx_ins_of mi190 dX20_isSo_186 rfl
theorem u190_186 : ev d 190 186 lo st h = evS (mx_gf 20 50) d 190 189 lo st h := ev_s n190_186 rfl rfl
theorem n190_189 : mx_ins 190 189 = some ((.aload_n 1), 1) := mx_ins_of mi190 dX20_isSo_189 rfl
theorem u190_189 : ev d 190 189 lo st h = evS (mx_ldA 1) d 190 190 lo st h := ev_s n190_189 rfl rfl
theorem n190_190 : mx_ins 190 190 = some ((.iload 5), 2) := mx_ins_of mi190 dX20_isSo_190 rfl
theorem u190_190 : ev d 190 190 lo st h = evS (mx_ldI 5) d 190 192 lo st h := ev_s n190_190 rfl rfl
theorem n190_192 : mx_ins 190 192 = some ((.iconst 2), 1) := mx_ins_of mi190 dX20_isSo_192 rfl
theorem u190_192 : ev d 190 192 lo st h = ev d 190 193 lo (.int 2 :: st) h := (ev_s (f := mx_push (.int 2)) n190_192 rfl rfl).trans es_push
theorem n190_193 : mx_ins 190 193 = some (.iadd, 1) := mx_ins_of mi190 dX20_isSo_193 rfl
theorem u190_193 : ev d 190 193 lo st h = evI d 190 193 194 lo st h .iadd := ev_u n190_193 rfl
theorem n190_194 : mx_ins 190 194 = some (.iaload, 1) := mx_ins_of mi190 dX20_isSo_194 rfl
theorem u190_194 : ev d 190 194 lo st h = evI d 190 194 195 lo st h .iaload := ev_u n190_194 rfl
theorem n190_195 : mx_ins 190 195 = some ((.sipush 20000), 3) := mx_ins_of mi190 dX20_isSo_195 rfl
theorem u190_195 : ev d 190 195 lo st h = ev d 190 198 lo (.int 20000 :: st) h := (ev_s (f := mx_push (.int 20000)) n190_195 rfl rfl).trans es_push
theorem n190_198 : mx_ins 190 198 = some (.isub, 1) := mx_ins_of mi190 dX20_isSo_198 rfl
theorem u190_198 : ev d 190 198 lo st h = evI d 190 198 199 lo st h .isub := ev_u n190_198 rfl
theorem n190_199 : mx_ins 190 199 = some (.iaload, 1) := mx_ins_of mi190 dX20_isSo_199 rfl
theorem u190_199 : ev d 190 199 lo st h = evI d 190 199 200 lo st h .iaload := ev_u n190_199 rfl
theorem n190_200 : mx_ins 190 200 = some ((.goto 9), 3) := mx_ins_of mi190 dX20_isSo_200 rfl
theorem u190_200 : ev d 190 200 lo st h = ev d 190 209 lo st h := ev_goto n190_200 rfl
theorem n190_203 : mx_ins 190 203 = some ((.aload_n 1), 1) := mx_ins_of mi190 dX20_isSo_203 rfl
theorem u190_203 : ev d 190 203 lo st h = evS (mx_ldA 1) d 190 204 lo st h := ev_s n190_203 rfl rfl
theorem n190_204 : mx_ins 190 204 = some ((.iload 5), 2) := mx_ins_of mi190 dX20_isSo_204 rfl
theorem u190_204 : ev d 190 204 lo st h = evS (mx_ldI 5) d 190 206 lo st h := ev_s n190_204 rfl rfl
theorem n190_206 : mx_ins 190 206 = some ((.iconst 2), 1) := mx_ins_of mi190 dX20_isSo_206 rfl
theorem u190_206 : ev d 190 206 lo st h = ev d 190 207 lo (.int 2 :: st) h := (ev_s (f := mx_push (.int 2)) n190_206 rfl rfl).trans es_push
theorem n190_207 : mx_ins 190 207 = some (.iadd, 1) := mx_ins_of mi190 dX20_isSo_207 rfl
theorem u190_207 : ev d 190 207 lo st h = evI d 190 207 208 lo st h .iadd := ev_u n190_207 rfl
theorem n190_208 : mx_ins 190 208 = some (.iaload, 1) := mx_ins_of mi190 dX20_isSo_208 rfl
theorem u190_208 : ev d 190 208 lo st h = evI d 190 208 209 lo st h .iaload := ev_u n190_208 rfl
theorem n190_209 : mx_ins 190 209 = some ((.istore 8), 2) := mx_ins_of mi190 dX20_isSo_209 rfl
theorem u190_209 : ev d 190 209 lo st h = evS (mx_stI 8) d 190 211 lo st h := ev_s n190_209 rfl rfl
theorem n190_211 : mx_ins 190 211 = some ((.aload_n 0), 1) := mx_ins_of mi190 dX20_isSo_211 rfl
theorem u190_211 : ev d 190 211 lo st h = evS (mx_ldA 0) d 190 212 lo st h := ev_s n190_211 rfl rfl
theorem n190_212 : mx_ins 190 212 = some ((.getfield 59), 3) := mx_ins_of mi190 dX20_isSo_212 rfl
theorem u190_212 : ev d 190 212 lo st h = evS (mx_gf 20 59) d 190 215 lo st h := ev_s n190_212 rfl rfl
theorem n190_215 : mx_ins 190 215 = some ((.iload 4), 2) := mx_ins_of mi190 dX20_isSo_215 rfl
theorem u190_215 : ev d 190 215 lo st h = evS (mx_ldI 4) d 190 217 lo st h := ev_s n190_215 rfl rfl
theorem n190_217 : mx_ins 190 217 = some ((.aload_n 1), 1) := mx_ins_of mi190 dX20_isSo_217 rfl
theorem u190_217 : ev d 190 217 lo st h = evS (mx_ldA 1) d 190 218 lo st h := ev_s n190_217 rfl rfl
theorem n190_218 : mx_ins 190 218 = some ((.iload 5), 2) := mx_ins_of mi190 dX20_isSo_218 rfl
theorem u190_218 : ev d 190 218 lo st h = evS (mx_ldI 5) d 190 220 lo st h := ev_s n190_218 rfl rfl
theorem n190_220 : mx_ins 190 220 = some ((.iconst 1), 1) := mx_ins_of mi190 dX20_isSo_220 rfl
theorem u190_220 : ev d 190 220 lo st h = ev d 190 221 lo (.int 1 :: st) h := (ev_s (f := mx_push (.int 1)) n190_220 rfl rfl).trans es_push
theorem n190_221 : mx_ins 190 221 = some (.iadd, 1) := mx_ins_of mi190 dX20_isSo_221 rfl
theorem u190_221 : ev d 190 221 lo st h = evI d 190 221 222 lo st h .iadd := ev_u n190_221 rfl
theorem n190_222 : mx_ins 190 222 = some (.iaload, 1) := mx_ins_of mi190 dX20_isSo_222 rfl
theorem u190_222 : ev d 190 222 lo st h = evI d 190 222 223 lo st h .iaload := ev_u n190_222 rfl
theorem n190_223 : mx_ins 190 223 = some ((.bipush 60), 2) := mx_ins_of mi190 dX20_isSo_223 rfl
theorem u190_223 : ev d 190 223 lo st h = ev d 190 225 lo (.int 60 :: st) h := (ev_s (f := mx_push (.int 60)) n190_223 rfl rfl).trans es_push
theorem n190_225 : mx_ins 190 225 = some ((.if_icmp .ne 18), 3) := mx_ins_of mi190 dX20_isSo_225 rfl
theorem u190_225 : ev d 190 225 lo st h = evK .ne d 190 243 228 lo st h := ev_ic n190_225 rfl rfl
theorem n190_228 : mx_ins 190 228 = some ((.iload 7), 2) := mx_ins_of mi190 dX20_isSo_228 rfl
theorem u190_228 : ev d 190 228 lo st h = evS (mx_ldI 7) d 190 230 lo st h := ev_s n190_228 rfl rfl
theorem n190_230 : mx_ins 190 230 = some ((.iload 8), 2) := mx_ins_of mi190 dX20_isSo_230 rfl
theorem u190_230 : ev d 190 230 lo st h = evS (mx_ldI 8) d 190 232 lo st h := ev_s n190_230 rfl rfl
theorem n190_232 : mx_ins 190 232 = some ((.if_icmp .ge 7), 3) := mx_ins_of mi190 dX20_isSo_232 rfl
theorem u190_232 : ev d 190 232 lo st h = evK .ge d 190 239 235 lo st h := ev_ic n190_232 rfl rfl
theorem n190_235 : mx_ins 190 235 = some ((.iconst 1), 1) := mx_ins_of mi190 dX20_isSo_235 rfl
theorem u190_235 : ev d 190 235 lo st h = ev d 190 236 lo (.int 1 :: st) h := (ev_s (f := mx_push (.int 1)) n190_235 rfl rfl).trans es_push
theorem n190_236 : mx_ins 190 236 = some ((.goto 45), 3) := mx_ins_of mi190 dX20_isSo_236 rfl
theorem u190_236 : ev d 190 236 lo st h = ev d 190 281 lo st h := ev_goto n190_236 rfl
theorem n190_239 : mx_ins 190 239 = some ((.iconst 0), 1) := mx_ins_of mi190 dX20_isSo_239 rfl
theorem u190_239 : ev d 190 239 lo st h = ev d 190 240 lo (.int 0 :: st) h := (ev_s (f := mx_push (.int 0)) n190_239 rfl rfl).trans es_push
theorem n190_240 : mx_ins 190 240 = some ((.goto 41), 3) := mx_ins_of mi190 dX20_isSo_240 rfl
theorem u190_240 : ev d 190 240 lo st h = ev d 190 281 lo st h := ev_goto n190_240 rfl
theorem n190_243 : mx_ins 190 243 = some ((.aload_n 1), 1) := mx_ins_of mi190 dX20_isSo_243 rfl
theorem u190_243 : ev d 190 243 lo st h = evS (mx_ldA 1) d 190 244 lo st h := ev_s n190_243 rfl rfl
theorem n190_244 : mx_ins 190 244 = some ((.iload 5), 2) := mx_ins_of mi190 dX20_isSo_244 rfl
theorem u190_244 : ev d 190 244 lo st h = evS (mx_ldI 5) d 190 246 lo st h := ev_s n190_244 rfl rfl
theorem n190_246 : mx_ins 190 246 = some ((.iconst 1), 1) := mx_ins_of mi190 dX20_isSo_246 rfl
theorem u190_246 : ev d 190 246 lo st h = ev d 190 247 lo (.int 1 :: st) h := (ev_s (f := mx_push (.int 1)) n190_246 rfl rfl).trans es_push
theorem n190_247 : mx_ins 190 247 = some (.iadd, 1) := mx_ins_of mi190 dX20_isSo_247 rfl
theorem u190_247 : ev d 190 247 lo st h = evI d 190 247 248 lo st h .iadd := ev_u n190_247 rfl
theorem n190_248 : mx_ins 190 248 = some (.iaload, 1) := mx_ins_of mi190 dX20_isSo_248 rfl
theorem u190_248 : ev d 190 248 lo st h = evI d 190 248 249 lo st h .iaload := ev_u n190_248 rfl
theorem n190_249 : mx_ins 190 249 = some ((.bipush 61), 2) := mx_ins_of mi190 dX20_isSo_249 rfl
theorem u190_249 : ev d 190 249 lo st h = ev d 190 251 lo (.int 61 :: st) h := (ev_s (f := mx_push (.int 61)) n190_249 rfl rfl).trans es_push
theorem n190_251 : mx_ins 190 251 = some ((.if_icmp .ne 18), 3) := mx_ins_of mi190 dX20_isSo_251 rfl
theorem u190_251 : ev d 190 251 lo st h = evK .ne d 190 269 254 lo st h := ev_ic n190_251 rfl rfl
theorem n190_254 : mx_ins 190 254 = some ((.iload 7), 2) := mx_ins_of mi190 dX20_isSo_254 rfl
theorem u190_254 : ev d 190 254 lo st h = evS (mx_ldI 7) d 190 256 lo st h := ev_s n190_254 rfl rfl
theorem n190_256 : mx_ins 190 256 = some ((.iload 8), 2) := mx_ins_of mi190 dX20_isSo_256 rfl
theorem u190_256 : ev d 190 256 lo st h = evS (mx_ldI 8) d 190 258 lo st h := ev_s n190_256 rfl rfl
theorem n190_258 : mx_ins 190 258 = some ((.if_icmp .ne 7), 3) := mx_ins_of mi190 dX20_isSo_258 rfl
theorem u190_258 : ev d 190 258 lo st h = evK .ne d 190 265 261 lo st h := ev_ic n190_258 rfl rfl
theorem n190_261 : mx_ins 190 261 = some ((.iconst 1), 1) := mx_ins_of mi190 dX20_isSo_261 rfl
theorem u190_261 : ev d 190 261 lo st h = ev d 190 262 lo (.int 1 :: st) h := (ev_s (f := mx_push (.int 1)) n190_261 rfl rfl).trans es_push
theorem n190_262 : mx_ins 190 262 = some ((.goto 19), 3) := mx_ins_of mi190 dX20_isSo_262 rfl
theorem u190_262 : ev d 190 262 lo st h = ev d 190 281 lo st h := ev_goto n190_262 rfl
theorem n190_265 : mx_ins 190 265 = some ((.iconst 0), 1) := mx_ins_of mi190 dX20_isSo_265 rfl
theorem u190_265 : ev d 190 265 lo st h = ev d 190 266 lo (.int 0 :: st) h := (ev_s (f := mx_push (.int 0)) n190_265 rfl rfl).trans es_push
theorem n190_266 : mx_ins 190 266 = some ((.goto 15), 3) := mx_ins_of mi190 dX20_isSo_266 rfl
theorem u190_266 : ev d 190 266 lo st h = ev d 190 281 lo st h := ev_goto n190_266 rfl
theorem n190_269 : mx_ins 190 269 = some ((.iload 7), 2) := mx_ins_of mi190 dX20_isSo_269 rfl
theorem u190_269 : ev d 190 269 lo st h = evS (mx_ldI 7) d 190 271 lo st h := ev_s n190_269 rfl rfl
theorem n190_271 : mx_ins 190 271 = some ((.iload 8), 2) := mx_ins_of mi190 dX20_isSo_271 rfl
theorem u190_271 : ev d 190 271 lo st h = evS (mx_ldI 8) d 190 273 lo st h := ev_s n190_271 rfl rfl
theorem n190_273 : mx_ins 190 273 = some ((.if_icmp .le 7), 3) := mx_ins_of mi190 dX20_isSo_273 rfl
theorem u190_273 : ev d 190 273 lo st h = evK .le d 190 280 276 lo st h := ev_ic n190_273 rfl rfl
theorem n190_276 : mx_ins 190 276 = some ((.iconst 1), 1) := mx_ins_of mi190 dX20_isSo_276 rfl
theorem u190_276 : ev d 190 276 lo st h = ev d 190 277 lo (.int 1 :: st) h := (ev_s (f := mx_push (.int 1)) n190_276 rfl rfl).trans es_push
theorem n190_277 : mx_ins 190 277 = some ((.goto 4), 3) := mx_ins_of mi190 dX20_isSo_277 rfl
theorem u190_277 : ev d 190 277 lo st h = ev d 190 281 lo st h := ev_goto n190_277 rfl
theorem n190_280 : mx_ins 190 280 = some ((.iconst 0), 1) := mx_ins_of mi190 dX20_isSo_280 rfl
theorem u190_280 : ev d 190 280 lo st h = ev d 190 281 lo (.int 0 :: st) h := (ev_s (f := mx_push (.int 0)) n190_280 rfl rfl).trans es_push
theorem n190_281 : mx_ins 190 281 = some (.bastore, 1) := mx_ins_of mi190 dX20_isSo_281 rfl
theorem u190_281 : ev d 190 281 lo st h = evI d 190 281 282 lo st h .bastore := ev_u n190_281 rfl
theorem n190_282 : mx_ins 190 282 = some ((.iinc 4 1), 3) := mx_ins_of mi190 dX20_isSo_282 rfl
theorem u190_282 : ev d 190 282 lo st h = evS (mx_inc 4 (1)) d 190 285 lo st h := ev_s n190_282 rfl rfl
theorem n190_285 : mx_ins 190 285 = some ((.iinc 5 2), 3) := mx_ins_of mi190 dX20_isSo_285 rfl
theorem u190_285 : ev d 190 285 lo st h = evS (mx_inc 5 (2)) d 190 288 lo st h := ev_s n190_285 rfl rfl
theorem n190_288 : mx_ins 190 288 = some ((.iinc 5 1), 3) := mx_ins_of mi190 dX20_isSo_288 rfl
theorem u190_288 : ev d 190 288 lo st h = evS (mx_inc 5 (1)) d 190 291 lo st h := ev_s n190_288 rfl rfl
theorem n190_291 : mx_ins 190 291 = some ((.goto (-285)), 3) := mx_ins_of mi190 dX20_isSo_291 rfl
theorem u190_291 : ev d 190 291 lo st h = ev d 190 6 lo st h := ev_goto n190_291 rfl
theorem n190_294 : mx_ins 190 294 = some ((.iload 4), 2) := mx_ins_of mi190 dX20_isSo_294 rfl
theorem u190_294 : ev d 190 294 lo st h = evS (mx_ldI 4) d 190 296 lo st h := ev_s n190_294 rfl rfl
theorem n190_296 : mx_ins 190 296 = some ((.ifCond .eq 12), 3) := mx_ins_of mi190 dX20_isSo_296 rfl
theorem u190_296 : ev d 190 296 lo st h = evJ .eq d 190 308 299 lo st h := ev_if n190_296 rfl rfl
theorem n190_299 : mx_ins 190 299 = some ((.aload_n 0), 1) := mx_ins_of mi190 dX20_isSo_299 rfl
theorem u190_299 : ev d 190 299 lo st h = evS (mx_ldA 0) d 190 300 lo st h := ev_s n190_299 rfl rfl
theorem n190_300 : mx_ins 190 300 = some ((.getfield 59), 3) := mx_ins_of mi190 dX20_isSo_300 rfl
theorem u190_300 : ev d 190 300 lo st h = evS (mx_gf 20 59) d 190 303 lo st h := ev_s n190_300 rfl rfl
theorem n190_303 : mx_ins 190 303 = some ((.iconst 0), 1) := mx_ins_of mi190 dX20_isSo_303 rfl
theorem u190_303 : ev d 190 303 lo st h = ev d 190 304 lo (.int 0 :: st) h := (ev_s (f := mx_push (.int 0)) n190_303 rfl rfl).trans es_push
theorem n190_304 : mx_ins 190 304 = some (.baload, 1) := mx_ins_of mi190 dX20_isSo_304 rfl
theorem u190_304 : ev d 190 304 lo st h = evI d 190 304 305 lo st h .baload := ev_u n190_304 rfl
theorem n190_305 : mx_ins 190 305 = some ((.ifCond .eq 7), 3) := mx_ins_of mi190 dX20_isSo_305 rfl
theorem u190_305 : ev d 190 305 lo st h = evJ .eq d 190 312 308 lo st h := ev_if n190_305 rfl rfl
theorem n190_308 : mx_ins 190 308 = some ((.iconst 1), 1) := mx_ins_of mi190 dX20_isSo_308 rfl
theorem u190_308 : ev d 190 308 lo st h = ev d 190 309 lo (.int 1 :: st) h := (ev_s (f := mx_push (.int 1)) n190_308 rfl rfl).trans es_push
theorem n190_309 : mx_ins 190 309 = some ((.goto 4), 3) := mx_ins_of mi190 dX20_isSo_309 rfl
theorem u190_309 : ev d 190 309 lo st h = ev d 190 313 lo st h := ev_goto n190_309 rfl
theorem n190_312 : mx_ins 190 312 = some ((.iconst 0), 1) := mx_ins_of mi190 dX20_isSo_312 rfl
theorem u190_312 : ev d 190 312 lo st h = ev d 190 313 lo (.int 0 :: st) h := (ev_s (f := mx_push (.int 0)) n190_312 rfl rfl).trans es_push
theorem n190_313 : mx_ins 190 313 = some (.ireturn, 1) := mx_ins_of mi190 dX20_isSo_313 rfl
theorem u190_313 : ev d 190 313 lo st h = evI d 190 313 314 lo st h .ireturn := ev_u n190_313 rfl
theorem mi191 : mx_mi 191 = some (yX20_lie, cX20_lie, 1, (Option.some Jvm.ClassFile.FieldType.int), 20, 1, []) := rfl
theorem ow191 : mx_own 191 = 20 := mx_mi_own mi191
theorem mm191 : mx_max 191 = 1 := mx_mi_max mi191
theorem rt191 : mx_ret 191 = (Option.some Jvm.ClassFile.FieldType.int) := mx_mi_ret mi191
theorem hn191 : mx_hnd 191 = [] := mx_mi_hnd mi191
theorem n191_0 : mx_ins 191 0 = some ((.aload_n 0), 1) := mx_ins_of mi191 dX20_lie_0 rfl
theorem u191_0 : ev d 191 0 lo st h = evS (mx_ldA 0) d 191 1 lo st h := ev_s n191_0 rfl rfl
theorem n191_1 : mx_ins 191 1 = some ((.invokevirtual 292), 3) := mx_ins_of mi191 dX20_lie_1 rfl
theorem u191_1 : ev d 191 1 lo st h = evIn d 191 1 4 20 292 1 false lo st h := ev_inv n191_1 rfl rfl ow191 ia20_292
theorem n191_4 : mx_ins 191 4 = some ((.aload_n 0), 1) := mx_ins_of mi191 dX20_lie_4 rfl
theorem u191_4 : ev d 191 4 lo st h = evS (mx_ldA 0) d 191 5 lo st h := ev_s n191_4 rfl rfl
theorem n191_5 : mx_ins 191 5 = some ((.getfield 289), 3) := mx_ins_of mi191 dX20_lie_5 rfl
theorem u191_5 : ev d 191 5 lo st h = evS (mx_gf 20 289) d 191 8 lo st h := ev_s n191_5 rfl rfl
theorem n191_8 : mx_ins 191 8 = some (.ireturn, 1) := mx_ins_of mi191 dX20_lie_8 rfl
theorem u191_8 : ev d 191 8 lo st h = evI d 191 8 9 lo st h .ireturn := ev_u n191_8 rfl
theorem mi192 : mx_mi 192 = some (yX20_lies, cX20_lies, 5, (none : Option FieldType), 20, 1, []) := rfl
theorem ow192 : mx_own 192 = 20 := mx_mi_own mi192
theorem mm192 : mx_max 192 = 5 := mx_mi_max mi192
theorem rt192 : mx_ret 192 = (none : Option FieldType) := mx_mi_ret mi192
theorem hn192 : mx_hnd 192 = [] := mx_mi_hnd mi192
theorem n192_0 : mx_ins 192 0 = some ((.aload_n 0), 1) := mx_ins_of mi192 dX20_lies_0 rfl
theorem u192_0 : ev d 192 0 lo st h = evS (mx_ldA 0) d 192 1 lo st h := ev_s n192_0 rfl rfl
theorem n192_1 : mx_ins 192 1 = some ((.invokevirtual 260), 3) := mx_ins_of mi192 dX20_lies_1 rfl
theorem u192_1 : ev d 192 1 lo st h = evIn d 192 1 4 20 260 1 false lo st h := ev_inv n192_1 rfl rfl ow192 ia20_260
theorem n192_4 : mx_ins 192 4 = some ((.istore_n 1), 1) := mx_ins_of mi192 dX20_lies_4 rfl
theorem u192_4 : ev d 192 4 lo st h = evS (mx_stI 1) d 192 5 lo st h := ev_s n192_4 rfl rfl
theorem n192_5 : mx_ins 192 5 = some ((.aload_n 0), 1) := mx_ins_of mi192 dX20_lies_5 rfl
theorem u192_5 : ev d 192 5 lo st h = evS (mx_ldA 0) d 192 6 lo st h := ev_s n192_5 rfl rfl
theorem n192_6 : mx_ins 192 6 = some ((.iconst 0), 1) := mx_ins_of mi192 dX20_lies_6 rfl
theorem u192_6 : ev d 192 6 lo st h = ev d 192 7 lo (.int 0 :: st) h := (ev_s (f := mx_push (.int 0)) n192_6 rfl rfl).trans es_push
theorem n192_7 : mx_ins 192 7 = some ((.putfield 289), 3) := mx_ins_of mi192 dX20_lies_7 rfl
theorem u192_7 : ev d 192 7 lo st h = evS (mx_pf 20 289 false) d 192 10 lo st h := ev_s n192_7 rfl rfl
theorem n192_10 : mx_ins 192 10 = some ((.iconst 1), 1) := mx_ins_of mi192 dX20_lies_10 rfl
theorem u192_10 : ev d 192 10 lo st h = ev d 192 11 lo (.int 1 :: st) h := (ev_s (f := mx_push (.int 1)) n192_10 rfl rfl).trans es_push
theorem n192_11 : mx_ins 192 11 = some ((.istore_n 2), 1) := mx_ins_of mi192 dX20_lies_11 rfl
theorem u192_11 : ev d 192 11 lo st h = evS (mx_stI 2) d 192 12 lo st h := ev_s n192_11 rfl rfl
theorem n192_12 : mx_ins 192 12 = some ((.iload_n 2), 1) := mx_ins_of mi192 dX20_lies_12 rfl
theorem u192_12 : ev d 192 12 lo st h = evS (mx_ldI 2) d 192 13 lo st h := ev_s n192_12 rfl rfl
theorem n192_13 : mx_ins 192 13 = some ((.ifCond .eq 166), 3) := mx_ins_of mi192 dX20_lies_13 rfl
theorem u192_13 : ev d 192 13 lo st h = evJ .eq d 192 179 16 lo st h := ev_if n192_13 rfl rfl
theorem n192_16 : mx_ins 192 16 = some ((.aload_n 0), 1) := mx_ins_of mi192 dX20_lies_16 rfl
theorem u192_16 : ev d 192 16 lo st h = evS (mx_ldA 0) d 192 17 lo st h := ev_s n192_16 rfl rfl
theorem n192_17 : mx_ins 192 17 = some ((.invokevirtual 263), 3) := mx_ins_of mi192 dX20_lies_17 rfl
theorem u192_17 : ev d 192 17 lo st h = evIn d 192 17 20 20 263 1 false lo st h := ev_inv n192_17 rfl rfl ow192 ia20_263
theorem n192_20 : mx_ins 192 20 = some ((.ifCond .eq 159), 3) := mx_ins_of mi192 dX20_lies_20 rfl
theorem u192_20 : ev d 192 20 lo st h = evJ .eq d 192 179 23 lo st h := ev_if n192_20 rfl rfl
theorem n192_23 : mx_ins 192 23 = some ((.aload_n 0), 1) := mx_ins_of mi192 dX20_lies_23 rfl
theorem u192_23 : ev d 192 23 lo st h = evS (mx_ldA 0) d 192 24 lo st h := ev_s n192_23 rfl rfl
theorem n192_24 : mx_ins 192 24 = some ((.bipush 6), 2) := mx_ins_of mi192 dX20_lies_24 rfl
theorem u192_24 : ev d 192 24 lo st h = ev d 192 26 lo (.int 6 :: st) h := (ev_s (f := mx_push (.int 6)) n192_24 rfl rfl).trans es_push
theorem n192_26 : mx_ins 192 26 = some ((.invokevirtual 255), 3) := mx_ins_of mi192 dX20_lies_26 rfl
theorem u192_26 : ev d 192 26 lo st h = evIn d 192 26 29 20 255 2 false lo st h := ev_inv n192_26 rfl rfl ow192 ia20_255
theorem n192_29 : mx_ins 192 29 = some ((.bipush 24), 2) := mx_ins_of mi192 dX20_lies_29 rfl
theorem u192_29 : ev d 192 29 lo st h = ev d 192 31 lo (.int 24 :: st) h := (ev_s (f := mx_push (.int 24)) n192_29 rfl rfl).trans es_push
theorem n192_31 : mx_ins 192 31 = some ((.if_icmp .ge 148), 3) := mx_ins_of mi192 dX20_lies_31 rfl
theorem u192_31 : ev d 192 31 lo st h = evK .ge d 192 179 34 lo st h := ev_ic n192_31 rfl rfl
theorem n192_34 : mx_ins 192 34 = some ((.aload_n 0), 1) := mx_ins_of mi192 dX20_lies_34 rfl
theorem u192_34 : ev d 192 34 lo st h = evS (mx_ldA 0) d 192 35 lo st h := ev_s n192_34 rfl rfl
theorem n192_35 : mx_ins 192 35 = some ((.iload_n 1), 1) := mx_ins_of mi192 dX20_lies_35 rfl
theorem u192_35 : ev d 192 35 lo st h = evS (mx_ldI 1) d 192 36 lo st h := ev_s n192_35 rfl rfl
theorem n192_36 : mx_ins 192 36 = some ((.invokevirtual 286), 3) := mx_ins_of mi192 dX20_lies_36 rfl
theorem u192_36 : ev d 192 36 lo st h = evIn d 192 36 39 20 286 2 false lo st h := ev_inv n192_36 rfl rfl ow192 ia20_286
theorem n192_39 : mx_ins 192 39 = some ((.istore_n 3), 1) := mx_ins_of mi192 dX20_lies_39 rfl
theorem u192_39 : ev d 192 39 lo st h = evS (mx_stI 3) d 192 40 lo st h := ev_s n192_39 rfl rfl
theorem n192_40 : mx_ins 192 40 = some ((.iload_n 3), 1) := mx_ins_of mi192 dX20_lies_40 rfl
theorem u192_40 : ev d 192 40 lo st h = evS (mx_ldI 3) d 192 41 lo st h := ev_s n192_40 rfl rfl
theorem n192_41 : mx_ins 192 41 = some ((.ifCond .ge 7), 3) := mx_ins_of mi192 dX20_lies_41 rfl
theorem u192_41 : ev d 192 41 lo st h = evJ .ge d 192 48 44 lo st h := ev_if n192_41 rfl rfl
theorem n192_44 : mx_ins 192 44 = some ((.iconst (-1)), 1) := mx_ins_of mi192 dX20_lies_44 rfl
theorem u192_44 : ev d 192 44 lo st h = ev d 192 45 lo (.int (-1) :: st) h := (ev_s (f := mx_push (.int (-1))) n192_44 rfl rfl).trans es_push
theorem n192_45 : mx_ins 192 45 = some ((.goto 19), 3) := mx_ins_of mi192 dX20_lies_45 rfl
theorem u192_45 : ev d 192 45 lo st h = ev d 192 64 lo st h := ev_goto n192_45 rfl
theorem n192_48 : mx_ins 192 48 = some ((.aload_n 0), 1) := mx_ins_of mi192 dX20_lies_48 rfl
theorem u192_48 : ev d 192 48 lo st h = evS (mx_ldA 0) d 192 49 lo st h := ev_s n192_48 rfl rfl
theorem n192_49 : mx_ins 192 49 = some ((.getfield 37), 3) := mx_ins_of mi192 dX20_lies_49 rfl
theorem u192_49 : ev d 192 49 lo st h = evS (mx_gf 20 37) d 192 52 lo st h := ev_s n192_49 rfl rfl
theorem n192_52 : mx_ins 192 52 = some ((.iconst 3), 1) := mx_ins_of mi192 dX20_lies_52 rfl
theorem u192_52 : ev d 192 52 lo st h = ev d 192 53 lo (.int 3 :: st) h := (ev_s (f := mx_push (.int 3)) n192_52 rfl rfl).trans es_push
theorem n192_53 : mx_ins 192 53 = some ((.iload_n 3), 1) := mx_ins_of mi192 dX20_lies_53 rfl
theorem u192_53 : ev d 192 53 lo st h = evS (mx_ldI 3) d 192 54 lo st h := ev_s n192_53 rfl rfl
theorem n192_54 : mx_ins 192 54 = some ((.ifCond .ge 7), 3) := mx_ins_of mi192 dX20_lies_54 rfl
theorem u192_54 : ev d 192 54 lo st h = evJ .ge d 192 61 57 lo st h := ev_if n192_54 rfl rfl
theorem n192_57 : mx_ins 192 57 = some ((.iconst 0), 1) := mx_ins_of mi192 dX20_lies_57 rfl
theorem u192_57 : ev d 192 57 lo st h = ev d 192 58 lo (.int 0 :: st) h := (ev_s (f := mx_push (.int 0)) n192_57 rfl rfl).trans es_push
theorem n192_58 : mx_ins 192 58 = some ((.goto 4), 3) := mx_ins_of mi192 dX20_lies_58 rfl
theorem u192_58 : ev d 192 58 lo st h = ev d 192 62 lo st h := ev_goto n192_58 rfl
theorem n192_61 : mx_ins 192 61 = some ((.iload_n 3), 1) := mx_ins_of mi192 dX20_lies_61 rfl
theorem u192_61 : ev d 192 61 lo st h = evS (mx_ldI 3) d 192 62 lo st h := ev_s n192_61 rfl rfl
theorem n192_62 : mx_ins 192 62 = some (.imul, 1) := mx_ins_of mi192 dX20_lies_62 rfl
theorem u192_62 : ev d 192 62 lo st h = evI d 192 62 63 lo st h .imul := ev_u n192_62 rfl
theorem n192_63 : mx_ins 192 63 = some (.iaload, 1) := mx_ins_of mi192 dX20_lies_63 rfl
theorem u192_63 : ev d 192 63 lo st h = evI d 192 63 64 lo st h .iaload := ev_u n192_63 rfl
theorem n192_64 : mx_ins 192 64 = some ((.istore 4), 2) := mx_ins_of mi192 dX20_lies_64 rfl
theorem u192_64 : ev d 192 64 lo st h = evS (mx_stI 4) d 192 66 lo st h := ev_s n192_64 rfl rfl
theorem n192_66 : mx_ins 192 66 = some ((.iload 4), 2) := mx_ins_of mi192 dX20_lies_66 rfl
theorem u192_66 : ev d 192 66 lo st h = evS (mx_ldI 4) d 192 68 lo st h := ev_s n192_66 rfl rfl
theorem n192_68 : mx_ins 192 68 = some ((.ifCond .le 18), 3) := mx_ins_of mi192 dX20_lies_68 rfl
theorem u192_68 : ev d 192 68 lo st h = evJ .le d 192 86 71 lo st h := ev_if n192_68 rfl rfl
theorem n192_71 : mx_ins 192 71 = some ((.aload_n 0), 1) := mx_ins_of mi192 dX20_lies_71 rfl
theorem u192_71 : ev d 192 71 lo st h = evS (mx_ldA 0) d 192 72 lo st h := ev_s n192_71 rfl rfl
theorem n192_72 : mx_ins 192 72 = some ((.getfield 7), 3) := mx_ins_of mi192 dX20_lies_72 rfl
theorem u192_72 : ev d 192 72 lo st h = evS (mx_gf 20 7) d 192 75 lo st h := ev_s n192_72 rfl rfl
theorem n192_75 : mx_ins 192 75 = some ((.aload_n 0), 1) := mx_ins_of mi192 dX20_lies_75 rfl
theorem u192_75 : ev d 192 75 lo st h = evS (mx_ldA 0) d 192 76 lo st h := ev_s n192_75 rfl rfl
theorem n192_76 : mx_ins 192 76 = some ((.getfield 104), 3) := mx_ins_of mi192 dX20_lies_76 rfl
theorem u192_76 : ev d 192 76 lo st h = evS (mx_gf 20 104) d 192 79 lo st h := ev_s n192_76 rfl rfl
theorem n192_79 : mx_ins 192 79 = some ((.iconst 5), 1) := mx_ins_of mi192 dX20_lies_79 rfl
theorem u192_79 : ev d 192 79 lo st h = ev d 192 80 lo (.int 5 :: st) h := (ev_s (f := mx_push (.int 5)) n192_79 rfl rfl).trans es_push
theorem n192_80 : mx_ins 192 80 = some (.iadd, 1) := mx_ins_of mi192 dX20_lies_80 rfl
theorem u192_80 : ev d 192 80 lo st h = evI d 192 80 81 lo st h .iadd := ev_u n192_80 rfl
theorem n192_81 : mx_ins 192 81 = some ((.iload 4), 2) := mx_ins_of mi192 dX20_lies_81 rfl
theorem u192_81 : ev d 192 81 lo st h = evS (mx_ldI 4) d 192 83 lo st h := ev_s n192_81 rfl rfl
theorem n192_83 : mx_ins 192 83 = some ((.iconst 1), 1) := mx_ins_of mi192 dX20_lies_83 rfl
theorem u192_83 : ev d 192 83 lo st h = ev d 192 84 lo (.int 1 :: st) h := (ev_s (f := mx_push (.int 1)) n192_83 rfl rfl).trans es_push
theorem n192_84 : mx_ins 192 84 = some (.isub, 1) := mx_ins_of mi192 dX20_lies_84 rfl
theorem u192_84 : ev d 192 84 lo st h = evI d 192 84 85 lo st h .isub := ev_u n192_84 rfl
theorem n192_85 : mx_ins 192 85 = some (.iastore, 1) := mx_ins_of mi192 dX20_lies_85 rfl
theorem u192_85 : ev d 192 85 lo st h = evI d 192 85 86 lo st h .iastore := ev_u n192_85 rfl
theorem n192_86 : mx_ins 192 86 = some ((.iload 4), 2) := mx_ins_of mi192 dX20_lies_86 rfl
theorem u192_86 : ev d 192 86 lo st h = evS (mx_ldI 4) d 192 88 lo st h := ev_s n192_86 rfl rfl
theorem n192_88 : mx_ins 192 88 = some ((.ifCond .eq 7), 3) := mx_ins_of mi192 dX20_lies_88 rfl
theorem u192_88 : ev d 192 88 lo st h = evJ .eq d 192 95 91 lo st h := ev_if n192_88 rfl rfl
theorem n192_91 : mx_ins 192 91 = some ((.iconst 1), 1) := mx_ins_of mi192 dX20_lies_91 rfl
theorem u192_91 : ev d 192 91 lo st h = ev d 192 92 lo (.int 1 :: st) h := (ev_s (f := mx_push (.int 1)) n192_91 rfl rfl).trans es_push
theorem n192_92 : mx_ins 192 92 = some ((.goto 4), 3) := mx_ins_of mi192 dX20_lies_92 rfl
theorem u192_92 : ev d 192 92 lo st h = ev d 192 96 lo st h := ev_goto n192_92 rfl
theorem n192_95 : mx_ins 192 95 = some ((.iconst 0), 1) := mx_ins_of mi192 dX20_lies_95 rfl
theorem u192_95 : ev d 192 95 lo st h = ev d 192 96 lo (.int 0 :: st) h := (ev_s (f := mx_push (.int 0)) n192_95 rfl rfl).trans es_push
theorem n192_96 : mx_ins 192 96 = some ((.istore_n 2), 1) := mx_ins_of mi192 dX20_lies_96 rfl
theorem u192_96 : ev d 192 96 lo st h = evS (mx_stI 2) d 192 97 lo st h := ev_s n192_96 rfl rfl
theorem n192_97 : mx_ins 192 97 = some ((.iload_n 2), 1) := mx_ins_of mi192 dX20_lies_97 rfl
theorem u192_97 : ev d 192 97 lo st h = evS (mx_ldI 2) d 192 98 lo st h := ev_s n192_97 rfl rfl
theorem n192_98 : mx_ins 192 98 = some ((.ifCond .eq 78), 3) := mx_ins_of mi192 dX20_lies_98 rfl
theorem u192_98 : ev d 192 98 lo st h = evJ .eq d 192 176 101 lo st h := ev_if n192_98 rfl rfl
theorem n192_101 : mx_ins 192 101 = some ((.aload_n 0), 1) := mx_ins_of mi192 dX20_lies_101 rfl
theorem u192_101 : ev d 192 101 lo st h = evS (mx_ldA 0) d 192 102 lo st h := ev_s n192_101 rfl rfl
theorem n192_102 : mx_ins 192 102 = some ((.getfield 66), 3) := mx_ins_of mi192 dX20_lies_102 rfl
theorem u192_102 : ev d 192 102 lo st h = evS (mx_gf 20 66) d 192 105 lo st h := ev_s n192_102 rfl rfl
theorem n192_105 : mx_ins 192 105 = some ((.iconst 3), 1) := mx_ins_of mi192 dX20_lies_105 rfl
theorem u192_105 : ev d 192 105 lo st h = ev d 192 106 lo (.int 3 :: st) h := (ev_s (f := mx_push (.int 3)) n192_105 rfl rfl).trans es_push
theorem n192_106 : mx_ins 192 106 = some ((.aload_n 0), 1) := mx_ins_of mi192 dX20_lies_106 rfl
theorem u192_106 : ev d 192 106 lo st h = evS (mx_ldA 0) d 192 107 lo st h := ev_s n192_106 rfl rfl
theorem n192_107 : mx_ins 192 107 = some ((.getfield 289), 3) := mx_ins_of mi192 dX20_lies_107 rfl
theorem u192_107 : ev d 192 107 lo st h = evS (mx_gf 20 289) d 192 110 lo st h := ev_s n192_107 rfl rfl
theorem n192_110 : mx_ins 192 110 = some (.imul, 1) := mx_ins_of mi192 dX20_lies_110 rfl
theorem u192_110 : ev d 192 110 lo st h = evI d 192 110 111 lo st h .imul := ev_u n192_110 rfl
theorem n192_111 : mx_ins 192 111 = some ((.aload_n 0), 1) := mx_ins_of mi192 dX20_lies_111 rfl
theorem u192_111 : ev d 192 111 lo st h = evS (mx_ldA 0) d 192 112 lo st h := ev_s n192_111 rfl rfl
theorem n192_112 : mx_ins 192 112 = some ((.iconst 5), 1) := mx_ins_of mi192 dX20_lies_112 rfl
theorem u192_112 : ev d 192 112 lo st h = ev d 192 113 lo (.int 5 :: st) h := (ev_s (f := mx_push (.int 5)) n192_112 rfl rfl).trans es_push
theorem n192_113 : mx_ins 192 113 = some ((.invokevirtual 255), 3) := mx_ins_of mi192 dX20_lies_113 rfl
theorem u192_113 : ev d 192 113 lo st h = evIn d 192 113 116 20 255 2 false lo st h := ev_inv n192_113 rfl rfl ow192 ia20_255
theorem n192_116 : mx_ins 192 116 = some (.iastore, 1) := mx_ins_of mi192 dX20_lies_116 rfl
theorem u192_116 : ev d 192 116 lo st h = evI d 192 116 117 lo st h .iastore := ev_u n192_116 rfl
theorem n192_117 : mx_ins 192 117 = some ((.aload_n 0), 1) := mx_ins_of mi192 dX20_lies_117 rfl
theorem u192_117 : ev d 192 117 lo st h = evS (mx_ldA 0) d 192 118 lo st h := ev_s n192_117 rfl rfl
theorem n192_118 : mx_ins 192 118 = some ((.getfield 66), 3) := mx_ins_of mi192 dX20_lies_118 rfl
theorem u192_118 : ev d 192 118 lo st h = evS (mx_gf 20 66) d 192 121 lo st h := ev_s n192_118 rfl rfl
theorem n192_121 : mx_ins 192 121 = some ((.iconst 3), 1) := mx_ins_of mi192 dX20_lies_121 rfl
theorem u192_121 : ev d 192 121 lo st h = ev d 192 122 lo (.int 3 :: st) h := (ev_s (f := mx_push (.int 3)) n192_121 rfl rfl).trans es_push
theorem n192_122 : mx_ins 192 122 = some ((.aload_n 0), 1) := mx_ins_of mi192 dX20_lies_122 rfl
theorem u192_122 : ev d 192 122 lo st h = evS (mx_ldA 0) d 192 123 lo st h := ev_s n192_122 rfl rfl
theorem n192_123 : mx_ins 192 123 = some ((.getfield 289), 3) := mx_ins_of mi192 dX20_lies_123 rfl
theorem u192_123 : ev d 192 123 lo st h = evS (mx_gf 20 289) d 192 126 lo st h := ev_s n192_123 rfl rfl
theorem n192_126 : mx_ins 192 126 = some (.imul, 1) := mx_ins_of mi192 dX20_lies_126 rfl
theorem u192_126 : ev d 192 126 lo st h = evI d 192 126 127 lo st h .imul := ev_u n192_126 rfl
theorem n192_127 : mx_ins 192 127 = some ((.iconst 2), 1) := mx_ins_of mi192 dX20_lies_127 rfl
theorem u192_127 : ev d 192 127 lo st h = ev d 192 128 lo (.int 2 :: st) h := (ev_s (f := mx_push (.int 2)) n192_127 rfl rfl).trans es_push
theorem n192_128 : mx_ins 192 128 = some (.iadd, 1) := mx_ins_of mi192 dX20_lies_128 rfl
theorem u192_128 : ev d 192 128 lo st h = evI d 192 128 129 lo st h .iadd := ev_u n192_128 rfl
theorem n192_129 : mx_ins 192 129 = some ((.aload_n 0), 1) := mx_ins_of mi192 dX20_lies_129 rfl
theorem u192_129 : ev d 192 129 lo st h = evS (mx_ldA 0) d 192 130 lo st h := ev_s n192_129 rfl rfl
theorem n192_130 : mx_ins 192 130 = some ((.aload_n 0), 1) := mx_ins_of mi192 dX20_lies_130 rfl
theorem u192_130 : ev d 192 130 lo st h = evS (mx_ldA 0) d 192 131 lo st h := ev_s n192_130 rfl rfl
theorem n192_131 : mx_ins 192 131 = some ((.bipush 6), 2) := mx_ins_of mi192 dX20_lies_131 rfl
theorem u192_131 : ev d 192 131 lo st h = ev d 192 133 lo (.int 6 :: st) h := (ev_s (f := mx_push (.int 6)) n192_131 rfl rfl).trans es_push
theorem n192_133 : mx_ins 192 133 = some ((.invokevirtual 255), 3) := mx_ins_of mi192 dX20_lies_133 rfl
theorem u192_133 : ev d 192 133 lo st h = evIn d 192 133 136 20 255 2 false lo st h := ev_inv n192_133 rfl rfl ow192 ia20_255
theorem n192_136 : mx_ins 192 136 = some ((.aload_n 0), 1) := mx_ins_of mi192 dX20_lies_136 rfl
theorem u192_136 : ev d 192 136 lo st h = evS (mx_ldA 0) d 192 137 lo st h := ev_s n192_136 rfl rfl
theorem n192_137 : mx_ins 192 137 = some ((.iconst 5), 1) := mx_ins_of mi192 dX20_lies_137 rfl
theorem u192_137 : ev d 192 137 lo st h = ev d 192 138 lo (.int 5 :: st) h := (ev_s (f := mx_push (.int 5)) n192_137 rfl rfl).trans es_push
theorem n192_138 : mx_ins 192 138 = some ((.invokevirtual 255), 3) := mx_ins_of mi192 dX20_lies_138 rfl
theorem u192_138 : ev d 192 138 lo st h = evIn d 192 138 141 20 255 2 false lo st h := ev_inv n192_138 rfl rfl ow192 ia20_255
theorem n192_141 : mx_ins 192 141 = some ((.invokevirtual 249), 3) := mx_ins_of mi192 dX20_lies_141 rfl
theorem u192_141 : ev d 192 141 lo st h = evIn d 192 141 144 20 249 3 false lo st h := ev_inv n192_141 rfl rfl ow192 ia20_249
theorem n192_144 : mx_ins 192 144 = some (.iastore, 1) := mx_ins_of mi192 dX20_lies_144 rfl
theorem u192_144 : ev d 192 144 lo st h = evI d 192 144 145 lo st h .iastore := ev_u n192_144 rfl
theorem n192_145 : mx_ins 192 145 = some ((.aload_n 0), 1) := mx_ins_of mi192 dX20_lies_145 rfl
theorem u192_145 : ev d 192 145 lo st h = evS (mx_ldA 0) d 192 146 lo st h := ev_s n192_145 rfl rfl
theorem n192_146 : mx_ins 192 146 = some ((.invokevirtual 276), 3) := mx_ins_of mi192 dX20_lies_146 rfl
theorem u192_146 : ev d 192 146 lo st h = evIn d 192 146 149 20 276 1 false lo st h := ev_inv n192_146 rfl rfl ow192 ia20_276
theorem n192_149 : mx_ins 192 149 = some ((.aload_n 0), 1) := mx_ins_of mi192 dX20_lies_149 rfl
theorem u192_149 : ev d 192 149 lo st h = evS (mx_ldA 0) d 192 150 lo st h := ev_s n192_149 rfl rfl
theorem n192_150 : mx_ins 192 150 = some ((.getfield 66), 3) := mx_ins_of mi192 dX20_lies_150 rfl
theorem u192_150 : ev d 192 150 lo st h = evS (mx_gf 20 66) d 192 153 lo st h := ev_s n192_150 rfl rfl
theorem n192_153 : mx_ins 192 153 = some ((.iconst 3), 1) := mx_ins_of mi192 dX20_lies_153 rfl
theorem u192_153 : ev d 192 153 lo st h = ev d 192 154 lo (.int 3 :: st) h := (ev_s (f := mx_push (.int 3)) n192_153 rfl rfl).trans es_push
theorem n192_154 : mx_ins 192 154 = some ((.aload_n 0), 1) := mx_ins_of mi192 dX20_lies_154 rfl
theorem u192_154 : ev d 192 154 lo st h = evS (mx_ldA 0) d 192 155 lo st h := ev_s n192_154 rfl rfl
theorem n192_155 : mx_ins 192 155 = some ((.getfield 289), 3) := mx_ins_of mi192 dX20_lies_155 rfl
theorem u192_155 : ev d 192 155 lo st h = evS (mx_gf 20 289) d 192 158 lo st h := ev_s n192_155 rfl rfl
theorem n192_158 : mx_ins 192 158 = some (.imul, 1) := mx_ins_of mi192 dX20_lies_158 rfl
theorem u192_158 : ev d 192 158 lo st h = evI d 192 158 159 lo st h .imul := ev_u n192_158 rfl
theorem n192_159 : mx_ins 192 159 = some ((.iconst 1), 1) := mx_ins_of mi192 dX20_lies_159 rfl
theorem u192_159 : ev d 192 159 lo st h = ev d 192 160 lo (.int 1 :: st) h := (ev_s (f := mx_push (.int 1)) n192_159 rfl rfl).trans es_push
theorem n192_160 : mx_ins 192 160 = some (.iadd, 1) := mx_ins_of mi192 dX20_lies_160 rfl
theorem u192_160 : ev d 192 160 lo st h = evI d 192 160 161 lo st h .iadd := ev_u n192_160 rfl
theorem n192_161 : mx_ins 192 161 = some ((.aload_n 0), 1) := mx_ins_of mi192 dX20_lies_161 rfl
theorem u192_161 : ev d 192 161 lo st h = evS (mx_ldA 0) d 192 162 lo st h := ev_s n192_161 rfl rfl
theorem n192_162 : mx_ins 192 162 = some ((.invokevirtual 260), 3) := mx_ins_of mi192 dX20_lies_162 rfl
theorem u192_162 : ev d 192 162 lo st h = evIn d 192 162 165 20 260 1 false lo st h := ev_inv n192_162 rfl rfl ow192 ia20_260
theorem n192_165 : mx_ins 192 165 = some (.iastore, 1) := mx_ins_of mi192 dX20_lies_165 rfl
theorem u192_165 : ev d 192 165 lo st h = evI d 192 165 166 lo st h .iastore := ev_u n192_165 rfl
theorem n192_166 : mx_ins 192 166 = some ((.aload_n 0), 1) := mx_ins_of mi192 dX20_lies_166 rfl
theorem u192_166 : ev d 192 166 lo st h = evS (mx_ldA 0) d 192 167 lo st h := ev_s n192_166 rfl rfl
theorem n192_167 : mx_ins 192 167 = some (.dup, 1) := mx_ins_of mi192 dX20_lies_167 rfl
theorem u192_167 : ev d 192 167 lo st h = evI d 192 167 168 lo st h .dup := ev_u n192_167 rfl
theorem n192_168 : mx_ins 192 168 = some ((.getfield 289), 3) := mx_ins_of mi192 dX20_lies_168 rfl
theorem u192_168 : ev d 192 168 lo st h = evS (mx_gf 20 289) d 192 171 lo st h := ev_s n192_168 rfl rfl
theorem n192_171 : mx_ins 192 171 = some ((.iconst 1), 1) := mx_ins_of mi192 dX20_lies_171 rfl
theorem u192_171 : ev d 192 171 lo st h = ev d 192 172 lo (.int 1 :: st) h := (ev_s (f := mx_push (.int 1)) n192_171 rfl rfl).trans es_push
theorem n192_172 : mx_ins 192 172 = some (.iadd, 1) := mx_ins_of mi192 dX20_lies_172 rfl
theorem u192_172 : ev d 192 172 lo st h = evI d 192 172 173 lo st h .iadd := ev_u n192_172 rfl
theorem n192_173 : mx_ins 192 173 = some ((.putfield 289), 3) := mx_ins_of mi192 dX20_lies_173 rfl
theorem u192_173 : ev d 192 173 lo st h = evS (mx_pf 20 289 false) d 192 176 lo st h := ev_s n192_173 rfl rfl
theorem n192_176 : mx_ins 192 176 = some ((.goto (-164)), 3) := mx_ins_of mi192 dX20_lies_176 rfl
theorem u192_176 : ev d 192 176 lo st h = ev d 192 12 lo st h := ev_goto n192_176 rfl
theorem n192_179 : mx_ins 192 179 = some (.return_, 1) := mx_ins_of mi192 dX20_lies_179 rfl
theorem u192_179 : ev d 192 179 lo st h = evI d 192 179 180 lo st h .return_ := ev_u n192_179 rfl
theorem mi193 : mx_mi 193 = some (yX20_would, cX20_would, 4, (Option.some Jvm.ClassFile.FieldType.int), 20, 2, []) := rfl
theorem ow193 : mx_own 193 = 20 := mx_mi_own mi193
theorem mm193 : mx_max 193 = 4 := mx_mi_max mi193
theorem rt193 : mx_ret 193 = (Option.some Jvm.ClassFile.FieldType.int) := mx_mi_ret mi193
theorem hn193 : mx_hnd 193 = [] := mx_mi_hnd mi193
theorem n193_0 : mx_ins 193 0 = some ((.iload_n 1), 1) := mx_ins_of mi193 dX20_would_0 rfl
theorem u193_0 : ev d 193 0 lo st h = evS (mx_ldI 1) d 193 1 lo st h := ev_s n193_0 rfl rfl
theorem n193_1 : mx_ins 193 1 = some ((.iconst 0), 1) := mx_ins_of mi193 dX20_would_1 rfl
theorem u193_1 : ev d 193 1 lo st h = ev d 193 2 lo (.int 0 :: st) h := (ev_s (f := mx_push (.int 0)) n193_1 rfl rfl).trans es_push
theorem n193_2 : mx_ins 193 2 = some ((.iconst 4), 1) := mx_ins_of mi193 dX20_would_2 rfl
theorem u193_2 : ev d 193 2 lo st h = ev d 193 3 lo (.int 4 :: st) h := (ev_s (f := mx_push (.int 4)) n193_2 rfl rfl).trans es_push
theorem n193_3 : mx_ins 193 3 = some ((.invokestatic 100), 3) := mx_ins_of mi193 dX20_would_3 rfl
theorem u193_3 : ev d 193 3 lo st h = evIn d 193 3 6 20 100 3 true lo st h := ev_inv n193_3 rfl rfl ow193 ia20_100
theorem n193_6 : mx_ins 193 6 = some ((.ifCond .ne 5), 3) := mx_ins_of mi193 dX20_would_6 rfl
theorem u193_6 : ev d 193 6 lo st h = evJ .ne d 193 11 9 lo st h := ev_if n193_6 rfl rfl
theorem n193_9 : mx_ins 193 9 = some ((.iconst (-1)), 1) := mx_ins_of mi193 dX20_would_9 rfl
theorem u193_9 : ev d 193 9 lo st h = ev d 193 10 lo (.int (-1) :: st) h := (ev_s (f := mx_push (.int (-1))) n193_9 rfl rfl).trans es_push
theorem n193_10 : mx_ins 193 10 = some (.ireturn, 1) := mx_ins_of mi193 dX20_would_10 rfl
theorem u193_10 : ev d 193 10 lo st h = evI d 193 10 11 lo st h .ireturn := ev_u n193_10 rfl
theorem n193_11 : mx_ins 193 11 = some ((.aload_n 0), 1) := mx_ins_of mi193 dX20_would_11 rfl
theorem u193_11 : ev d 193 11 lo st h = evS (mx_ldA 0) d 193 12 lo st h := ev_s n193_11 rfl rfl
theorem n193_12 : mx_ins 193 12 = some ((.invokevirtual 260), 3) := mx_ins_of mi193 dX20_would_12 rfl
theorem u193_12 : ev d 193 12 lo st h = evIn d 193 12 15 20 260 1 false lo st h := ev_inv n193_12 rfl rfl ow193 ia20_260
theorem n193_15 : mx_ins 193 15 = some ((.istore_n 2), 1) := mx_ins_of mi193 dX20_would_15 rfl
theorem u193_15 : ev d 193 15 lo st h = evS (mx_stI 2) d 193 16 lo st h := ev_s n193_15 rfl rfl
theorem n193_16 : mx_ins 193 16 = some ((.aload_n 0), 1) := mx_ins_of mi193 dX20_would_16 rfl
theorem u193_16 : ev d 193 16 lo st h = evS (mx_ldA 0) d 193 17 lo st h := ev_s n193_16 rfl rfl
theorem n193_17 : mx_ins 193 17 = some ((.iconst 0), 1) := mx_ins_of mi193 dX20_would_17 rfl
theorem u193_17 : ev d 193 17 lo st h = ev d 193 18 lo (.int 0 :: st) h := (ev_s (f := mx_push (.int 0)) n193_17 rfl rfl).trans es_push
theorem n193_18 : mx_ins 193 18 = some ((.bipush 7), 2) := mx_ins_of mi193 dX20_would_18 rfl
theorem u193_18 : ev d 193 18 lo st h = ev d 193 20 lo (.int 7 :: st) h := (ev_s (f := mx_push (.int 7)) n193_18 rfl rfl).trans es_push
theorem n193_20 : mx_ins 193 20 = some ((.invokevirtual 295), 3) := mx_ins_of mi193 dX20_would_20 rfl
theorem u193_20 : ev d 193 20 lo st h = evIn d 193 20 23 20 295 3 false lo st h := ev_inv n193_20 rfl rfl ow193 ia20_295
theorem n193_23 : mx_ins 193 23 = some ((.aload_n 0), 1) := mx_ins_of mi193 dX20_would_23 rfl
theorem u193_23 : ev d 193 23 lo st h = evS (mx_ldA 0) d 193 24 lo st h := ev_s n193_23 rfl rfl
theorem n193_24 : mx_ins 193 24 = some ((.invokevirtual 292), 3) := mx_ins_of mi193 dX20_would_24 rfl
theorem u193_24 : ev d 193 24 lo st h = evIn d 193 24 27 20 292 1 false lo st h := ev_inv n193_24 rfl rfl ow193 ia20_292
theorem n193_27 : mx_ins 193 27 = some ((.iload_n 1), 1) := mx_ins_of mi193 dX20_would_27 rfl
theorem u193_27 : ev d 193 27 lo st h = evS (mx_ldI 1) d 193 28 lo st h := ev_s n193_27 rfl rfl
theorem n193_28 : mx_ins 193 28 = some ((.ifCond .ne 10), 3) := mx_ins_of mi193 dX20_would_28 rfl
theorem u193_28 : ev d 193 28 lo st h = evJ .ne d 193 38 31 lo st h := ev_if n193_28 rfl rfl
theorem n193_31 : mx_ins 193 31 = some ((.aload_n 0), 1) := mx_ins_of mi193 dX20_would_31 rfl
theorem u193_31 : ev d 193 31 lo st h = evS (mx_ldA 0) d 193 32 lo st h := ev_s n193_31 rfl rfl
theorem n193_32 : mx_ins 193 32 = some ((.getfield 289), 3) := mx_ins_of mi193 dX20_would_32 rfl
theorem u193_32 : ev d 193 32 lo st h = evS (mx_gf 20 289) d 193 35 lo st h := ev_s n193_32 rfl rfl
theorem n193_35 : mx_ins 193 35 = some ((.goto 56), 3) := mx_ins_of mi193 dX20_would_35 rfl
theorem u193_35 : ev d 193 35 lo st h = ev d 193 91 lo st h := ev_goto n193_35 rfl
theorem n193_38 : mx_ins 193 38 = some ((.iload_n 1), 1) := mx_ins_of mi193 dX20_would_38 rfl
theorem u193_38 : ev d 193 38 lo st h = evS (mx_ldI 1) d 193 39 lo st h := ev_s n193_38 rfl rfl
theorem n193_39 : mx_ins 193 39 = some ((.iconst 1), 1) := mx_ins_of mi193 dX20_would_39 rfl
theorem u193_39 : ev d 193 39 lo st h = ev d 193 40 lo (.int 1 :: st) h := (ev_s (f := mx_push (.int 1)) n193_39 rfl rfl).trans es_push
theorem n193_40 : mx_ins 193 40 = some ((.if_icmp .ne 10), 3) := mx_ins_of mi193 dX20_would_40 rfl
theorem u193_40 : ev d 193 40 lo st h = evK .ne d 193 50 43 lo st h := ev_ic n193_40 rfl rfl
theorem n193_43 : mx_ins 193 43 = some ((.aload_n 0), 1) := mx_ins_of mi193 dX20_would_43 rfl
theorem u193_43 : ev d 193 43 lo st h = evS (mx_ldA 0) d 193 44 lo st h := ev_s n193_43 rfl rfl
theorem n193_44 : mx_ins 193 44 = some ((.invokevirtual 260), 3) := mx_ins_of mi193 dX20_would_44 rfl
theorem u193_44 : ev d 193 44 lo st h = evIn d 193 44 47 20 260 1 false lo st h := ev_inv n193_44 rfl rfl ow193 ia20_260
theorem n193_47 : mx_ins 193 47 = some ((.goto 44), 3) := mx_ins_of mi193 dX20_would_47 rfl
theorem u193_47 : ev d 193 47 lo st h = ev d 193 91 lo st h := ev_goto n193_47 rfl
theorem n193_50 : mx_ins 193 50 = some ((.iload_n 1), 1) := mx_ins_of mi193 dX20_would_50 rfl
theorem u193_50 : ev d 193 50 lo st h = evS (mx_ldI 1) d 193 51 lo st h := ev_s n193_50 rfl rfl
theorem n193_51 : mx_ins 193 51 = some ((.iconst 2), 1) := mx_ins_of mi193 dX20_would_51 rfl
theorem u193_51 : ev d 193 51 lo st h = ev d 193 52 lo (.int 2 :: st) h := (ev_s (f := mx_push (.int 2)) n193_51 rfl rfl).trans es_push
theorem n193_52 : mx_ins 193 52 = some ((.if_icmp .ne 11), 3) := mx_ins_of mi193 dX20_would_52 rfl
theorem u193_52 : ev d 193 52 lo st h = evK .ne d 193 63 55 lo st h := ev_ic n193_52 rfl rfl
theorem n193_55 : mx_ins 193 55 = some ((.aload_n 0), 1) := mx_ins_of mi193 dX20_would_55 rfl
theorem u193_55 : ev d 193 55 lo st h = evS (mx_ldA 0) d 193 56 lo st h := ev_s n193_55 rfl rfl
theorem n193_56 : mx_ins 193 56 = some ((.iconst 4), 1) := mx_ins_of mi193 dX20_would_56 rfl
theorem u193_56 : ev d 193 56 lo st h = ev d 193 57 lo (.int 4 :: st) h := (ev_s (f := mx_push (.int 4)) n193_56 rfl rfl).trans es_push
theorem n193_57 : mx_ins 193 57 = some ((.invokevirtual 255), 3) := mx_ins_of mi193 dX20_would_57 rfl
theorem u193_57 : ev d 193 57 lo st h = evIn d 193 57 60 20 255 2 false lo st h := ev_inv n193_57 rfl rfl ow193 ia20_255
theorem n193_60 : mx_ins 193 60 = some ((.goto 31), 3) := mx_ins_of mi193 dX20_would_60 rfl
theorem u193_60 : ev d 193 60 lo st h = ev d 193 91 lo st h := ev_goto n193_60 rfl
theorem n193_63 : mx_ins 193 63 = some ((.iload_n 1), 1) := mx_ins_of mi193 dX20_would_63 rfl
theorem u193_63 : ev d 193 63 lo st h = evS (mx_ldI 1) d 193 64 lo st h := ev_s n193_63 rfl rfl
theorem n193_64 : mx_ins 193 64 = some ((.iconst 3), 1) := mx_ins_of mi193 dX20_would_64 rfl
theorem u193_64 : ev d 193 64 lo st h = ev d 193 65 lo (.int 3 :: st) h := (ev_s (f := mx_push (.int 3)) n193_64 rfl rfl).trans es_push
theorem n193_65 : mx_ins 193 65 = some ((.if_icmp .ne 18), 3) := mx_ins_of mi193 dX20_would_65 rfl
theorem u193_65 : ev d 193 65 lo st h = evK .ne d 193 83 68 lo st h := ev_ic n193_65 rfl rfl
theorem n193_68 : mx_ins 193 68 = some ((.aload_n 0), 1) := mx_ins_of mi193 dX20_would_68 rfl
theorem u193_68 : ev d 193 68 lo st h = evS (mx_ldA 0) d 193 69 lo st h := ev_s n193_68 rfl rfl
theorem n193_69 : mx_ins 193 69 = some ((.invokevirtual 263), 3) := mx_ins_of mi193 dX20_would_69 rfl
theorem u193_69 : ev d 193 69 lo st h = evIn d 193 69 72 20 263 1 false lo st h := ev_inv n193_69 rfl rfl ow193 ia20_263
theorem n193_72 : mx_ins 193 72 = some ((.ifCond .eq 7), 3) := mx_ins_of mi193 dX20_would_72 rfl
theorem u193_72 : ev d 193 72 lo st h = evJ .eq d 193 79 75 lo st h := ev_if n193_72 rfl rfl
theorem n193_75 : mx_ins 193 75 = some ((.iconst 1), 1) := mx_ins_of mi193 dX20_would_75 rfl
theorem u193_75 : ev d 193 75 lo st h = ev d 193 76 lo (.int 1 :: st) h := (ev_s (f := mx_push (.int 1)) n193_75 rfl rfl).trans es_push
theorem n193_76 : mx_ins 193 76 = some ((.goto 15), 3) := mx_ins_of mi193 dX20_would_76 rfl
theorem u193_76 : ev d 193 76 lo st h = ev d 193 91 lo st h := ev_goto n193_76 rfl
theorem n193_79 : mx_ins 193 79 = some ((.iconst 0), 1) := mx_ins_of mi193 dX20_would_79 rfl
theorem u193_79 : ev d 193 79 lo st h = ev d 193 80 lo (.int 0 :: st) h := (ev_s (f := mx_push (.int 0)) n193_79 rfl rfl).trans es_push
theorem n193_80 : mx_ins 193 80 = some ((.goto 11), 3) := mx_ins_of mi193 dX20_would_80 rfl
theorem u193_80 : ev d 193 80 lo st h = ev d 193 91 lo st h := ev_goto n193_80 rfl
theorem n193_83 : mx_ins 193 83 = some ((.iload_n 2), 1) := mx_ins_of mi193 dX20_would_83 rfl
theorem u193_83 : ev d 193 83 lo st h = evS (mx_ldI 2) d 193 84 lo st h := ev_s n193_83 rfl rfl
theorem n193_84 : mx_ins 193 84 = some ((.aload_n 0), 1) := mx_ins_of mi193 dX20_would_84 rfl
theorem u193_84 : ev d 193 84 lo st h = evS (mx_ldA 0) d 193 85 lo st h := ev_s n193_84 rfl rfl
theorem n193_85 : mx_ins 193 85 = some ((.invokevirtual 260), 3) := mx_ins_of mi193 dX20_would_85 rfl
theorem u193_85 : ev d 193 85 lo st h = evIn d 193 85 88 20 260 1 false lo st h := ev_inv n193_85 rfl rfl ow193 ia20_260
theorem n193_88 : mx_ins 193 88 = some ((.invokestatic 279), 3) := mx_ins_of mi193 dX20_would_88 rfl
theorem u193_88 : ev d 193 88 lo st h = evIn d 193 88 91 20 279 2 true lo st h := ev_inv n193_88 rfl rfl ow193 ia20_279
theorem n193_91 : mx_ins 193 91 = some ((.istore_n 3), 1) := mx_ins_of mi193 dX20_would_91 rfl
theorem u193_91 : ev d 193 91 lo st h = evS (mx_stI 3) d 193 92 lo st h := ev_s n193_91 rfl rfl
theorem n193_92 : mx_ins 193 92 = some ((.aload_n 0), 1) := mx_ins_of mi193 dX20_would_92 rfl
theorem u193_92 : ev d 193 92 lo st h = evS (mx_ldA 0) d 193 93 lo st h := ev_s n193_92 rfl rfl
theorem n193_93 : mx_ins 193 93 = some ((.iconst 0), 1) := mx_ins_of mi193 dX20_would_93 rfl
theorem u193_93 : ev d 193 93 lo st h = ev d 193 94 lo (.int 0 :: st) h := (ev_s (f := mx_push (.int 0)) n193_93 rfl rfl).trans es_push
theorem n193_94 : mx_ins 193 94 = some ((.putfield 104), 3) := mx_ins_of mi193 dX20_would_94 rfl
theorem u193_94 : ev d 193 94 lo st h = evS (mx_pf 20 104 false) d 193 97 lo st h := ev_s n193_94 rfl rfl
theorem n193_97 : mx_ins 193 97 = some ((.iload_n 3), 1) := mx_ins_of mi193 dX20_would_97 rfl
theorem u193_97 : ev d 193 97 lo st h = evS (mx_ldI 3) d 193 98 lo st h := ev_s n193_97 rfl rfl
theorem n193_98 : mx_ins 193 98 = some (.ireturn, 1) := mx_ins_of mi193 dX20_would_98 rfl
theorem u193_98 : ev d 193 98 lo st h = evI d 193 98 99 lo st h .ireturn := ev_u n193_98 rfl
theorem mi194 : mx_mi 194 = some (yX20_lends, cX20_lends, 4, (none : Option FieldType), 20, 3, []) := rfl
theorem ow194 : mx_own 194 = 20 := mx_mi_own mi194
theorem mm194 : mx_max 194 = 4 := mx_mi_max mi194
theorem rt194 : mx_ret 194 = (none : Option FieldType) := mx_mi_ret mi194
theorem hn194 : mx_hnd 194 = [] := mx_mi_hnd mi194
theorem n194_0 : mx_ins 194 0 = some ((.iconst 0), 1) := mx_ins_of mi194 dX20_lends_0 rfl
theorem u194_0 : ev d 194 0 lo st h = ev d 194 1 lo (.int 0 :: st) h := (ev_s (f := mx_push (.int 0)) n194_0 rfl rfl).trans es_push
theorem n194_1 : mx_ins 194 1 = some ((.istore_n 3), 1) := mx_ins_of mi194 dX20_lends_1 rfl
theorem u194_1 : ev d 194 1 lo st h = evS (mx_stI 3) d 194 2 lo st h := ev_s n194_1 rfl rfl
theorem n194_2 : mx_ins 194 2 = some ((.iload_n 3), 1) := mx_ins_of mi194 dX20_lends_2 rfl
theorem u194_2 : ev d 194 2 lo st h = evS (mx_ldI 3) d 194 3 lo st h := ev_s n194_2 rfl rfl
theorem n194_3 : mx_ins 194 3 = some ((.bipush 7), 2) := mx_ins_of mi194 dX20_lends_3 rfl
theorem u194_3 : ev d 194 3 lo st h = ev d 194 5 lo (.int 7 :: st) h := (ev_s (f := mx_push (.int 7)) n194_3 rfl rfl).trans es_push
theorem n194_5 : mx_ins 194 5 = some ((.if_icmp .ge 25), 3) := mx_ins_of mi194 dX20_lends_5 rfl
theorem u194_5 : ev d 194 5 lo st h = evK .ge d 194 30 8 lo st h := ev_ic n194_5 rfl rfl
theorem n194_8 : mx_ins 194 8 = some ((.aload_n 0), 1) := mx_ins_of mi194 dX20_lends_8 rfl
theorem u194_8 : ev d 194 8 lo st h = evS (mx_ldA 0) d 194 9 lo st h := ev_s n194_8 rfl rfl
theorem n194_9 : mx_ins 194 9 = some ((.getfield 7), 3) := mx_ins_of mi194 dX20_lends_9 rfl
theorem u194_9 : ev d 194 9 lo st h = evS (mx_gf 20 7) d 194 12 lo st h := ev_s n194_9 rfl rfl
theorem n194_12 : mx_ins 194 12 = some ((.iload_n 2), 1) := mx_ins_of mi194 dX20_lends_12 rfl
theorem u194_12 : ev d 194 12 lo st h = evS (mx_ldI 2) d 194 13 lo st h := ev_s n194_12 rfl rfl
theorem n194_13 : mx_ins 194 13 = some ((.iload_n 3), 1) := mx_ins_of mi194 dX20_lends_13 rfl
theorem u194_13 : ev d 194 13 lo st h = evS (mx_ldI 3) d 194 14 lo st h := ev_s n194_13 rfl rfl
theorem n194_14 : mx_ins 194 14 = some (.iadd, 1) := mx_ins_of mi194 dX20_lends_14 rfl
theorem u194_14 : ev d 194 14 lo st h = evI d 194 14 15 lo st h .iadd := ev_u n194_14 rfl
theorem n194_15 : mx_ins 194 15 = some ((.aload_n 0), 1) := mx_ins_of mi194 dX20_lends_15 rfl
theorem u194_15 : ev d 194 15 lo st h = evS (mx_ldA 0) d 194 16 lo st h := ev_s n194_15 rfl rfl
theorem n194_16 : mx_ins 194 16 = some ((.getfield 7), 3) := mx_ins_of mi194 dX20_lends_16 rfl
theorem u194_16 : ev d 194 16 lo st h = evS (mx_gf 20 7) d 194 19 lo st h := ev_s n194_16 rfl rfl
theorem n194_19 : mx_ins 194 19 = some ((.iload_n 1), 1) := mx_ins_of mi194 dX20_lends_19 rfl
theorem u194_19 : ev d 194 19 lo st h = evS (mx_ldI 1) d 194 20 lo st h := ev_s n194_19 rfl rfl
theorem n194_20 : mx_ins 194 20 = some ((.iload_n 3), 1) := mx_ins_of mi194 dX20_lends_20 rfl
theorem u194_20 : ev d 194 20 lo st h = evS (mx_ldI 3) d 194 21 lo st h := ev_s n194_20 rfl rfl
theorem n194_21 : mx_ins 194 21 = some (.iadd, 1) := mx_ins_of mi194 dX20_lends_21 rfl
theorem u194_21 : ev d 194 21 lo st h = evI d 194 21 22 lo st h .iadd := ev_u n194_21 rfl
theorem n194_22 : mx_ins 194 22 = some (.iaload, 1) := mx_ins_of mi194 dX20_lends_22 rfl
theorem u194_22 : ev d 194 22 lo st h = evI d 194 22 23 lo st h .iaload := ev_u n194_22 rfl
theorem n194_23 : mx_ins 194 23 = some (.iastore, 1) := mx_ins_of mi194 dX20_lends_23 rfl
theorem u194_23 : ev d 194 23 lo st h = evI d 194 23 24 lo st h .iastore := ev_u n194_23 rfl
theorem n194_24 : mx_ins 194 24 = some ((.iinc 3 1), 3) := mx_ins_of mi194 dX20_lends_24 rfl
theorem u194_24 : ev d 194 24 lo st h = evS (mx_inc 3 (1)) d 194 27 lo st h := ev_s n194_24 rfl rfl
theorem n194_27 : mx_ins 194 27 = some ((.goto (-25)), 3) := mx_ins_of mi194 dX20_lends_27 rfl
theorem u194_27 : ev d 194 27 lo st h = ev d 194 2 lo st h := ev_goto n194_27 rfl
theorem n194_30 : mx_ins 194 30 = some ((.aload_n 0), 1) := mx_ins_of mi194 dX20_lends_30 rfl
theorem u194_30 : ev d 194 30 lo st h = evS (mx_ldA 0) d 194 31 lo st h := ev_s n194_30 rfl rfl
theorem n194_31 : mx_ins 194 31 = some ((.iload_n 2), 1) := mx_ins_of mi194 dX20_lends_31 rfl
theorem u194_31 : ev d 194 31 lo st h = evS (mx_ldI 2) d 194 32 lo st h := ev_s n194_31 rfl rfl
theorem n194_32 : mx_ins 194 32 = some ((.putfield 104), 3) := mx_ins_of mi194 dX20_lends_32 rfl
theorem u194_32 : ev d 194 32 lo st h = evS (mx_pf 20 104 false) d 194 35 lo st h := ev_s n194_32 rfl rfl
theorem n194_35 : mx_ins 194 35 = some (.return_, 1) := mx_ins_of mi194 dX20_lends_35 rfl
theorem u194_35 : ev d 194 35 lo st h = evI d 194 35 36 lo st h .return_ := ev_u n194_35 rfl
theorem mi195 : mx_mi 195 = some (yX20_lasts, cX20_lasts, 4, (Option.some Jvm.ClassFile.FieldType.int), 20, 2, []) := rfl
theorem ow195 : mx_own 195 = 20 := mx_mi_own mi195
theorem mm195 : mx_max 195 = 4 := mx_mi_max mi195
theorem rt195 : mx_ret 195 = (Option.some Jvm.ClassFile.FieldType.int) := mx_mi_ret mi195
theorem hn195 : mx_hnd 195 = [] := mx_mi_hnd mi195
theorem n195_0 : mx_ins 195 0 = some ((.iload_n 1), 1) := mx_ins_of mi195 dX20_lasts_0 rfl
theorem u195_0 : ev d 195 0 lo st h = evS (mx_ldI 1) d 195 1 lo st h := ev_s n195_0 rfl rfl
theorem n195_1 : mx_ins 195 1 = some ((.invokestatic 246), 3) := mx_ins_of mi195 dX20_lasts_1 rfl
theorem u195_1 : ev d 195 1 lo st h = evIn d 195 1 4 20 246 1 true lo st h := ev_inv n195_1 rfl rfl ow195 ia20_246
theorem n195_4 : mx_ins 195 4 = some ((.ifCond .ne 5), 3) := mx_ins_of mi195 dX20_lasts_4 rfl
theorem u195_4 : ev d 195 4 lo st h = evJ .ne d 195 9 7 lo st h := ev_if n195_4 rfl rfl
theorem n195_7 : mx_ins 195 7 = some ((.iconst (-1)), 1) := mx_ins_of mi195 dX20_lasts_7 rfl
theorem u195_7 : ev d 195 7 lo st h = ev d 195 8 lo (.int (-1) :: st) h := (ev_s (f := mx_push (.int (-1))) n195_7 rfl rfl).trans es_push
theorem n195_8 : mx_ins 195 8 = some (.ireturn, 1) := mx_ins_of mi195 dX20_lasts_8 rfl
theorem u195_8 : ev d 195 8 lo st h = evI d 195 8 9 lo st h .ireturn := ev_u n195_8 rfl
theorem n195_9 : mx_ins 195 9 = some ((.aload_n 0), 1) := mx_ins_of mi195 dX20_lasts_9 rfl
theorem u195_9 : ev d 195 9 lo st h = evS (mx_ldA 0) d 195 10 lo st h := ev_s n195_9 rfl rfl
theorem n195_10 : mx_ins 195 10 = some ((.iconst 0), 1) := mx_ins_of mi195 dX20_lasts_10 rfl
theorem u195_10 : ev d 195 10 lo st h = ev d 195 11 lo (.int 0 :: st) h := (ev_s (f := mx_push (.int 0)) n195_10 rfl rfl).trans es_push
theorem n195_11 : mx_ins 195 11 = some ((.bipush 7), 2) := mx_ins_of mi195 dX20_lasts_11 rfl
theorem u195_11 : ev d 195 11 lo st h = ev d 195 13 lo (.int 7 :: st) h := (ev_s (f := mx_push (.int 7)) n195_11 rfl rfl).trans es_push
theorem n195_13 : mx_ins 195 13 = some ((.invokevirtual 295), 3) := mx_ins_of mi195 dX20_lasts_13 rfl
theorem u195_13 : ev d 195 13 lo st h = evIn d 195 13 16 20 295 3 false lo st h := ev_inv n195_13 rfl rfl ow195 ia20_295
theorem n195_16 : mx_ins 195 16 = some ((.aload_n 0), 1) := mx_ins_of mi195 dX20_lasts_16 rfl
theorem u195_16 : ev d 195 16 lo st h = evS (mx_ldA 0) d 195 17 lo st h := ev_s n195_16 rfl rfl
theorem n195_17 : mx_ins 195 17 = some ((.getfield 7), 3) := mx_ins_of mi195 dX20_lasts_17 rfl
theorem u195_17 : ev d 195 17 lo st h = evS (mx_gf 20 7) d 195 20 lo st h := ev_s n195_17 rfl rfl
theorem n195_20 : mx_ins 195 20 = some ((.aload_n 0), 1) := mx_ins_of mi195 dX20_lasts_20 rfl
theorem u195_20 : ev d 195 20 lo st h = evS (mx_ldA 0) d 195 21 lo st h := ev_s n195_20 rfl rfl
theorem n195_21 : mx_ins 195 21 = some ((.getfield 104), 3) := mx_ins_of mi195 dX20_lasts_21 rfl
theorem u195_21 : ev d 195 21 lo st h = evS (mx_gf 20 104) d 195 24 lo st h := ev_s n195_21 rfl rfl
theorem n195_24 : mx_ins 195 24 = some ((.iconst 5), 1) := mx_ins_of mi195 dX20_lasts_24 rfl
theorem u195_24 : ev d 195 24 lo st h = ev d 195 25 lo (.int 5 :: st) h := (ev_s (f := mx_push (.int 5)) n195_24 rfl rfl).trans es_push
theorem n195_25 : mx_ins 195 25 = some (.iadd, 1) := mx_ins_of mi195 dX20_lasts_25 rfl
theorem u195_25 : ev d 195 25 lo st h = evI d 195 25 26 lo st h .iadd := ev_u n195_25 rfl
theorem n195_26 : mx_ins 195 26 = some ((.iload_n 1), 1) := mx_ins_of mi195 dX20_lasts_26 rfl
theorem u195_26 : ev d 195 26 lo st h = evS (mx_ldI 1) d 195 27 lo st h := ev_s n195_26 rfl rfl
theorem n195_27 : mx_ins 195 27 = some (.iastore, 1) := mx_ins_of mi195 dX20_lasts_27 rfl
theorem u195_27 : ev d 195 27 lo st h = evI d 195 27 28 lo st h .iastore := ev_u n195_27 rfl
theorem n195_28 : mx_ins 195 28 = some ((.iconst 0), 1) := mx_ins_of mi195 dX20_lasts_28 rfl
theorem u195_28 : ev d 195 28 lo st h = ev d 195 29 lo (.int 0 :: st) h := (ev_s (f := mx_push (.int 0)) n195_28 rfl rfl).trans es_push
theorem n195_29 : mx_ins 195 29 = some ((.istore_n 2), 1) := mx_ins_of mi195 dX20_lasts_29 rfl
theorem u195_29 : ev d 195 29 lo st h = evS (mx_stI 2) d 195 30 lo st h := ev_s n195_29 rfl rfl
theorem n195_30 : mx_ins 195 30 = some ((.aload_n 0), 1) := mx_ins_of mi195 dX20_lasts_30 rfl
theorem u195_30 : ev d 195 30 lo st h = evS (mx_ldA 0) d 195 31 lo st h := ev_s n195_30 rfl rfl
theorem n195_31 : mx_ins 195 31 = some ((.invokevirtual 263), 3) := mx_ins_of mi195 dX20_lasts_31 rfl
theorem u195_31 : ev d 195 31 lo st h = evIn d 195 31 34 20 263 1 false lo st h := ev_inv n195_31 rfl rfl ow195 ia20_263
theorem n195_34 : mx_ins 195 34 = some ((.istore_n 3), 1) := mx_ins_of mi195 dX20_lasts_34 rfl
theorem u195_34 : ev d 195 34 lo st h = evS (mx_stI 3) d 195 35 lo st h := ev_s n195_34 rfl rfl
theorem n195_35 : mx_ins 195 35 = some ((.iload_n 3), 1) := mx_ins_of mi195 dX20_lasts_35 rfl
theorem u195_35 : ev d 195 35 lo st h = evS (mx_ldI 3) d 195 36 lo st h := ev_s n195_35 rfl rfl
theorem n195_36 : mx_ins 195 36 = some ((.ifCond .eq 38), 3) := mx_ins_of mi195 dX20_lasts_36 rfl
theorem u195_36 : ev d 195 36 lo st h = evJ .eq d 195 74 39 lo st h := ev_if n195_36 rfl rfl
theorem n195_39 : mx_ins 195 39 = some ((.aload_n 0), 1) := mx_ins_of mi195 dX20_lasts_39 rfl
theorem u195_39 : ev d 195 39 lo st h = evS (mx_ldA 0) d 195 40 lo st h := ev_s n195_39 rfl rfl
theorem n195_40 : mx_ins 195 40 = some ((.bipush 6), 2) := mx_ins_of mi195 dX20_lasts_40 rfl
theorem u195_40 : ev d 195 40 lo st h = ev d 195 42 lo (.int 6 :: st) h := (ev_s (f := mx_push (.int 6)) n195_40 rfl rfl).trans es_push
theorem n195_42 : mx_ins 195 42 = some ((.invokevirtual 255), 3) := mx_ins_of mi195 dX20_lasts_42 rfl
theorem u195_42 : ev d 195 42 lo st h = evIn d 195 42 45 20 255 2 false lo st h := ev_inv n195_42 rfl rfl ow195 ia20_255
theorem n195_45 : mx_ins 195 45 = some ((.bipush 24), 2) := mx_ins_of mi195 dX20_lasts_45 rfl
theorem u195_45 : ev d 195 45 lo st h = ev d 195 47 lo (.int 24 :: st) h := (ev_s (f := mx_push (.int 24)) n195_45 rfl rfl).trans es_push
theorem n195_47 : mx_ins 195 47 = some ((.if_icmp .ge 27), 3) := mx_ins_of mi195 dX20_lasts_47 rfl
theorem u195_47 : ev d 195 47 lo st h = evK .ge d 195 74 50 lo st h := ev_ic n195_47 rfl rfl
theorem n195_50 : mx_ins 195 50 = some ((.aload_n 0), 1) := mx_ins_of mi195 dX20_lasts_50 rfl
theorem u195_50 : ev d 195 50 lo st h = evS (mx_ldA 0) d 195 51 lo st h := ev_s n195_50 rfl rfl
theorem n195_51 : mx_ins 195 51 = some ((.invokevirtual 276), 3) := mx_ins_of mi195 dX20_lasts_51 rfl
theorem u195_51 : ev d 195 51 lo st h = evIn d 195 51 54 20 276 1 false lo st h := ev_inv n195_51 rfl rfl ow195 ia20_276
theorem n195_54 : mx_ins 195 54 = some ((.aload_n 0), 1) := mx_ins_of mi195 dX20_lasts_54 rfl
theorem u195_54 : ev d 195 54 lo st h = evS (mx_ldA 0) d 195 55 lo st h := ev_s n195_54 rfl rfl
theorem n195_55 : mx_ins 195 55 = some ((.invokevirtual 263), 3) := mx_ins_of mi195 dX20_lasts_55 rfl
theorem u195_55 : ev d 195 55 lo st h = evIn d 195 55 58 20 263 1 false lo st h := ev_inv n195_55 rfl rfl ow195 ia20_263
theorem n195_58 : mx_ins 195 58 = some ((.istore_n 3), 1) := mx_ins_of mi195 dX20_lasts_58 rfl
theorem u195_58 : ev d 195 58 lo st h = evS (mx_stI 3) d 195 59 lo st h := ev_s n195_58 rfl rfl
theorem n195_59 : mx_ins 195 59 = some ((.iload_n 2), 1) := mx_ins_of mi195 dX20_lasts_59 rfl
theorem u195_59 : ev d 195 59 lo st h = evS (mx_ldI 2) d 195 60 lo st h := ev_s n195_59 rfl rfl
theorem n195_60 : mx_ins 195 60 = some ((.iload_n 3), 1) := mx_ins_of mi195 dX20_lasts_60 rfl
theorem u195_60 : ev d 195 60 lo st h = evS (mx_ldI 3) d 195 61 lo st h := ev_s n195_60 rfl rfl
theorem n195_61 : mx_ins 195 61 = some ((.ifCond .eq 7), 3) := mx_ins_of mi195 dX20_lasts_61 rfl
theorem u195_61 : ev d 195 61 lo st h = evJ .eq d 195 68 64 lo st h := ev_if n195_61 rfl rfl
theorem n195_64 : mx_ins 195 64 = some ((.iconst 1), 1) := mx_ins_of mi195 dX20_lasts_64 rfl
theorem u195_64 : ev d 195 64 lo st h = ev d 195 65 lo (.int 1 :: st) h := (ev_s (f := mx_push (.int 1)) n195_64 rfl rfl).trans es_push
theorem n195_65 : mx_ins 195 65 = some ((.goto 4), 3) := mx_ins_of mi195 dX20_lasts_65 rfl
theorem u195_65 : ev d 195 65 lo st h = ev d 195 69 lo st h := ev_goto n195_65 rfl
theorem n195_68 : mx_ins 195 68 = some ((.iconst 0), 1) := mx_ins_of mi195 dX20_lasts_68 rfl
theorem u195_68 : ev d 195 68 lo st h = ev d 195 69 lo (.int 0 :: st) h := (ev_s (f := mx_push (.int 0)) n195_68 rfl rfl).trans es_push
theorem n195_69 : mx_ins 195 69 = some (.iadd, 1) := mx_ins_of mi195 dX20_lasts_69 rfl
theorem u195_69 : ev d 195 69 lo st h = evI d 195 69 70 lo st h .iadd := ev_u n195_69 rfl
theorem n195_70 : mx_ins 195 70 = some ((.istore_n 2), 1) := mx_ins_of mi195 dX20_lasts_70 rfl
theorem u195_70 : ev d 195 70 lo st h = evS (mx_stI 2) d 195 71 lo st h := ev_s n195_70 rfl rfl
theorem n195_71 : mx_ins 195 71 = some ((.goto (-36)), 3) := mx_ins_of mi195 dX20_lasts_71 rfl
theorem u195_71 : ev d 195 71 lo st h = ev d 195 35 lo st h := ev_goto n195_71 rfl
theorem n195_74 : mx_ins 195 74 = some ((.aload_n 0), 1) := mx_ins_of mi195 dX20_lasts_74 rfl
theorem u195_74 : ev d 195 74 lo st h = evS (mx_ldA 0) d 195 75 lo st h := ev_s n195_74 rfl rfl
theorem n195_75 : mx_ins 195 75 = some ((.iconst 0), 1) := mx_ins_of mi195 dX20_lasts_75 rfl
theorem u195_75 : ev d 195 75 lo st h = ev d 195 76 lo (.int 0 :: st) h := (ev_s (f := mx_push (.int 0)) n195_75 rfl rfl).trans es_push
theorem n195_76 : mx_ins 195 76 = some ((.putfield 104), 3) := mx_ins_of mi195 dX20_lasts_76 rfl
theorem u195_76 : ev d 195 76 lo st h = evS (mx_pf 20 104 false) d 195 79 lo st h := ev_s n195_76 rfl rfl
theorem n195_79 : mx_ins 195 79 = some ((.iload_n 2), 1) := mx_ins_of mi195 dX20_lasts_79 rfl
theorem u195_79 : ev d 195 79 lo st h = evS (mx_ldI 2) d 195 80 lo st h := ev_s n195_79 rfl rfl
theorem n195_80 : mx_ins 195 80 = some (.ireturn, 1) := mx_ins_of mi195 dX20_lasts_80 rfl
theorem u195_80 : ev d 195 80 lo st h = evI d 195 80 81 lo st h .ireturn := ev_u n195_80 rfl
theorem mi196 : mx_mi 196 = some (yX20_best, cX20_best, 3, (Option.some Jvm.ClassFile.FieldType.int), 20, 3, []) := rfl
theorem ow196 : mx_own 196 = 20 := mx_mi_own mi196
theorem mm196 : mx_max 196 = 3 := mx_mi_max mi196
theorem rt196 : mx_ret 196 = (Option.some Jvm.ClassFile.FieldType.int) := mx_mi_ret mi196
theorem hn196 : mx_hnd 196 = [] := mx_mi_hnd mi196
theorem n196_0 : mx_ins 196 0 = some ((.iload_n 1), 1) := mx_ins_of mi196 dX20_best_0 rfl
theorem u196_0 : ev d 196 0 lo st h = evS (mx_ldI 1) d 196 1 lo st h := ev_s n196_0 rfl rfl
theorem n196_1 : mx_ins 196 1 = some ((.iconst 1), 1) := mx_ins_of mi196 dX20_best_1 rfl
theorem u196_1 : ev d 196 1 lo st h = ev d 196 2 lo (.int 1 :: st) h := (ev_s (f := mx_push (.int 1)) n196_1 rfl rfl).trans es_push
theorem n196_2 : mx_ins 196 2 = some ((.iconst 5), 1) := mx_ins_of mi196 dX20_best_2 rfl
theorem u196_2 : ev d 196 2 lo st h = ev d 196 3 lo (.int 5 :: st) h := (ev_s (f := mx_push (.int 5)) n196_2 rfl rfl).trans es_push
theorem n196_3 : mx_ins 196 3 = some ((.invokestatic 100), 3) := mx_ins_of mi196 dX20_best_3 rfl
theorem u196_3 : ev d 196 3 lo st h = evIn d 196 3 6 20 100 3 true lo st h := ev_inv n196_3 rfl rfl ow196 ia20_100
theorem n196_6 : mx_ins 196 6 = some ((.ifCond .eq 26), 3) := mx_ins_of mi196 dX20_best_6 rfl
theorem u196_6 : ev d 196 6 lo st h = evJ .eq d 196 32 9 lo st h := ev_if n196_6 rfl rfl
theorem n196_9 : mx_ins 196 9 = some ((.iload_n 1), 1) := mx_ins_of mi196 dX20_best_9 rfl
theorem u196_9 : ev d 196 9 lo st h = evS (mx_ldI 1) d 196 10 lo st h := ev_s n196_9 rfl rfl
theorem n196_10 : mx_ins 196 10 = some ((.bipush 24), 2) := mx_ins_of mi196 dX20_best_10 rfl
theorem u196_10 : ev d 196 10 lo st h = ev d 196 12 lo (.int 24 :: st) h := (ev_s (f := mx_push (.int 24)) n196_10 rfl rfl).trans es_push
theorem n196_12 : mx_ins 196 12 = some ((.aload_n 0), 1) := mx_ins_of mi196 dX20_best_12 rfl
theorem u196_12 : ev d 196 12 lo st h = evS (mx_ldA 0) d 196 13 lo st h := ev_s n196_12 rfl rfl
theorem n196_13 : mx_ins 196 13 = some ((.getfield 7), 3) := mx_ins_of mi196 dX20_best_13 rfl
theorem u196_13 : ev d 196 13 lo st h = evS (mx_gf 20 7) d 196 16 lo st h := ev_s n196_13 rfl rfl
theorem n196_16 : mx_ins 196 16 = some ((.bipush 6), 2) := mx_ins_of mi196 dX20_best_16 rfl
theorem u196_16 : ev d 196 16 lo st h = ev d 196 18 lo (.int 6 :: st) h := (ev_s (f := mx_push (.int 6)) n196_16 rfl rfl).trans es_push
theorem n196_18 : mx_ins 196 18 = some (.iaload, 1) := mx_ins_of mi196 dX20_best_18 rfl
theorem u196_18 : ev d 196 18 lo st h = evI d 196 18 19 lo st h .iaload := ev_u n196_18 rfl
theorem n196_19 : mx_ins 196 19 = some (.isub, 1) := mx_ins_of mi196 dX20_best_19 rfl
theorem u196_19 : ev d 196 19 lo st h = evI d 196 19 20 lo st h .isub := ev_u n196_19 rfl
theorem n196_20 : mx_ins 196 20 = some ((.if_icmp .gt 12), 3) := mx_ins_of mi196 dX20_best_20 rfl
theorem u196_20 : ev d 196 20 lo st h = evK .gt d 196 32 23 lo st h := ev_ic n196_20 rfl rfl
theorem n196_23 : mx_ins 196 23 = some ((.iload_n 2), 1) := mx_ins_of mi196 dX20_best_23 rfl
theorem u196_23 : ev d 196 23 lo st h = evS (mx_ldI 2) d 196 24 lo st h := ev_s n196_23 rfl rfl
theorem n196_24 : mx_ins 196 24 = some ((.iconst 0), 1) := mx_ins_of mi196 dX20_best_24 rfl
theorem u196_24 : ev d 196 24 lo st h = ev d 196 25 lo (.int 0 :: st) h := (ev_s (f := mx_push (.int 0)) n196_24 rfl rfl).trans es_push
theorem n196_25 : mx_ins 196 25 = some ((.iconst 2), 1) := mx_ins_of mi196 dX20_best_25 rfl
theorem u196_25 : ev d 196 25 lo st h = ev d 196 26 lo (.int 2 :: st) h := (ev_s (f := mx_push (.int 2)) n196_25 rfl rfl).trans es_push
theorem n196_26 : mx_ins 196 26 = some ((.invokestatic 100), 3) := mx_ins_of mi196 dX20_best_26 rfl
theorem u196_26 : ev d 196 26 lo st h = evIn d 196 26 29 20 100 3 true lo st h := ev_inv n196_26 rfl rfl ow196 ia20_100
theorem n196_29 : mx_ins 196 29 = some ((.ifCond .ne 5), 3) := mx_ins_of mi196 dX20_best_29 rfl
theorem u196_29 : ev d 196 29 lo st h = evJ .ne d 196 34 32 lo st h := ev_if n196_29 rfl rfl
theorem n196_32 : mx_ins 196 32 = some ((.iconst (-1)), 1) := mx_ins_of mi196 dX20_best_32 rfl
theorem u196_32 : ev d 196 32 lo st h = ev d 196 33 lo (.int (-1) :: st) h := (ev_s (f := mx_push (.int (-1))) n196_32 rfl rfl).trans es_push
theorem n196_33 : mx_ins 196 33 = some (.ireturn, 1) := mx_ins_of mi196 dX20_best_33 rfl
theorem u196_33 : ev d 196 33 lo st h = evI d 196 33 34 lo st h .ireturn := ev_u n196_33 rfl
theorem n196_34 : mx_ins 196 34 = some ((.aload_n 0), 1) := mx_ins_of mi196 dX20_best_34 rfl
theorem u196_34 : ev d 196 34 lo st h = evS (mx_ldA 0) d 196 35 lo st h := ev_s n196_34 rfl rfl
theorem n196_35 : mx_ins 196 35 = some ((.iload_n 1), 1) := mx_ins_of mi196 dX20_best_35 rfl
theorem u196_35 : ev d 196 35 lo st h = evS (mx_ldI 1) d 196 36 lo st h := ev_s n196_35 rfl rfl
theorem n196_36 : mx_ins 196 36 = some ((.invokevirtual 311), 3) := mx_ins_of mi196 dX20_best_36 rfl
theorem u196_36 : ev d 196 36 lo st h = evIn d 196 36 39 20 311 2 false lo st h := ev_inv n196_36 rfl rfl ow196 ia20_311
theorem n196_39 : mx_ins 196 39 = some ((.ifCond .ne 6), 3) := mx_ins_of mi196 dX20_best_39 rfl
theorem u196_39 : ev d 196 39 lo st h = evJ .ne d 196 45 42 lo st h := ev_if n196_39 rfl rfl
theorem n196_42 : mx_ins 196 42 = some ((.bipush (-3)), 2) := mx_ins_of mi196 dX20_best_42 rfl
theorem u196_42 : ev d 196 42 lo st h = ev d 196 44 lo (.int (-3) :: st) h := (ev_s (f := mx_push (.int (-3))) n196_42 rfl rfl).trans es_push
theorem n196_44 : mx_ins 196 44 = some (.ireturn, 1) := mx_ins_of mi196 dX20_best_44 rfl
theorem u196_44 : ev d 196 44 lo st h = evI d 196 44 45 lo st h .ireturn := ev_u n196_44 rfl
theorem n196_45 : mx_ins 196 45 = some ((.iload_n 2), 1) := mx_ins_of mi196 dX20_best_45 rfl
theorem u196_45 : ev d 196 45 lo st h = evS (mx_ldI 2) d 196 46 lo st h := ev_s n196_45 rfl rfl
theorem n196_46 : mx_ins 196 46 = some ((.ifCond .ne 10), 3) := mx_ins_of mi196 dX20_best_46 rfl
theorem u196_46 : ev d 196 46 lo st h = evJ .ne d 196 56 49 lo st h := ev_if n196_46 rfl rfl
theorem n196_49 : mx_ins 196 49 = some ((.aload_n 0), 1) := mx_ins_of mi196 dX20_best_49 rfl
theorem u196_49 : ev d 196 49 lo st h = evS (mx_ldA 0) d 196 50 lo st h := ev_s n196_49 rfl rfl
theorem n196_50 : mx_ins 196 50 = some ((.getfield 305), 3) := mx_ins_of mi196 dX20_best_50 rfl
theorem u196_50 : ev d 196 50 lo st h = evS (mx_gf 20 305) d 196 53 lo st h := ev_s n196_50 rfl rfl
theorem n196_53 : mx_ins 196 53 = some ((.goto 19), 3) := mx_ins_of mi196 dX20_best_53 rfl
theorem u196_53 : ev d 196 53 lo st h = ev d 196 72 lo st h := ev_goto n196_53 rfl
theorem n196_56 : mx_ins 196 56 = some ((.iload_n 2), 1) := mx_ins_of mi196 dX20_best_56 rfl
theorem u196_56 : ev d 196 56 lo st h = evS (mx_ldI 2) d 196 57 lo st h := ev_s n196_56 rfl rfl
theorem n196_57 : mx_ins 196 57 = some ((.iconst 1), 1) := mx_ins_of mi196 dX20_best_57 rfl
theorem u196_57 : ev d 196 57 lo st h = ev d 196 58 lo (.int 1 :: st) h := (ev_s (f := mx_push (.int 1)) n196_57 rfl rfl).trans es_push
theorem n196_58 : mx_ins 196 58 = some ((.if_icmp .ne 10), 3) := mx_ins_of mi196 dX20_best_58 rfl
theorem u196_58 : ev d 196 58 lo st h = evK .ne d 196 68 61 lo st h := ev_ic n196_58 rfl rfl
theorem n196_61 : mx_ins 196 61 = some ((.aload_n 0), 1) := mx_ins_of mi196 dX20_best_61 rfl
theorem u196_61 : ev d 196 61 lo st h = evS (mx_ldA 0) d 196 62 lo st h := ev_s n196_61 rfl rfl
theorem n196_62 : mx_ins 196 62 = some ((.getfield 302), 3) := mx_ins_of mi196 dX20_best_62 rfl
theorem u196_62 : ev d 196 62 lo st h = evS (mx_gf 20 302) d 196 65 lo st h := ev_s n196_62 rfl rfl
theorem n196_65 : mx_ins 196 65 = some ((.goto 7), 3) := mx_ins_of mi196 dX20_best_65 rfl
theorem u196_65 : ev d 196 65 lo st h = ev d 196 72 lo st h := ev_goto n196_65 rfl
theorem n196_68 : mx_ins 196 68 = some ((.aload_n 0), 1) := mx_ins_of mi196 dX20_best_68 rfl
theorem u196_68 : ev d 196 68 lo st h = evS (mx_ldA 0) d 196 69 lo st h := ev_s n196_68 rfl rfl
theorem n196_69 : mx_ins 196 69 = some ((.getfield 308), 3) := mx_ins_of mi196 dX20_best_69 rfl
theorem u196_69 : ev d 196 69 lo st h = evS (mx_gf 20 308) d 196 72 lo st h := ev_s n196_69 rfl rfl
theorem n196_72 : mx_ins 196 72 = some (.ireturn, 1) := mx_ins_of mi196 dX20_best_72 rfl
theorem u196_72 : ev d 196 72 lo st h = evI d 196 72 73 lo st h .ireturn := ev_u n196_72 rfl
theorem mi197 : mx_mi 197 = some (yX20_findBest, cX20_findBest, 7, (Option.some Jvm.ClassFile.FieldType.boolean), 20, 2, []) := rfl
theorem ow197 : mx_own 197 = 20 := mx_mi_own mi197
theorem mm197 : mx_max 197 = 7 := mx_mi_max mi197
theorem rt197 : mx_ret 197 = (Option.some Jvm.ClassFile.FieldType.boolean) := mx_mi_ret mi197
theorem hn197 : mx_hnd 197 = [] := mx_mi_hnd mi197
theorem n197_0 : mx_ins 197 0 = some ((.iconst 0), 1) := mx_ins_of mi197 dX20_findBest_0 rfl
theorem u197_0 : ev d 197 0 lo st h = ev d 197 1 lo (.int 0 :: st) h := (ev_s (f := mx_push (.int 0)) n197_0 rfl rfl).trans es_push
theorem n197_1 : mx_ins 197 1 = some ((.istore_n 2), 1) := mx_ins_of mi197 dX20_findBest_1 rfl
theorem u197_1 : ev d 197 1 lo st h = evS (mx_stI 2) d 197 2 lo st h := ev_s n197_1 rfl rfl
theorem n197_2 : mx_ins 197 2 = some ((.iconst 0), 1) := mx_ins_of mi197 dX20_findBest_2 rfl
theorem u197_2 : ev d 197 2 lo st h = ev d 197 3 lo (.int 0 :: st) h := (ev_s (f := mx_push (.int 0)) n197_2 rfl rfl).trans es_push
theorem n197_3 : mx_ins 197 3 = some ((.istore_n 3), 1) := mx_ins_of mi197 dX20_findBest_3 rfl
theorem u197_3 : ev d 197 3 lo st h = evS (mx_stI 3) d 197 4 lo st h := ev_s n197_3 rfl rfl
theorem n197_4 : mx_ins 197 4 = some ((.iload_n 3), 1) := mx_ins_of mi197 dX20_findBest_4 rfl
theorem u197_4 : ev d 197 4 lo st h = evS (mx_ldI 3) d 197 5 lo st h := ev_s n197_4 rfl rfl
theorem n197_5 : mx_ins 197 5 = some ((.iconst 1), 1) := mx_ins_of mi197 dX20_findBest_5 rfl
theorem u197_5 : ev d 197 5 lo st h = ev d 197 6 lo (.int 1 :: st) h := (ev_s (f := mx_push (.int 1)) n197_5 rfl rfl).trans es_push
theorem n197_6 : mx_ins 197 6 = some ((.iconst 2), 1) := mx_ins_of mi197 dX20_findBest_6 rfl
theorem u197_6 : ev d 197 6 lo st h = ev d 197 7 lo (.int 2 :: st) h := (ev_s (f := mx_push (.int 2)) n197_6 rfl rfl).trans es_push
theorem n197_7 : mx_ins 197 7 = some ((.iload_n 1), 1) := mx_ins_of mi197 dX20_findBest_7 rfl
theorem u197_7 : ev d 197 7 lo st h = evS (mx_ldI 1) d 197 8 lo st h := ev_s n197_7 rfl rfl
theorem n197_8 : mx_ins 197 8 = some (.imul, 1) := mx_ins_of mi197 dX20_findBest_8 rfl
theorem u197_8 : ev d 197 8 lo st h = evI d 197 8 9 lo st h .imul := ev_u n197_8 rfl
theorem n197_9 : mx_ins 197 9 = some (.ishl, 1) := mx_ins_of mi197 dX20_findBest_9 rfl
theorem u197_9 : ev d 197 9 lo st h = evI d 197 9 10 lo st h .ishl := ev_u n197_9 rfl
theorem n197_10 : mx_ins 197 10 = some ((.if_icmp .ge 114), 3) := mx_ins_of mi197 dX20_findBest_10 rfl
theorem u197_10 : ev d 197 10 lo st h = evK .ge d 197 124 13 lo st h := ev_ic n197_10 rfl rfl
theorem n197_13 : mx_ins 197 13 = some ((.aload_n 0), 1) := mx_ins_of mi197 dX20_findBest_13 rfl
theorem u197_13 : ev d 197 13 lo st h = evS (mx_ldA 0) d 197 14 lo st h := ev_s n197_13 rfl rfl
theorem n197_14 : mx_ins 197 14 = some ((.iload_n 1), 1) := mx_ins_of mi197 dX20_findBest_14 rfl
theorem u197_14 : ev d 197 14 lo st h = evS (mx_ldI 1) d 197 15 lo st h := ev_s n197_14 rfl rfl
theorem n197_15 : mx_ins 197 15 = some ((.iload_n 3), 1) := mx_ins_of mi197 dX20_findBest_15 rfl
theorem u197_15 : ev d 197 15 lo st h = evS (mx_ldI 3) d 197 16 lo st h := ev_s n197_15 rfl rfl
theorem n197_16 : mx_ins 197 16 = some ((.invokevirtual 299), 3) := mx_ins_of mi197 dX20_findBest_16 rfl
theorem u197_16 : ev d 197 16 lo st h = evIn d 197 16 19 20 299 3 false lo st h := ev_inv n197_16 rfl rfl ow197 ia20_299
theorem n197_19 : mx_ins 197 19 = some ((.istore 4), 2) := mx_ins_of mi197 dX20_findBest_19 rfl
theorem u197_19 : ev d 197 19 lo st h = evS (mx_stI 4) d 197 21 lo st h := ev_s n197_19 rfl rfl
theorem n197_21 : mx_ins 197 21 = some ((.aload_n 0), 1) := mx_ins_of mi197 dX20_findBest_21 rfl
theorem u197_21 : ev d 197 21 lo st h = evS (mx_ldA 0) d 197 22 lo st h := ev_s n197_21 rfl rfl
theorem n197_22 : mx_ins 197 22 = some ((.iconst 1), 1) := mx_ins_of mi197 dX20_findBest_22 rfl
theorem u197_22 : ev d 197 22 lo st h = ev d 197 23 lo (.int 1 :: st) h := (ev_s (f := mx_push (.int 1)) n197_22 rfl rfl).trans es_push
theorem n197_23 : mx_ins 197 23 = some ((.invokevirtual 255), 3) := mx_ins_of mi197 dX20_findBest_23 rfl
theorem u197_23 : ev d 197 23 lo st h = evIn d 197 23 26 20 255 2 false lo st h := ev_inv n197_23 rfl rfl ow197 ia20_255
theorem n197_26 : mx_ins 197 26 = some ((.aload_n 0), 1) := mx_ins_of mi197 dX20_findBest_26 rfl
theorem u197_26 : ev d 197 26 lo st h = evS (mx_ldA 0) d 197 27 lo st h := ev_s n197_26 rfl rfl
theorem n197_27 : mx_ins 197 27 = some ((.iconst 2), 1) := mx_ins_of mi197 dX20_findBest_27 rfl
theorem u197_27 : ev d 197 27 lo st h = ev d 197 28 lo (.int 2 :: st) h := (ev_s (f := mx_push (.int 2)) n197_27 rfl rfl).trans es_push
theorem n197_28 : mx_ins 197 28 = some ((.invokevirtual 255), 3) := mx_ins_of mi197 dX20_findBest_28 rfl
theorem u197_28 : ev d 197 28 lo st h = evIn d 197 28 31 20 255 2 false lo st h := ev_inv n197_28 rfl rfl ow197 ia20_255
theorem n197_31 : mx_ins 197 31 = some (.iadd, 1) := mx_ins_of mi197 dX20_findBest_31 rfl
theorem u197_31 : ev d 197 31 lo st h = evI d 197 31 32 lo st h .iadd := ev_u n197_31 rfl
theorem n197_32 : mx_ins 197 32 = some ((.istore 5), 2) := mx_ins_of mi197 dX20_findBest_32 rfl
theorem u197_32 : ev d 197 32 lo st h = evS (mx_stI 5) d 197 34 lo st h := ev_s n197_32 rfl rfl
theorem n197_34 : mx_ins 197 34 = some ((.aload_n 0), 1) := mx_ins_of mi197 dX20_findBest_34 rfl
theorem u197_34 : ev d 197 34 lo st h = evS (mx_ldA 0) d 197 35 lo st h := ev_s n197_34 rfl rfl
theorem n197_35 : mx_ins 197 35 = some ((.invokevirtual 263), 3) := mx_ins_of mi197 dX20_findBest_35 rfl
theorem u197_35 : ev d 197 35 lo st h = evIn d 197 35 38 20 263 1 false lo st h := ev_inv n197_35 rfl rfl ow197 ia20_263
theorem n197_38 : mx_ins 197 38 = some ((.ifCond .eq 44), 3) := mx_ins_of mi197 dX20_findBest_38 rfl
theorem u197_38 : ev d 197 38 lo st h = evJ .eq d 197 82 41 lo st h := ev_if n197_38 rfl rfl
theorem n197_41 : mx_ins 197 41 = some ((.iload_n 2), 1) := mx_ins_of mi197 dX20_findBest_41 rfl
theorem u197_41 : ev d 197 41 lo st h = evS (mx_ldI 2) d 197 42 lo st h := ev_s n197_41 rfl rfl
theorem n197_42 : mx_ins 197 42 = some ((.ifCond .eq 36), 3) := mx_ins_of mi197 dX20_findBest_42 rfl
theorem u197_42 : ev d 197 42 lo st h = evJ .eq d 197 78 45 lo st h := ev_if n197_42 rfl rfl
theorem n197_45 : mx_ins 197 45 = some ((.aload_n 0), 1) := mx_ins_of mi197 dX20_findBest_45 rfl
theorem u197_45 : ev d 197 45 lo st h = evS (mx_ldA 0) d 197 46 lo st h := ev_s n197_45 rfl rfl
theorem n197_46 : mx_ins 197 46 = some ((.iconst 4), 1) := mx_ins_of mi197 dX20_findBest_46 rfl
theorem u197_46 : ev d 197 46 lo st h = ev d 197 47 lo (.int 4 :: st) h := (ev_s (f := mx_push (.int 4)) n197_46 rfl rfl).trans es_push
theorem n197_47 : mx_ins 197 47 = some ((.invokevirtual 255), 3) := mx_ins_of mi197 dX20_findBest_47 rfl
theorem u197_47 : ev d 197 47 lo st h = evIn d 197 47 50 20 255 2 false lo st h := ev_inv n197_47 rfl rfl ow197 ia20_255
theorem n197_50 : mx_ins 197 50 = some ((.aload_n 0), 1) := mx_ins_of mi197 dX20_findBest_50 rfl
theorem u197_50 : ev d 197 50 lo st h = evS (mx_ldA 0) d 197 51 lo st h := ev_s n197_50 rfl rfl
theorem n197_51 : mx_ins 197 51 = some ((.getfield 302), 3) := mx_ins_of mi197 dX20_findBest_51 rfl
theorem u197_51 : ev d 197 51 lo st h = evS (mx_gf 20 302) d 197 54 lo st h := ev_s n197_51 rfl rfl
theorem n197_54 : mx_ins 197 54 = some ((.if_icmp .lt 24), 3) := mx_ins_of mi197 dX20_findBest_54 rfl
theorem u197_54 : ev d 197 54 lo st h = evK .lt d 197 78 57 lo st h := ev_ic n197_54 rfl rfl
theorem n197_57 : mx_ins 197 57 = some ((.aload_n 0), 1) := mx_ins_of mi197 dX20_findBest_57 rfl
theorem u197_57 : ev d 197 57 lo st h = evS (mx_ldA 0) d 197 58 lo st h := ev_s n197_57 rfl rfl
theorem n197_58 : mx_ins 197 58 = some ((.iconst 4), 1) := mx_ins_of mi197 dX20_findBest_58 rfl
theorem u197_58 : ev d 197 58 lo st h = ev d 197 59 lo (.int 4 :: st) h := (ev_s (f := mx_push (.int 4)) n197_58 rfl rfl).trans es_push
theorem n197_59 : mx_ins 197 59 = some ((.invokevirtual 255), 3) := mx_ins_of mi197 dX20_findBest_59 rfl
theorem u197_59 : ev d 197 59 lo st h = evIn d 197 59 62 20 255 2 false lo st h := ev_inv n197_59 rfl rfl ow197 ia20_255
theorem n197_62 : mx_ins 197 62 = some ((.aload_n 0), 1) := mx_ins_of mi197 dX20_findBest_62 rfl
theorem u197_62 : ev d 197 62 lo st h = evS (mx_ldA 0) d 197 63 lo st h := ev_s n197_62 rfl rfl
theorem n197_63 : mx_ins 197 63 = some ((.getfield 302), 3) := mx_ins_of mi197 dX20_findBest_63 rfl
theorem u197_63 : ev d 197 63 lo st h = evS (mx_gf 20 302) d 197 66 lo st h := ev_s n197_63 rfl rfl
theorem n197_66 : mx_ins 197 66 = some ((.if_icmp .ne 16), 3) := mx_ins_of mi197 dX20_findBest_66 rfl
theorem u197_66 : ev d 197 66 lo st h = evK .ne d 197 82 69 lo st h := ev_ic n197_66 rfl rfl
theorem n197_69 : mx_ins 197 69 = some ((.iload 5), 2) := mx_ins_of mi197 dX20_findBest_69 rfl
theorem u197_69 : ev d 197 69 lo st h = evS (mx_ldI 5) d 197 71 lo st h := ev_s n197_69 rfl rfl
theorem n197_71 : mx_ins 197 71 = some ((.aload_n 0), 1) := mx_ins_of mi197 dX20_findBest_71 rfl
theorem u197_71 : ev d 197 71 lo st h = evS (mx_ldA 0) d 197 72 lo st h := ev_s n197_71 rfl rfl
theorem n197_72 : mx_ins 197 72 = some ((.getfield 305), 3) := mx_ins_of mi197 dX20_findBest_72 rfl
theorem u197_72 : ev d 197 72 lo st h = evS (mx_gf 20 305) d 197 75 lo st h := ev_s n197_72 rfl rfl
theorem n197_75 : mx_ins 197 75 = some ((.if_icmp .le 7), 3) := mx_ins_of mi197 dX20_findBest_75 rfl
theorem u197_75 : ev d 197 75 lo st h = evK .le d 197 82 78 lo st h := ev_ic n197_75 rfl rfl
theorem n197_78 : mx_ins 197 78 = some ((.iconst 1), 1) := mx_ins_of mi197 dX20_findBest_78 rfl
theorem u197_78 : ev d 197 78 lo st h = ev d 197 79 lo (.int 1 :: st) h := (ev_s (f := mx_push (.int 1)) n197_78 rfl rfl).trans es_push
theorem n197_79 : mx_ins 197 79 = some ((.goto 4), 3) := mx_ins_of mi197 dX20_findBest_79 rfl
theorem u197_79 : ev d 197 79 lo st h = ev d 197 83 lo st h := ev_goto n197_79 rfl
theorem n197_82 : mx_ins 197 82 = some ((.iconst 0), 1) := mx_ins_of mi197 dX20_findBest_82 rfl
theorem u197_82 : ev d 197 82 lo st h = ev d 197 83 lo (.int 0 :: st) h := (ev_s (f := mx_push (.int 0)) n197_82 rfl rfl).trans es_push
theorem n197_83 : mx_ins 197 83 = some ((.istore 6), 2) := mx_ins_of mi197 dX20_findBest_83 rfl
theorem u197_83 : ev d 197 83 lo st h = evS (mx_stI 6) d 197 85 lo st h := ev_s n197_83 rfl rfl
theorem n197_85 : mx_ins 197 85 = some ((.iload 6), 2) := mx_ins_of mi197 dX20_findBest_85 rfl
theorem u197_85 : ev d 197 85 lo st h = evS (mx_ldI 6) d 197 87 lo st h := ev_s n197_85 rfl rfl
theorem n197_87 : mx_ins 197 87 = some ((.ifCond .eq 26), 3) := mx_ins_of mi197 dX20_findBest_87 rfl
theorem u197_87 : ev d 197 87 lo st h = evJ .eq d 197 113 90 lo st h := ev_if n197_87 rfl rfl
theorem n197_90 : mx_ins 197 90 = some ((.aload_n 0), 1) := mx_ins_of mi197 dX20_findBest_90 rfl
theorem u197_90 : ev d 197 90 lo st h = evS (mx_ldA 0) d 197 91 lo st h := ev_s n197_90 rfl rfl
theorem n197_91 : mx_ins 197 91 = some ((.aload_n 0), 1) := mx_ins_of mi197 dX20_findBest_91 rfl
theorem u197_91 : ev d 197 91 lo st h = evS (mx_ldA 0) d 197 92 lo st h := ev_s n197_91 rfl rfl
theorem n197_92 : mx_ins 197 92 = some ((.iconst 4), 1) := mx_ins_of mi197 dX20_findBest_92 rfl
theorem u197_92 : ev d 197 92 lo st h = ev d 197 93 lo (.int 4 :: st) h := (ev_s (f := mx_push (.int 4)) n197_92 rfl rfl).trans es_push
theorem n197_93 : mx_ins 197 93 = some ((.invokevirtual 255), 3) := mx_ins_of mi197 dX20_findBest_93 rfl
theorem u197_93 : ev d 197 93 lo st h = evIn d 197 93 96 20 255 2 false lo st h := ev_inv n197_93 rfl rfl ow197 ia20_255
theorem n197_96 : mx_ins 197 96 = some ((.putfield 302), 3) := mx_ins_of mi197 dX20_findBest_96 rfl
theorem u197_96 : ev d 197 96 lo st h = evS (mx_pf 20 302 false) d 197 99 lo st h := ev_s n197_96 rfl rfl
theorem n197_99 : mx_ins 197 99 = some ((.aload_n 0), 1) := mx_ins_of mi197 dX20_findBest_99 rfl
theorem u197_99 : ev d 197 99 lo st h = evS (mx_ldA 0) d 197 100 lo st h := ev_s n197_99 rfl rfl
theorem n197_100 : mx_ins 197 100 = some ((.iload 5), 2) := mx_ins_of mi197 dX20_findBest_100 rfl
theorem u197_100 : ev d 197 100 lo st h = evS (mx_ldI 5) d 197 102 lo st h := ev_s n197_100 rfl rfl
theorem n197_102 : mx_ins 197 102 = some ((.putfield 305), 3) := mx_ins_of mi197 dX20_findBest_102 rfl
theorem u197_102 : ev d 197 102 lo st h = evS (mx_pf 20 305 false) d 197 105 lo st h := ev_s n197_102 rfl rfl
theorem n197_105 : mx_ins 197 105 = some ((.aload_n 0), 1) := mx_ins_of mi197 dX20_findBest_105 rfl
theorem u197_105 : ev d 197 105 lo st h = evS (mx_ldA 0) d 197 106 lo st h := ev_s n197_105 rfl rfl
theorem n197_106 : mx_ins 197 106 = some ((.iload 4), 2) := mx_ins_of mi197 dX20_findBest_106 rfl
theorem u197_106 : ev d 197 106 lo st h = evS (mx_ldI 4) d 197 108 lo st h := ev_s n197_106 rfl rfl
theorem n197_108 : mx_ins 197 108 = some ((.putfield 308), 3) := mx_ins_of mi197 dX20_findBest_108 rfl
theorem u197_108 : ev d 197 108 lo st h = evS (mx_pf 20 308 false) d 197 111 lo st h := ev_s n197_108 rfl rfl
theorem n197_111 : mx_ins 197 111 = some ((.iconst 1), 1) := mx_ins_of mi197 dX20_findBest_111 rfl
theorem u197_111 : ev d 197 111 lo st h = ev d 197 112 lo (.int 1 :: st) h := (ev_s (f := mx_push (.int 1)) n197_111 rfl rfl).trans es_push
theorem n197_112 : mx_ins 197 112 = some ((.istore_n 2), 1) := mx_ins_of mi197 dX20_findBest_112 rfl
theorem u197_112 : ev d 197 112 lo st h = evS (mx_stI 2) d 197 113 lo st h := ev_s n197_112 rfl rfl
theorem n197_113 : mx_ins 197 113 = some ((.aload_n 0), 1) := mx_ins_of mi197 dX20_findBest_113 rfl
theorem u197_113 : ev d 197 113 lo st h = evS (mx_ldA 0) d 197 114 lo st h := ev_s n197_113 rfl rfl
theorem n197_114 : mx_ins 197 114 = some ((.iconst 0), 1) := mx_ins_of mi197 dX20_findBest_114 rfl
theorem u197_114 : ev d 197 114 lo st h = ev d 197 115 lo (.int 0 :: st) h := (ev_s (f := mx_push (.int 0)) n197_114 rfl rfl).trans es_push
theorem n197_115 : mx_ins 197 115 = some ((.putfield 104), 3) := mx_ins_of mi197 dX20_findBest_115 rfl
theorem u197_115 : ev d 197 115 lo st h = evS (mx_pf 20 104 false) d 197 118 lo st h := ev_s n197_115 rfl rfl
theorem n197_118 : mx_ins 197 118 = some ((.iinc 3 1), 3) := mx_ins_of mi197 dX20_findBest_118 rfl
theorem u197_118 : ev d 197 118 lo st h = evS (mx_inc 3 (1)) d 197 121 lo st h := ev_s n197_118 rfl rfl
theorem n197_121 : mx_ins 197 121 = some ((.goto (-117)), 3) := mx_ins_of mi197 dX20_findBest_121 rfl
theorem u197_121 : ev d 197 121 lo st h = ev d 197 4 lo st h := ev_goto n197_121 rfl
theorem n197_124 : mx_ins 197 124 = some ((.iload_n 2), 1) := mx_ins_of mi197 dX20_findBest_124 rfl
theorem u197_124 : ev d 197 124 lo st h = evS (mx_ldI 2) d 197 125 lo st h := ev_s n197_124 rfl rfl
theorem n197_125 : mx_ins 197 125 = some (.ireturn, 1) := mx_ins_of mi197 dX20_findBest_125 rfl
theorem u197_125 : ev d 197 125 lo st h = evI d 197 125 126 lo st h .ireturn := ev_u n197_125 rfl
theorem mi198 : mx_mi 198 = some (yX20_goesBy, cX20_goesBy, 6, (Option.some Jvm.ClassFile.FieldType.int), 20, 3, []) := rfl
theorem ow198 : mx_own 198 = 20 := mx_mi_own mi198
theorem mm198 : mx_max 198 = 6 := mx_mi_max mi198
theorem rt198 : mx_ret 198 = (Option.some Jvm.ClassFile.FieldType.int) := mx_mi_ret mi198
theorem hn198 : mx_hnd 198 = [] := mx_mi_hnd mi198
theorem n198_0 : mx_ins 198 0 = some ((.aload_n 0), 1) := mx_ins_of mi198 dX20_goesBy_0 rfl
theorem u198_0 : ev d 198 0 lo st h = evS (mx_ldA 0) d 198 1 lo st h := ev_s n198_0 rfl rfl
theorem n198_1 : mx_ins 198 1 = some ((.iconst 0), 1) := mx_ins_of mi198 dX20_goesBy_1 rfl
theorem u198_1 : ev d 198 1 lo st h = ev d 198 2 lo (.int 0 :: st) h := (ev_s (f := mx_push (.int 0)) n198_1 rfl rfl).trans es_push
theorem n198_2 : mx_ins 198 2 = some ((.bipush 7), 2) := mx_ins_of mi198 dX20_goesBy_2 rfl
theorem u198_2 : ev d 198 2 lo st h = ev d 198 4 lo (.int 7 :: st) h := (ev_s (f := mx_push (.int 7)) n198_2 rfl rfl).trans es_push
theorem n198_4 : mx_ins 198 4 = some ((.invokevirtual 295), 3) := mx_ins_of mi198 dX20_goesBy_4 rfl
theorem u198_4 : ev d 198 4 lo st h = evIn d 198 4 7 20 295 3 false lo st h := ev_inv n198_4 rfl rfl ow198 ia20_295
theorem n198_7 : mx_ins 198 7 = some ((.iconst 0), 1) := mx_ins_of mi198 dX20_goesBy_7 rfl
theorem u198_7 : ev d 198 7 lo st h = ev d 198 8 lo (.int 0 :: st) h := (ev_s (f := mx_push (.int 0)) n198_7 rfl rfl).trans es_push
theorem n198_8 : mx_ins 198 8 = some ((.istore_n 3), 1) := mx_ins_of mi198 dX20_goesBy_8 rfl
theorem u198_8 : ev d 198 8 lo st h = evS (mx_stI 3) d 198 9 lo st h := ev_s n198_8 rfl rfl
theorem n198_9 : mx_ins 198 9 = some ((.iconst 0), 1) := mx_ins_of mi198 dX20_goesBy_9 rfl
theorem u198_9 : ev d 198 9 lo st h = ev d 198 10 lo (.int 0 :: st) h := (ev_s (f := mx_push (.int 0)) n198_9 rfl rfl).trans es_push
theorem n198_10 : mx_ins 198 10 = some ((.istore 4), 2) := mx_ins_of mi198 dX20_goesBy_10 rfl
theorem u198_10 : ev d 198 10 lo st h = evS (mx_stI 4) d 198 12 lo st h := ev_s n198_10 rfl rfl
theorem n198_12 : mx_ins 198 12 = some ((.iload 4), 2) := mx_ins_of mi198 dX20_goesBy_12 rfl
theorem u198_12 : ev d 198 12 lo st h = evS (mx_ldI 4) d 198 14 lo st h := ev_s n198_12 rfl rfl
theorem n198_14 : mx_ins 198 14 = some ((.iload_n 1), 1) := mx_ins_of mi198 dX20_goesBy_14 rfl
theorem u198_14 : ev d 198 14 lo st h = evS (mx_ldI 1) d 198 15 lo st h := ev_s n198_14 rfl rfl
theorem n198_15 : mx_ins 198 15 = some ((.if_icmp .ge 50), 3) := mx_ins_of mi198 dX20_goesBy_15 rfl
theorem u198_15 : ev d 198 15 lo st h = evK .ge d 198 65 18 lo st h := ev_ic n198_15 rfl rfl
theorem n198_18 : mx_ins 198 18 = some ((.iload_n 2), 1) := mx_ins_of mi198 dX20_goesBy_18 rfl
theorem u198_18 : ev d 198 18 lo st h = evS (mx_ldI 2) d 198 19 lo st h := ev_s n198_18 rfl rfl
theorem n198_19 : mx_ins 198 19 = some ((.iconst 2), 1) := mx_ins_of mi198 dX20_goesBy_19 rfl
theorem u198_19 : ev d 198 19 lo st h = ev d 198 20 lo (.int 2 :: st) h := (ev_s (f := mx_push (.int 2)) n198_19 rfl rfl).trans es_push
theorem n198_20 : mx_ins 198 20 = some ((.iload_n 1), 1) := mx_ins_of mi198 dX20_goesBy_20 rfl
theorem u198_20 : ev d 198 20 lo st h = evS (mx_ldI 1) d 198 21 lo st h := ev_s n198_20 rfl rfl
theorem n198_21 : mx_ins 198 21 = some ((.iconst 1), 1) := mx_ins_of mi198 dX20_goesBy_21 rfl
theorem u198_21 : ev d 198 21 lo st h = ev d 198 22 lo (.int 1 :: st) h := (ev_s (f := mx_push (.int 1)) n198_21 rfl rfl).trans es_push
theorem n198_22 : mx_ins 198 22 = some (.isub, 1) := mx_ins_of mi198 dX20_goesBy_22 rfl
theorem u198_22 : ev d 198 22 lo st h = evI d 198 22 23 lo st h .isub := ev_u n198_22 rfl
theorem n198_23 : mx_ins 198 23 = some ((.iload 4), 2) := mx_ins_of mi198 dX20_goesBy_23 rfl
theorem u198_23 : ev d 198 23 lo st h = evS (mx_ldI 4) d 198 25 lo st h := ev_s n198_23 rfl rfl
theorem n198_25 : mx_ins 198 25 = some (.isub, 1) := mx_ins_of mi198 dX20_goesBy_25 rfl
theorem u198_25 : ev d 198 25 lo st h = evI d 198 25 26 lo st h .isub := ev_u n198_25 rfl
theorem n198_26 : mx_ins 198 26 = some (.imul, 1) := mx_ins_of mi198 dX20_goesBy_26 rfl
theorem u198_26 : ev d 198 26 lo st h = evI d 198 26 27 lo st h .imul := ev_u n198_26 rfl
theorem n198_27 : mx_ins 198 27 = some (.ishr, 1) := mx_ins_of mi198 dX20_goesBy_27 rfl
theorem u198_27 : ev d 198 27 lo st h = evI d 198 27 28 lo st h .ishr := ev_u n198_27 rfl
theorem n198_28 : mx_ins 198 28 = some ((.iconst 3), 1) := mx_ins_of mi198 dX20_goesBy_28 rfl
theorem u198_28 : ev d 198 28 lo st h = ev d 198 29 lo (.int 3 :: st) h := (ev_s (f := mx_push (.int 3)) n198_28 rfl rfl).trans es_push
theorem n198_29 : mx_ins 198 29 = some (.iand, 1) := mx_ins_of mi198 dX20_goesBy_29 rfl
theorem u198_29 : ev d 198 29 lo st h = evI d 198 29 30 lo st h .iand := ev_u n198_29 rfl
theorem n198_30 : mx_ins 198 30 = some ((.istore 5), 2) := mx_ins_of mi198 dX20_goesBy_30 rfl
theorem u198_30 : ev d 198 30 lo st h = evS (mx_stI 5) d 198 32 lo st h := ev_s n198_30 rfl rfl
theorem n198_32 : mx_ins 198 32 = some ((.iload_n 3), 1) := mx_ins_of mi198 dX20_goesBy_32 rfl
theorem u198_32 : ev d 198 32 lo st h = evS (mx_ldI 3) d 198 33 lo st h := ev_s n198_32 rfl rfl
theorem n198_33 : mx_ins 198 33 = some ((.iload 5), 2) := mx_ins_of mi198 dX20_goesBy_33 rfl
theorem u198_33 : ev d 198 33 lo st h = evS (mx_ldI 5) d 198 35 lo st h := ev_s n198_33 rfl rfl
theorem n198_35 : mx_ins 198 35 = some ((.iconst 2), 1) := mx_ins_of mi198 dX20_goesBy_35 rfl
theorem u198_35 : ev d 198 35 lo st h = ev d 198 36 lo (.int 2 :: st) h := (ev_s (f := mx_push (.int 2)) n198_35 rfl rfl).trans es_push
theorem n198_36 : mx_ins 198 36 = some ((.iload 4), 2) := mx_ins_of mi198 dX20_goesBy_36 rfl
theorem u198_36 : ev d 198 36 lo st h = evS (mx_ldI 4) d 198 38 lo st h := ev_s n198_36 rfl rfl
theorem n198_38 : mx_ins 198 38 = some (.imul, 1) := mx_ins_of mi198 dX20_goesBy_38 rfl
theorem u198_38 : ev d 198 38 lo st h = evI d 198 38 39 lo st h .imul := ev_u n198_38 rfl
theorem n198_39 : mx_ins 198 39 = some (.ishl, 1) := mx_ins_of mi198 dX20_goesBy_39 rfl
theorem u198_39 : ev d 198 39 lo st h = evI d 198 39 40 lo st h .ishl := ev_u n198_39 rfl
theorem n198_40 : mx_ins 198 40 = some (.ior, 1) := mx_ins_of mi198 dX20_goesBy_40 rfl
theorem u198_40 : ev d 198 40 lo st h = evI d 198 40 41 lo st h .ior := ev_u n198_40 rfl
theorem n198_41 : mx_ins 198 41 = some ((.istore_n 3), 1) := mx_ins_of mi198 dX20_goesBy_41 rfl
theorem u198_41 : ev d 198 41 lo st h = evS (mx_stI 3) d 198 42 lo st h := ev_s n198_41 rfl rfl
theorem n198_42 : mx_ins 198 42 = some ((.aload_n 0), 1) := mx_ins_of mi198 dX20_goesBy_42 rfl
theorem u198_42 : ev d 198 42 lo st h = evS (mx_ldA 0) d 198 43 lo st h := ev_s n198_42 rfl rfl
theorem n198_43 : mx_ins 198 43 = some ((.getfield 7), 3) := mx_ins_of mi198 dX20_goesBy_43 rfl
theorem u198_43 : ev d 198 43 lo st h = evS (mx_gf 20 7) d 198 46 lo st h := ev_s n198_43 rfl rfl
theorem n198_46 : mx_ins 198 46 = some ((.aload_n 0), 1) := mx_ins_of mi198 dX20_goesBy_46 rfl
theorem u198_46 : ev d 198 46 lo st h = evS (mx_ldA 0) d 198 47 lo st h := ev_s n198_46 rfl rfl
theorem n198_47 : mx_ins 198 47 = some ((.getfield 104), 3) := mx_ins_of mi198 dX20_goesBy_47 rfl
theorem u198_47 : ev d 198 47 lo st h = evS (mx_gf 20 104) d 198 50 lo st h := ev_s n198_47 rfl rfl
theorem n198_50 : mx_ins 198 50 = some ((.iconst 5), 1) := mx_ins_of mi198 dX20_goesBy_50 rfl
theorem u198_50 : ev d 198 50 lo st h = ev d 198 51 lo (.int 5 :: st) h := (ev_s (f := mx_push (.int 5)) n198_50 rfl rfl).trans es_push
theorem n198_51 : mx_ins 198 51 = some (.iadd, 1) := mx_ins_of mi198 dX20_goesBy_51 rfl
theorem u198_51 : ev d 198 51 lo st h = evI d 198 51 52 lo st h .iadd := ev_u n198_51 rfl
theorem n198_52 : mx_ins 198 52 = some ((.iload 5), 2) := mx_ins_of mi198 dX20_goesBy_52 rfl
theorem u198_52 : ev d 198 52 lo st h = evS (mx_ldI 5) d 198 54 lo st h := ev_s n198_52 rfl rfl
theorem n198_54 : mx_ins 198 54 = some (.iastore, 1) := mx_ins_of mi198 dX20_goesBy_54 rfl
theorem u198_54 : ev d 198 54 lo st h = evI d 198 54 55 lo st h .iastore := ev_u n198_54 rfl
theorem n198_55 : mx_ins 198 55 = some ((.aload_n 0), 1) := mx_ins_of mi198 dX20_goesBy_55 rfl
theorem u198_55 : ev d 198 55 lo st h = evS (mx_ldA 0) d 198 56 lo st h := ev_s n198_55 rfl rfl
theorem n198_56 : mx_ins 198 56 = some ((.invokevirtual 276), 3) := mx_ins_of mi198 dX20_goesBy_56 rfl
theorem u198_56 : ev d 198 56 lo st h = evIn d 198 56 59 20 276 1 false lo st h := ev_inv n198_56 rfl rfl ow198 ia20_276
theorem n198_59 : mx_ins 198 59 = some ((.iinc 4 1), 3) := mx_ins_of mi198 dX20_goesBy_59 rfl
theorem u198_59 : ev d 198 59 lo st h = evS (mx_inc 4 (1)) d 198 62 lo st h := ev_s n198_59 rfl rfl
theorem n198_62 : mx_ins 198 62 = some ((.goto (-50)), 3) := mx_ins_of mi198 dX20_goesBy_62 rfl
theorem u198_62 : ev d 198 62 lo st h = ev d 198 12 lo st h := ev_goto n198_62 rfl
theorem n198_65 : mx_ins 198 65 = some ((.iload_n 3), 1) := mx_ins_of mi198 dX20_goesBy_65 rfl
theorem u198_65 : ev d 198 65 lo st h = evS (mx_ldI 3) d 198 66 lo st h := ev_s n198_65 rfl rfl
theorem n198_66 : mx_ins 198 66 = some (.ireturn, 1) := mx_ins_of mi198 dX20_goesBy_66 rfl
theorem u198_66 : ev d 198 66 lo st h = evI d 198 66 67 lo st h .ireturn := ev_u n198_66 rfl
theorem mi199 : mx_mi 199 = some (yX20_later, cX20_later, 6, (Option.some Jvm.ClassFile.FieldType.int), 20, 3, []) := rfl
theorem ow199 : mx_own 199 = 20 := mx_mi_own mi199
theorem mm199 : mx_max 199 = 6 := mx_mi_max mi199
theorem rt199 : mx_ret 199 = (Option.some Jvm.ClassFile.FieldType.int) := mx_mi_ret mi199
theorem hn199 : mx_hnd 199 = [] := mx_mi_hnd mi199
theorem n199_0 : mx_ins 199 0 = some ((.iload_n 1), 1) := mx_ins_of mi199 dX20_later_0 rfl
theorem u199_0 : ev d 199 0 lo st h = evS (mx_ldI 1) d 199 1 lo st h := ev_s n199_0 rfl rfl
theorem n199_1 : mx_ins 199 1 = some ((.invokestatic 246), 3) := mx_ins_of mi199 dX20_later_1 rfl
theorem u199_1 : ev d 199 1 lo st h = evIn d 199 1 4 20 246 1 true lo st h := ev_inv n199_1 rfl rfl ow199 ia20_246
theorem n199_4 : mx_ins 199 4 = some ((.ifCond .eq 14), 3) := mx_ins_of mi199 dX20_later_4 rfl
theorem u199_4 : ev d 199 4 lo st h = evJ .eq d 199 18 7 lo st h := ev_if n199_4 rfl rfl
theorem n199_7 : mx_ins 199 7 = some ((.iload_n 2), 1) := mx_ins_of mi199 dX20_later_7 rfl
theorem u199_7 : ev d 199 7 lo st h = evS (mx_ldI 2) d 199 8 lo st h := ev_s n199_7 rfl rfl
theorem n199_8 : mx_ins 199 8 = some ((.iconst 0), 1) := mx_ins_of mi199 dX20_later_8 rfl
theorem u199_8 : ev d 199 8 lo st h = ev d 199 9 lo (.int 0 :: st) h := (ev_s (f := mx_push (.int 0)) n199_8 rfl rfl).trans es_push
theorem n199_9 : mx_ins 199 9 = some ((.sipush 1000), 3) := mx_ins_of mi199 dX20_later_9 rfl
theorem u199_9 : ev d 199 9 lo st h = ev d 199 12 lo (.int 1000 :: st) h := (ev_s (f := mx_push (.int 1000)) n199_9 rfl rfl).trans es_push
theorem n199_12 : mx_ins 199 12 = some ((.invokestatic 100), 3) := mx_ins_of mi199 dX20_later_12 rfl
theorem u199_12 : ev d 199 12 lo st h = evIn d 199 12 15 20 100 3 true lo st h := ev_inv n199_12 rfl rfl ow199 ia20_100
theorem n199_15 : mx_ins 199 15 = some ((.ifCond .ne 5), 3) := mx_ins_of mi199 dX20_later_15 rfl
theorem u199_15 : ev d 199 15 lo st h = evJ .ne d 199 20 18 lo st h := ev_if n199_15 rfl rfl
theorem n199_18 : mx_ins 199 18 = some ((.iconst (-1)), 1) := mx_ins_of mi199 dX20_later_18 rfl
theorem u199_18 : ev d 199 18 lo st h = ev d 199 19 lo (.int (-1) :: st) h := (ev_s (f := mx_push (.int (-1))) n199_18 rfl rfl).trans es_push
theorem n199_19 : mx_ins 199 19 = some (.ireturn, 1) := mx_ins_of mi199 dX20_later_19 rfl
theorem u199_19 : ev d 199 19 lo st h = evI d 199 19 20 lo st h .ireturn := ev_u n199_19 rfl
theorem n199_20 : mx_ins 199 20 = some ((.aload_n 0), 1) := mx_ins_of mi199 dX20_later_20 rfl
theorem u199_20 : ev d 199 20 lo st h = evS (mx_ldA 0) d 199 21 lo st h := ev_s n199_20 rfl rfl
theorem n199_21 : mx_ins 199 21 = some ((.invokevirtual 260), 3) := mx_ins_of mi199 dX20_later_21 rfl
theorem u199_21 : ev d 199 21 lo st h = evIn d 199 21 24 20 260 1 false lo st h := ev_inv n199_21 rfl rfl ow199 ia20_260
theorem n199_24 : mx_ins 199 24 = some ((.istore_n 3), 1) := mx_ins_of mi199 dX20_later_24 rfl
theorem u199_24 : ev d 199 24 lo st h = evS (mx_stI 3) d 199 25 lo st h := ev_s n199_24 rfl rfl
theorem n199_25 : mx_ins 199 25 = some ((.bipush (-3)), 2) := mx_ins_of mi199 dX20_later_25 rfl
theorem u199_25 : ev d 199 25 lo st h = ev d 199 27 lo (.int (-3) :: st) h := (ev_s (f := mx_push (.int (-3))) n199_25 rfl rfl).trans es_push
theorem n199_27 : mx_ins 199 27 = some ((.istore 4), 2) := mx_ins_of mi199 dX20_later_27 rfl
theorem u199_27 : ev d 199 27 lo st h = evS (mx_stI 4) d 199 29 lo st h := ev_s n199_27 rfl rfl
theorem n199_29 : mx_ins 199 29 = some ((.aload_n 0), 1) := mx_ins_of mi199 dX20_later_29 rfl
theorem u199_29 : ev d 199 29 lo st h = evS (mx_ldA 0) d 199 30 lo st h := ev_s n199_29 rfl rfl
theorem n199_30 : mx_ins 199 30 = some ((.getfield 7), 3) := mx_ins_of mi199 dX20_later_30 rfl
theorem u199_30 : ev d 199 30 lo st h = evS (mx_gf 20 7) d 199 33 lo st h := ev_s n199_30 rfl rfl
theorem n199_33 : mx_ins 199 33 = some ((.bipush 6), 2) := mx_ins_of mi199 dX20_later_33 rfl
theorem u199_33 : ev d 199 33 lo st h = ev d 199 35 lo (.int 6 :: st) h := (ev_s (f := mx_push (.int 6)) n199_33 rfl rfl).trans es_push
theorem n199_35 : mx_ins 199 35 = some (.iaload, 1) := mx_ins_of mi199 dX20_later_35 rfl
theorem u199_35 : ev d 199 35 lo st h = evI d 199 35 36 lo st h .iaload := ev_u n199_35 rfl
theorem n199_36 : mx_ins 199 36 = some ((.istore 5), 2) := mx_ins_of mi199 dX20_later_36 rfl
theorem u199_36 : ev d 199 36 lo st h = evS (mx_stI 5) d 199 38 lo st h := ev_s n199_36 rfl rfl
theorem n199_38 : mx_ins 199 38 = some ((.iload 5), 2) := mx_ins_of mi199 dX20_later_38 rfl
theorem u199_38 : ev d 199 38 lo st h = evS (mx_ldI 5) d 199 40 lo st h := ev_s n199_38 rfl rfl
theorem n199_40 : mx_ins 199 40 = some ((.bipush 24), 2) := mx_ins_of mi199 dX20_later_40 rfl
theorem u199_40 : ev d 199 40 lo st h = ev d 199 42 lo (.int 24 :: st) h := (ev_s (f := mx_push (.int 24)) n199_40 rfl rfl).trans es_push
theorem n199_42 : mx_ins 199 42 = some ((.if_icmp .ge 91), 3) := mx_ins_of mi199 dX20_later_42 rfl
theorem u199_42 : ev d 199 42 lo st h = evK .ge d 199 133 45 lo st h := ev_ic n199_42 rfl rfl
theorem n199_45 : mx_ins 199 45 = some ((.iload 4), 2) := mx_ins_of mi199 dX20_later_45 rfl
theorem u199_45 : ev d 199 45 lo st h = evS (mx_ldI 4) d 199 47 lo st h := ev_s n199_45 rfl rfl
theorem n199_47 : mx_ins 199 47 = some ((.ifCond .ge 86), 3) := mx_ins_of mi199 dX20_later_47 rfl
theorem u199_47 : ev d 199 47 lo st h = evJ .ge d 199 133 50 lo st h := ev_if n199_47 rfl rfl
theorem n199_50 : mx_ins 199 50 = some ((.aload_n 0), 1) := mx_ins_of mi199 dX20_later_50 rfl
theorem u199_50 : ev d 199 50 lo st h = evS (mx_ldA 0) d 199 51 lo st h := ev_s n199_50 rfl rfl
theorem n199_51 : mx_ins 199 51 = some ((.iconst 0), 1) := mx_ins_of mi199 dX20_later_51 rfl
theorem u199_51 : ev d 199 51 lo st h = ev d 199 52 lo (.int 0 :: st) h := (ev_s (f := mx_push (.int 0)) n199_51 rfl rfl).trans es_push
theorem n199_52 : mx_ins 199 52 = some ((.bipush 7), 2) := mx_ins_of mi199 dX20_later_52 rfl
theorem u199_52 : ev d 199 52 lo st h = ev d 199 54 lo (.int 7 :: st) h := (ev_s (f := mx_push (.int 7)) n199_52 rfl rfl).trans es_push
theorem n199_54 : mx_ins 199 54 = some ((.invokevirtual 295), 3) := mx_ins_of mi199 dX20_later_54 rfl
theorem u199_54 : ev d 199 54 lo st h = evIn d 199 54 57 20 295 3 false lo st h := ev_inv n199_54 rfl rfl ow199 ia20_295
theorem n199_57 : mx_ins 199 57 = some ((.aload_n 0), 1) := mx_ins_of mi199 dX20_later_57 rfl
theorem u199_57 : ev d 199 57 lo st h = evS (mx_ldA 0) d 199 58 lo st h := ev_s n199_57 rfl rfl
theorem n199_58 : mx_ins 199 58 = some ((.getfield 7), 3) := mx_ins_of mi199 dX20_later_58 rfl
theorem u199_58 : ev d 199 58 lo st h = evS (mx_gf 20 7) d 199 61 lo st h := ev_s n199_58 rfl rfl
theorem n199_61 : mx_ins 199 61 = some ((.aload_n 0), 1) := mx_ins_of mi199 dX20_later_61 rfl
theorem u199_61 : ev d 199 61 lo st h = evS (mx_ldA 0) d 199 62 lo st h := ev_s n199_61 rfl rfl
theorem n199_62 : mx_ins 199 62 = some ((.getfield 104), 3) := mx_ins_of mi199 dX20_later_62 rfl
theorem u199_62 : ev d 199 62 lo st h = evS (mx_gf 20 104) d 199 65 lo st h := ev_s n199_62 rfl rfl
theorem n199_65 : mx_ins 199 65 = some ((.iconst 5), 1) := mx_ins_of mi199 dX20_later_65 rfl
theorem u199_65 : ev d 199 65 lo st h = ev d 199 66 lo (.int 5 :: st) h := (ev_s (f := mx_push (.int 5)) n199_65 rfl rfl).trans es_push
theorem n199_66 : mx_ins 199 66 = some (.iadd, 1) := mx_ins_of mi199 dX20_later_66 rfl
theorem u199_66 : ev d 199 66 lo st h = evI d 199 66 67 lo st h .iadd := ev_u n199_66 rfl
theorem n199_67 : mx_ins 199 67 = some ((.iload_n 1), 1) := mx_ins_of mi199 dX20_later_67 rfl
theorem u199_67 : ev d 199 67 lo st h = evS (mx_ldI 1) d 199 68 lo st h := ev_s n199_67 rfl rfl
theorem n199_68 : mx_ins 199 68 = some (.iastore, 1) := mx_ins_of mi199 dX20_later_68 rfl
theorem u199_68 : ev d 199 68 lo st h = evI d 199 68 69 lo st h .iastore := ev_u n199_68 rfl
theorem n199_69 : mx_ins 199 69 = some ((.aload_n 0), 1) := mx_ins_of mi199 dX20_later_69 rfl
theorem u199_69 : ev d 199 69 lo st h = evS (mx_ldA 0) d 199 70 lo st h := ev_s n199_69 rfl rfl
theorem n199_70 : mx_ins 199 70 = some ((.getfield 7), 3) := mx_ins_of mi199 dX20_later_70 rfl
theorem u199_70 : ev d 199 70 lo st h = evS (mx_gf 20 7) d 199 73 lo st h := ev_s n199_70 rfl rfl
theorem n199_73 : mx_ins 199 73 = some ((.aload_n 0), 1) := mx_ins_of mi199 dX20_later_73 rfl
theorem u199_73 : ev d 199 73 lo st h = evS (mx_ldA 0) d 199 74 lo st h := ev_s n199_73 rfl rfl
theorem n199_74 : mx_ins 199 74 = some ((.getfield 104), 3) := mx_ins_of mi199 dX20_later_74 rfl
theorem u199_74 : ev d 199 74 lo st h = evS (mx_gf 20 104) d 199 77 lo st h := ev_s n199_74 rfl rfl
theorem n199_77 : mx_ins 199 77 = some ((.bipush 6), 2) := mx_ins_of mi199 dX20_later_77 rfl
theorem u199_77 : ev d 199 77 lo st h = ev d 199 79 lo (.int 6 :: st) h := (ev_s (f := mx_push (.int 6)) n199_77 rfl rfl).trans es_push
theorem n199_79 : mx_ins 199 79 = some (.iadd, 1) := mx_ins_of mi199 dX20_later_79 rfl
theorem u199_79 : ev d 199 79 lo st h = evI d 199 79 80 lo st h .iadd := ev_u n199_79 rfl
theorem n199_80 : mx_ins 199 80 = some ((.iload 5), 2) := mx_ins_of mi199 dX20_later_80 rfl
theorem u199_80 : ev d 199 80 lo st h = evS (mx_ldI 5) d 199 82 lo st h := ev_s n199_80 rfl rfl
theorem n199_82 : mx_ins 199 82 = some (.iastore, 1) := mx_ins_of mi199 dX20_later_82 rfl
theorem u199_82 : ev d 199 82 lo st h = evI d 199 82 83 lo st h .iastore := ev_u n199_82 rfl
theorem n199_83 : mx_ins 199 83 = some ((.aload_n 0), 1) := mx_ins_of mi199 dX20_later_83 rfl
theorem u199_83 : ev d 199 83 lo st h = evS (mx_ldA 0) d 199 84 lo st h := ev_s n199_83 rfl rfl
theorem n199_84 : mx_ins 199 84 = some ((.bipush 6), 2) := mx_ins_of mi199 dX20_later_84 rfl
theorem u199_84 : ev d 199 84 lo st h = ev d 199 86 lo (.int 6 :: st) h := (ev_s (f := mx_push (.int 6)) n199_84 rfl rfl).trans es_push
theorem n199_86 : mx_ins 199 86 = some ((.invokevirtual 255), 3) := mx_ins_of mi199 dX20_later_86 rfl
theorem u199_86 : ev d 199 86 lo st h = evIn d 199 86 89 20 255 2 false lo st h := ev_inv n199_86 rfl rfl ow199 ia20_255
theorem n199_89 : mx_ins 199 89 = some ((.bipush 24), 2) := mx_ins_of mi199 dX20_later_89 rfl
theorem u199_89 : ev d 199 89 lo st h = ev d 199 91 lo (.int 24 :: st) h := (ev_s (f := mx_push (.int 24)) n199_89 rfl rfl).trans es_push
theorem n199_91 : mx_ins 199 91 = some ((.if_icmp .ge 10), 3) := mx_ins_of mi199 dX20_later_91 rfl
theorem u199_91 : ev d 199 91 lo st h = evK .ge d 199 101 94 lo st h := ev_ic n199_91 rfl rfl
theorem n199_94 : mx_ins 199 94 = some ((.aload_n 0), 1) := mx_ins_of mi199 dX20_later_94 rfl
theorem u199_94 : ev d 199 94 lo st h = evS (mx_ldA 0) d 199 95 lo st h := ev_s n199_94 rfl rfl
theorem n199_95 : mx_ins 199 95 = some ((.invokevirtual 276), 3) := mx_ins_of mi199 dX20_later_95 rfl
theorem u199_95 : ev d 199 95 lo st h = evIn d 199 95 98 20 276 1 false lo st h := ev_inv n199_95 rfl rfl ow199 ia20_276
theorem n199_98 : mx_ins 199 98 = some ((.goto (-15)), 3) := mx_ins_of mi199 dX20_later_98 rfl
theorem u199_98 : ev d 199 98 lo st h = ev d 199 83 lo st h := ev_goto n199_98 rfl
theorem n199_101 : mx_ins 199 101 = some ((.iload_n 3), 1) := mx_ins_of mi199 dX20_later_101 rfl
theorem u199_101 : ev d 199 101 lo st h = evS (mx_ldI 3) d 199 102 lo st h := ev_s n199_101 rfl rfl
theorem n199_102 : mx_ins 199 102 = some ((.aload_n 0), 1) := mx_ins_of mi199 dX20_later_102 rfl
theorem u199_102 : ev d 199 102 lo st h = evS (mx_ldA 0) d 199 103 lo st h := ev_s n199_102 rfl rfl
theorem n199_103 : mx_ins 199 103 = some ((.invokevirtual 260), 3) := mx_ins_of mi199 dX20_later_103 rfl
theorem u199_103 : ev d 199 103 lo st h = evIn d 199 103 106 20 260 1 false lo st h := ev_inv n199_103 rfl rfl ow199 ia20_260
theorem n199_106 : mx_ins 199 106 = some ((.invokestatic 279), 3) := mx_ins_of mi199 dX20_later_106 rfl
theorem u199_106 : ev d 199 106 lo st h = evIn d 199 106 109 20 279 2 true lo st h := ev_inv n199_106 rfl rfl ow199 ia20_279
theorem n199_109 : mx_ins 199 109 = some ((.iload_n 2), 1) := mx_ins_of mi199 dX20_later_109 rfl
theorem u199_109 : ev d 199 109 lo st h = evS (mx_ldI 2) d 199 110 lo st h := ev_s n199_109 rfl rfl
theorem n199_110 : mx_ins 199 110 = some ((.if_icmp .gt 8), 3) := mx_ins_of mi199 dX20_later_110 rfl
theorem u199_110 : ev d 199 110 lo st h = evK .gt d 199 118 113 lo st h := ev_ic n199_110 rfl rfl
theorem n199_113 : mx_ins 199 113 = some ((.iload 5), 2) := mx_ins_of mi199 dX20_later_113 rfl
theorem u199_113 : ev d 199 113 lo st h = evS (mx_ldI 5) d 199 115 lo st h := ev_s n199_113 rfl rfl
theorem n199_115 : mx_ins 199 115 = some ((.goto 5), 3) := mx_ins_of mi199 dX20_later_115 rfl
theorem u199_115 : ev d 199 115 lo st h = ev d 199 120 lo st h := ev_goto n199_115 rfl
theorem n199_118 : mx_ins 199 118 = some ((.bipush (-3)), 2) := mx_ins_of mi199 dX20_later_118 rfl
theorem u199_118 : ev d 199 118 lo st h = ev d 199 120 lo (.int (-3) :: st) h := (ev_s (f := mx_push (.int (-3))) n199_118 rfl rfl).trans es_push
theorem n199_120 : mx_ins 199 120 = some ((.istore 4), 2) := mx_ins_of mi199 dX20_later_120 rfl
theorem u199_120 : ev d 199 120 lo st h = evS (mx_stI 4) d 199 122 lo st h := ev_s n199_120 rfl rfl
theorem n199_122 : mx_ins 199 122 = some ((.aload_n 0), 1) := mx_ins_of mi199 dX20_later_122 rfl
theorem u199_122 : ev d 199 122 lo st h = evS (mx_ldA 0) d 199 123 lo st h := ev_s n199_122 rfl rfl
theorem n199_123 : mx_ins 199 123 = some ((.iconst 0), 1) := mx_ins_of mi199 dX20_later_123 rfl
theorem u199_123 : ev d 199 123 lo st h = ev d 199 124 lo (.int 0 :: st) h := (ev_s (f := mx_push (.int 0)) n199_123 rfl rfl).trans es_push
theorem n199_124 : mx_ins 199 124 = some ((.putfield 104), 3) := mx_ins_of mi199 dX20_later_124 rfl
theorem u199_124 : ev d 199 124 lo st h = evS (mx_pf 20 104 false) d 199 127 lo st h := ev_s n199_124 rfl rfl
theorem n199_127 : mx_ins 199 127 = some ((.iinc 5 1), 3) := mx_ins_of mi199 dX20_later_127 rfl
theorem u199_127 : ev d 199 127 lo st h = evS (mx_inc 5 (1)) d 199 130 lo st h := ev_s n199_127 rfl rfl
theorem n199_130 : mx_ins 199 130 = some ((.goto (-92)), 3) := mx_ins_of mi199 dX20_later_130 rfl
theorem u199_130 : ev d 199 130 lo st h = ev d 199 38 lo st h := ev_goto n199_130 rfl
theorem n199_133 : mx_ins 199 133 = some ((.iload 4), 2) := mx_ins_of mi199 dX20_later_133 rfl
theorem u199_133 : ev d 199 133 lo st h = evS (mx_ldI 4) d 199 135 lo st h := ev_s n199_133 rfl rfl
theorem n199_135 : mx_ins 199 135 = some (.ireturn, 1) := mx_ins_of mi199 dX20_later_135 rfl
theorem u199_135 : ev d 199 135 lo st h = evI d 199 135 136 lo st h .ireturn := ev_u n199_135 rfl
theorem mi200 : mx_mi 200 = some (yX20_scale, cX20_scale, 2, (Option.some Jvm.ClassFile.FieldType.int), 20, 2, []) := rfl
theorem ow200 : mx_own 200 = 20 := mx_mi_own mi200
theorem mm200 : mx_max 200 = 2 := mx_mi_max mi200
theorem rt200 : mx_ret 200 = (Option.some Jvm.ClassFile.FieldType.int) := mx_mi_ret mi200
theorem hn200 : mx_hnd 200 = [] := mx_mi_hnd mi200
theorem n200_0 : mx_ins 200 0 = some ((.iload_n 1), 1) := mx_ins_of mi200 dX20_scale_0 rfl
theorem u200_0 : ev d 200 0 lo st h = evS (mx_ldI 1) d 200 1 lo st h := ev_s n200_0 rfl rfl
theorem n200_1 : mx_ins 200 1 = some ((.iconst 0), 1) := mx_ins_of mi200 dX20_scale_1 rfl
theorem u200_1 : ev d 200 1 lo st h = ev d 200 2 lo (.int 0 :: st) h := (ev_s (f := mx_push (.int 0)) n200_1 rfl rfl).trans es_push
theorem n200_2 : mx_ins 200 2 = some ((.bipush 99), 2) := mx_ins_of mi200 dX20_scale_2 rfl
theorem u200_2 : ev d 200 2 lo st h = ev d 200 4 lo (.int 99 :: st) h := (ev_s (f := mx_push (.int 99)) n200_2 rfl rfl).trans es_push
theorem n200_4 : mx_ins 200 4 = some ((.invokestatic 100), 3) := mx_ins_of mi200 dX20_scale_4 rfl
theorem u200_4 : ev d 200 4 lo st h = evIn d 200 4 7 20 100 3 true lo st h := ev_inv n200_4 rfl rfl ow200 ia20_100
theorem n200_7 : mx_ins 200 7 = some ((.ifCond .ne 6), 3) := mx_ins_of mi200 dX20_scale_7 rfl
theorem u200_7 : ev d 200 7 lo st h = evJ .ne d 200 13 10 lo st h := ev_if n200_7 rfl rfl
theorem n200_10 : mx_ins 200 10 = some ((.ldc 241), 2) := mx_ins_of mi200 dX20_scale_10 rfl
theorem u200_10 : ev d 200 10 lo st h = ev d 200 12 lo (.int (-2147483648) :: st) h := (ev_s (f := mx_push (.int (-2147483648))) n200_10 rfl rfl).trans es_push
theorem n200_12 : mx_ins 200 12 = some (.ireturn, 1) := mx_ins_of mi200 dX20_scale_12 rfl
theorem u200_12 : ev d 200 12 lo st h = evI d 200 12 13 lo st h .ireturn := ev_u n200_12 rfl
theorem n200_13 : mx_ins 200 13 = some ((.aload_n 0), 1) := mx_ins_of mi200 dX20_scale_13 rfl
theorem u200_13 : ev d 200 13 lo st h = evS (mx_ldA 0) d 200 14 lo st h := ev_s n200_13 rfl rfl
theorem n200_14 : mx_ins 200 14 = some ((.aload_n 0), 1) := mx_ins_of mi200 dX20_scale_14 rfl
theorem u200_14 : ev d 200 14 lo st h = evS (mx_ldA 0) d 200 15 lo st h := ev_s n200_14 rfl rfl
theorem n200_15 : mx_ins 200 15 = some ((.getfield 43), 3) := mx_ins_of mi200 dX20_scale_15 rfl
theorem u200_15 : ev d 200 15 lo st h = evS (mx_gf 20 43) d 200 18 lo st h := ev_s n200_15 rfl rfl
theorem n200_18 : mx_ins 200 18 = some ((.ldc_w 314), 3) := mx_ins_of mi200 dX20_scale_18 rfl
theorem u200_18 : ev d 200 18 lo st h = ev d 200 21 lo (.int 1103515245 :: st) h := (ev_s (f := mx_push (.int 1103515245)) n200_18 rfl rfl).trans es_push
theorem n200_21 : mx_ins 200 21 = some (.imul, 1) := mx_ins_of mi200 dX20_scale_21 rfl
theorem u200_21 : ev d 200 21 lo st h = evI d 200 21 22 lo st h .imul := ev_u n200_21 rfl
theorem n200_22 : mx_ins 200 22 = some ((.sipush 12345), 3) := mx_ins_of mi200 dX20_scale_22 rfl
theorem u200_22 : ev d 200 22 lo st h = ev d 200 25 lo (.int 12345 :: st) h := (ev_s (f := mx_push (.int 12345)) n200_22 rfl rfl).trans es_push
theorem n200_25 : mx_ins 200 25 = some (.iadd, 1) := mx_ins_of mi200 dX20_scale_25 rfl
theorem u200_25 : ev d 200 25 lo st h = evI d 200 25 26 lo st h .iadd := ev_u n200_25 rfl
theorem n200_26 : mx_ins 200 26 = some ((.putfield 43), 3) := mx_ins_of mi200 dX20_scale_26 rfl
theorem u200_26 : ev d 200 26 lo st h = evS (mx_pf 20 43 false) d 200 29 lo st h := ev_s n200_26 rfl rfl
theorem n200_29 : mx_ins 200 29 = some ((.aload_n 0), 1) := mx_ins_of mi200 dX20_scale_29 rfl
theorem u200_29 : ev d 200 29 lo st h = evS (mx_ldA 0) d 200 30 lo st h := ev_s n200_29 rfl rfl
theorem n200_30 : mx_ins 200 30 = some ((.invokevirtual 260), 3) := mx_ins_of mi200 dX20_scale_30 rfl
theorem u200_30 : ev d 200 30 lo st h = evIn d 200 30 33 20 260 1 false lo st h := ev_inv n200_30 rfl rfl ow200 ia20_260
theorem n200_33 : mx_ins 200 33 = some ((.iload_n 1), 1) := mx_ins_of mi200 dX20_scale_33 rfl
theorem u200_33 : ev d 200 33 lo st h = evS (mx_ldI 1) d 200 34 lo st h := ev_s n200_33 rfl rfl
theorem n200_34 : mx_ins 200 34 = some ((.aload_n 0), 1) := mx_ins_of mi200 dX20_scale_34 rfl
theorem u200_34 : ev d 200 34 lo st h = evS (mx_ldA 0) d 200 35 lo st h := ev_s n200_34 rfl rfl
theorem n200_35 : mx_ins 200 35 = some ((.getfield 43), 3) := mx_ins_of mi200 dX20_scale_35 rfl
theorem u200_35 : ev d 200 35 lo st h = evS (mx_gf 20 43) d 200 38 lo st h := ev_s n200_35 rfl rfl
theorem n200_38 : mx_ins 200 38 = some ((.bipush 16), 2) := mx_ins_of mi200 dX20_scale_38 rfl
theorem u200_38 : ev d 200 38 lo st h = ev d 200 40 lo (.int 16 :: st) h := (ev_s (f := mx_push (.int 16)) n200_38 rfl rfl).trans es_push
theorem n200_40 : mx_ins 200 40 = some (.iushr, 1) := mx_ins_of mi200 dX20_scale_40 rfl
theorem u200_40 : ev d 200 40 lo st h = evI d 200 40 41 lo st h .iushr := ev_u n200_40 rfl
theorem n200_41 : mx_ins 200 41 = some ((.iconst 3), 1) := mx_ins_of mi200 dX20_scale_41 rfl
theorem u200_41 : ev d 200 41 lo st h = ev d 200 42 lo (.int 3 :: st) h := (ev_s (f := mx_push (.int 3)) n200_41 rfl rfl).trans es_push
theorem n200_42 : mx_ins 200 42 = some (.irem, 1) := mx_ins_of mi200 dX20_scale_42 rfl
theorem u200_42 : ev d 200 42 lo st h = evI d 200 42 43 lo st h .irem := ev_u n200_42 rfl
theorem n200_43 : mx_ins 200 43 = some ((.iconst 1), 1) := mx_ins_of mi200 dX20_scale_43 rfl
theorem u200_43 : ev d 200 43 lo st h = ev d 200 44 lo (.int 1 :: st) h := (ev_s (f := mx_push (.int 1)) n200_43 rfl rfl).trans es_push
theorem n200_44 : mx_ins 200 44 = some (.isub, 1) := mx_ins_of mi200 dX20_scale_44 rfl
theorem u200_44 : ev d 200 44 lo st h = evI d 200 44 45 lo st h .isub := ev_u n200_44 rfl
theorem n200_45 : mx_ins 200 45 = some (.imul, 1) := mx_ins_of mi200 dX20_scale_45 rfl
theorem u200_45 : ev d 200 45 lo st h = evI d 200 45 46 lo st h .imul := ev_u n200_45 rfl
theorem n200_46 : mx_ins 200 46 = some (.iadd, 1) := mx_ins_of mi200 dX20_scale_46 rfl
theorem u200_46 : ev d 200 46 lo st h = evI d 200 46 47 lo st h .iadd := ev_u n200_46 rfl
theorem n200_47 : mx_ins 200 47 = some (.ireturn, 1) := mx_ins_of mi200 dX20_scale_47 rfl
theorem u200_47 : ev d 200 47 lo st h = evI d 200 47 48 lo st h .ireturn := ev_u n200_47 rfl
theorem mi201 : mx_mi 201 = some (yX20_seed, cX20_seed, 3, (Option.some Jvm.ClassFile.FieldType.int), 20, 2, []) := rfl
theorem ow201 : mx_own 201 = 20 := mx_mi_own mi201
theorem mm201 : mx_max 201 = 3 := mx_mi_max mi201
theorem rt201 : mx_ret 201 = (Option.some Jvm.ClassFile.FieldType.int) := mx_mi_ret mi201
theorem hn201 : mx_hnd 201 = [] := mx_mi_hnd mi201
theorem n201_0 : mx_ins 201 0 = some ((.aload_n 0), 1) := mx_ins_of mi201 dX20_seed_0 rfl
theorem u201_0 : ev d 201 0 lo st h = evS (mx_ldA 0) d 201 1 lo st h := ev_s n201_0 rfl rfl
theorem n201_1 : mx_ins 201 1 = some ((.getfield 43), 3) := mx_ins_of mi201 dX20_seed_1 rfl
theorem u201_1 : ev d 201 1 lo st h = evS (mx_gf 20 43) d 201 4 lo st h := ev_s n201_1 rfl rfl
theorem n201_4 : mx_ins 201 4 = some ((.istore_n 2), 1) := mx_ins_of mi201 dX20_seed_4 rfl
theorem u201_4 : ev d 201 4 lo st h = evS (mx_stI 2) d 201 5 lo st h := ev_s n201_4 rfl rfl
theorem n201_5 : mx_ins 201 5 = some ((.aload_n 0), 1) := mx_ins_of mi201 dX20_seed_5 rfl
theorem u201_5 : ev d 201 5 lo st h = evS (mx_ldA 0) d 201 6 lo st h := ev_s n201_5 rfl rfl
theorem n201_6 : mx_ins 201 6 = some ((.iload_n 1), 1) := mx_ins_of mi201 dX20_seed_6 rfl
theorem u201_6 : ev d 201 6 lo st h = evS (mx_ldI 1) d 201 7 lo st h := ev_s n201_6 rfl rfl
theorem n201_7 : mx_ins 201 7 = some ((.putfield 43), 3) := mx_ins_of mi201 dX20_seed_7 rfl
theorem u201_7 : ev d 201 7 lo st h = evS (mx_pf 20 43 false) d 201 10 lo st h := ev_s n201_7 rfl rfl
theorem n201_10 : mx_ins 201 10 = some ((.iload_n 2), 1) := mx_ins_of mi201 dX20_seed_10 rfl
theorem u201_10 : ev d 201 10 lo st h = evS (mx_ldI 2) d 201 11 lo st h := ev_s n201_10 rfl rfl
theorem n201_11 : mx_ins 201 11 = some (.ireturn, 1) := mx_ins_of mi201 dX20_seed_11 rfl
theorem u201_11 : ev d 201 11 lo st h = evI d 201 11 12 lo st h .ireturn := ev_u n201_11 rfl
theorem mi202 : mx_mi 202 = some (yX20_other, cX20_other, 3, (Option.some Jvm.ClassFile.FieldType.int), 20, 3, []) := rfl
theorem ow202 : mx_own 202 = 20 := mx_mi_own mi202
theorem mm202 : mx_max 202 = 3 := mx_mi_max mi202
theorem rt202 : mx_ret 202 = (Option.some Jvm.ClassFile.FieldType.int) := mx_mi_ret mi202
theorem hn202 : mx_hnd 202 = [] := mx_mi_hnd mi202
theorem n202_0 : mx_ins 202 0 = some ((.iload_n 1), 1) := mx_ins_of mi202 dX20_other_0 rfl
theorem u202_0 : ev d 202 0 lo st h = evS (mx_ldI 1) d 202 1 lo st h := ev_s n202_0 rfl rfl
theorem n202_1 : mx_ins 202 1 = some ((.bipush 50), 2) := mx_ins_of mi202 dX20_other_1 rfl
theorem u202_1 : ev d 202 1 lo st h = ev d 202 3 lo (.int 50 :: st) h := (ev_s (f := mx_push (.int 50)) n202_1 rfl rfl).trans es_push
theorem n202_3 : mx_ins 202 3 = some ((.sipush 400), 3) := mx_ins_of mi202 dX20_other_3 rfl
theorem u202_3 : ev d 202 3 lo st h = ev d 202 6 lo (.int 400 :: st) h := (ev_s (f := mx_push (.int 400)) n202_3 rfl rfl).trans es_push
theorem n202_6 : mx_ins 202 6 = some ((.invokestatic 100), 3) := mx_ins_of mi202 dX20_other_6 rfl
theorem u202_6 : ev d 202 6 lo st h = evIn d 202 6 9 20 100 3 true lo st h := ev_inv n202_6 rfl rfl ow202 ia20_100
theorem n202_9 : mx_ins 202 9 = some ((.ifCond .eq 14), 3) := mx_ins_of mi202 dX20_other_9 rfl
theorem u202_9 : ev d 202 9 lo st h = evJ .eq d 202 23 12 lo st h := ev_if n202_9 rfl rfl
theorem n202_12 : mx_ins 202 12 = some ((.iload_n 2), 1) := mx_ins_of mi202 dX20_other_12 rfl
theorem u202_12 : ev d 202 12 lo st h = evS (mx_ldI 2) d 202 13 lo st h := ev_s n202_12 rfl rfl
theorem n202_13 : mx_ins 202 13 = some ((.iconst 1), 1) := mx_ins_of mi202 dX20_other_13 rfl
theorem u202_13 : ev d 202 13 lo st h = ev d 202 14 lo (.int 1 :: st) h := (ev_s (f := mx_push (.int 1)) n202_13 rfl rfl).trans es_push
theorem n202_14 : mx_ins 202 14 = some ((.sipush 9999), 3) := mx_ins_of mi202 dX20_other_14 rfl
theorem u202_14 : ev d 202 14 lo st h = ev d 202 17 lo (.int 9999 :: st) h := (ev_s (f := mx_push (.int 9999)) n202_14 rfl rfl).trans es_push
theorem n202_17 : mx_ins 202 17 = some ((.invokestatic 100), 3) := mx_ins_of mi202 dX20_other_17 rfl
theorem u202_17 : ev d 202 17 lo st h = evIn d 202 17 20 20 100 3 true lo st h := ev_inv n202_17 rfl rfl ow202 ia20_100
theorem n202_20 : mx_ins 202 20 = some ((.ifCond .ne 5), 3) := mx_ins_of mi202 dX20_other_20 rfl
theorem u202_20 : ev d 202 20 lo st h = evJ .ne d 202 25 23 lo st h := ev_if n202_20 rfl rfl
theorem n202_23 : mx_ins 202 23 = some ((.iconst (-1)), 1) := mx_ins_of mi202 dX20_other_23 rfl
theorem u202_23 : ev d 202 23 lo st h = ev d 202 24 lo (.int (-1) :: st) h := (ev_s (f := mx_push (.int (-1))) n202_23 rfl rfl).trans es_push
theorem n202_24 : mx_ins 202 24 = some (.ireturn, 1) := mx_ins_of mi202 dX20_other_24 rfl
theorem u202_24 : ev d 202 24 lo st h = evI d 202 24 25 lo st h .ireturn := ev_u n202_24 rfl
theorem n202_25 : mx_ins 202 25 = some ((.aload_n 0), 1) := mx_ins_of mi202 dX20_other_25 rfl
theorem u202_25 : ev d 202 25 lo st h = evS (mx_ldA 0) d 202 26 lo st h := ev_s n202_25 rfl rfl
theorem n202_26 : mx_ins 202 26 = some ((.getfield 315), 3) := mx_ins_of mi202 dX20_other_26 rfl
theorem u202_26 : ev d 202 26 lo st h = evS (mx_gf 20 315) d 202 29 lo st h := ev_s n202_26 rfl rfl
theorem n202_29 : mx_ins 202 29 = some ((.bipush 10), 2) := mx_ins_of mi202 dX20_other_29 rfl
theorem u202_29 : ev d 202 29 lo st h = ev d 202 31 lo (.int 10 :: st) h := (ev_s (f := mx_push (.int 10)) n202_29 rfl rfl).trans es_push
theorem n202_31 : mx_ins 202 31 = some ((.if_icmp .ne 6), 3) := mx_ins_of mi202 dX20_other_31 rfl
theorem u202_31 : ev d 202 31 lo st h = evK .ne d 202 37 34 lo st h := ev_ic n202_31 rfl rfl
theorem n202_34 : mx_ins 202 34 = some ((.bipush (-2)), 2) := mx_ins_of mi202 dX20_other_34 rfl
theorem u202_34 : ev d 202 34 lo st h = ev d 202 36 lo (.int (-2) :: st) h := (ev_s (f := mx_push (.int (-2))) n202_34 rfl rfl).trans es_push
theorem n202_36 : mx_ins 202 36 = some (.ireturn, 1) := mx_ins_of mi202 dX20_other_36 rfl
theorem u202_36 : ev d 202 36 lo st h = evI d 202 36 37 lo st h .ireturn := ev_u n202_36 rfl
theorem n202_37 : mx_ins 202 37 = some ((.aload_n 0), 1) := mx_ins_of mi202 dX20_other_37 rfl
theorem u202_37 : ev d 202 37 lo st h = evS (mx_ldA 0) d 202 38 lo st h := ev_s n202_37 rfl rfl
theorem n202_38 : mx_ins 202 38 = some ((.getfield 34), 3) := mx_ins_of mi202 dX20_other_38 rfl
theorem u202_38 : ev d 202 38 lo st h = evS (mx_gf 20 34) d 202 41 lo st h := ev_s n202_38 rfl rfl
theorem n202_41 : mx_ins 202 41 = some ((.iconst 2), 1) := mx_ins_of mi202 dX20_other_41 rfl
theorem u202_41 : ev d 202 41 lo st h = ev d 202 42 lo (.int 2 :: st) h := (ev_s (f := mx_push (.int 2)) n202_41 rfl rfl).trans es_push
theorem n202_42 : mx_ins 202 42 = some ((.aload_n 0), 1) := mx_ins_of mi202 dX20_other_42 rfl
theorem u202_42 : ev d 202 42 lo st h = evS (mx_ldA 0) d 202 43 lo st h := ev_s n202_42 rfl rfl
theorem n202_43 : mx_ins 202 43 = some ((.getfield 315), 3) := mx_ins_of mi202 dX20_other_43 rfl
theorem u202_43 : ev d 202 43 lo st h = evS (mx_gf 20 315) d 202 46 lo st h := ev_s n202_43 rfl rfl
theorem n202_46 : mx_ins 202 46 = some (.imul, 1) := mx_ins_of mi202 dX20_other_46 rfl
theorem u202_46 : ev d 202 46 lo st h = evI d 202 46 47 lo st h .imul := ev_u n202_46 rfl
theorem n202_47 : mx_ins 202 47 = some ((.iload_n 1), 1) := mx_ins_of mi202 dX20_other_47 rfl
theorem u202_47 : ev d 202 47 lo st h = evS (mx_ldI 1) d 202 48 lo st h := ev_s n202_47 rfl rfl
theorem n202_48 : mx_ins 202 48 = some (.iastore, 1) := mx_ins_of mi202 dX20_other_48 rfl
theorem u202_48 : ev d 202 48 lo st h = evI d 202 48 49 lo st h .iastore := ev_u n202_48 rfl
theorem n202_49 : mx_ins 202 49 = some ((.aload_n 0), 1) := mx_ins_of mi202 dX20_other_49 rfl
theorem u202_49 : ev d 202 49 lo st h = evS (mx_ldA 0) d 202 50 lo st h := ev_s n202_49 rfl rfl
theorem n202_50 : mx_ins 202 50 = some ((.getfield 34), 3) := mx_ins_of mi202 dX20_other_50 rfl
theorem u202_50 : ev d 202 50 lo st h = evS (mx_gf 20 34) d 202 53 lo st h := ev_s n202_50 rfl rfl
theorem n202_53 : mx_ins 202 53 = some ((.iconst 2), 1) := mx_ins_of mi202 dX20_other_53 rfl
theorem u202_53 : ev d 202 53 lo st h = ev d 202 54 lo (.int 2 :: st) h := (ev_s (f := mx_push (.int 2)) n202_53 rfl rfl).trans es_push
theorem n202_54 : mx_ins 202 54 = some ((.aload_n 0), 1) := mx_ins_of mi202 dX20_other_54 rfl
theorem u202_54 : ev d 202 54 lo st h = evS (mx_ldA 0) d 202 55 lo st h := ev_s n202_54 rfl rfl
theorem n202_55 : mx_ins 202 55 = some ((.getfield 315), 3) := mx_ins_of mi202 dX20_other_55 rfl
theorem u202_55 : ev d 202 55 lo st h = evS (mx_gf 20 315) d 202 58 lo st h := ev_s n202_55 rfl rfl
theorem n202_58 : mx_ins 202 58 = some (.imul, 1) := mx_ins_of mi202 dX20_other_58 rfl
theorem u202_58 : ev d 202 58 lo st h = evI d 202 58 59 lo st h .imul := ev_u n202_58 rfl
theorem n202_59 : mx_ins 202 59 = some ((.iconst 1), 1) := mx_ins_of mi202 dX20_other_59 rfl
theorem u202_59 : ev d 202 59 lo st h = ev d 202 60 lo (.int 1 :: st) h := (ev_s (f := mx_push (.int 1)) n202_59 rfl rfl).trans es_push
theorem n202_60 : mx_ins 202 60 = some (.iadd, 1) := mx_ins_of mi202 dX20_other_60 rfl
theorem u202_60 : ev d 202 60 lo st h = evI d 202 60 61 lo st h .iadd := ev_u n202_60 rfl
theorem n202_61 : mx_ins 202 61 = some ((.iload_n 2), 1) := mx_ins_of mi202 dX20_other_61 rfl
theorem u202_61 : ev d 202 61 lo st h = evS (mx_ldI 2) d 202 62 lo st h := ev_s n202_61 rfl rfl
theorem n202_62 : mx_ins 202 62 = some (.iastore, 1) := mx_ins_of mi202 dX20_other_62 rfl
theorem u202_62 : ev d 202 62 lo st h = evI d 202 62 63 lo st h .iastore := ev_u n202_62 rfl
theorem n202_63 : mx_ins 202 63 = some ((.aload_n 0), 1) := mx_ins_of mi202 dX20_other_63 rfl
theorem u202_63 : ev d 202 63 lo st h = evS (mx_ldA 0) d 202 64 lo st h := ev_s n202_63 rfl rfl
theorem n202_64 : mx_ins 202 64 = some (.dup, 1) := mx_ins_of mi202 dX20_other_64 rfl
theorem u202_64 : ev d 202 64 lo st h = evI d 202 64 65 lo st h .dup := ev_u n202_64 rfl
theorem n202_65 : mx_ins 202 65 = some ((.getfield 315), 3) := mx_ins_of mi202 dX20_other_65 rfl
theorem u202_65 : ev d 202 65 lo st h = evS (mx_gf 20 315) d 202 68 lo st h := ev_s n202_65 rfl rfl
theorem n202_68 : mx_ins 202 68 = some ((.iconst 1), 1) := mx_ins_of mi202 dX20_other_68 rfl
theorem u202_68 : ev d 202 68 lo st h = ev d 202 69 lo (.int 1 :: st) h := (ev_s (f := mx_push (.int 1)) n202_68 rfl rfl).trans es_push
theorem n202_69 : mx_ins 202 69 = some (.iadd, 1) := mx_ins_of mi202 dX20_other_69 rfl
theorem u202_69 : ev d 202 69 lo st h = evI d 202 69 70 lo st h .iadd := ev_u n202_69 rfl
theorem n202_70 : mx_ins 202 70 = some ((.putfield 315), 3) := mx_ins_of mi202 dX20_other_70 rfl
theorem u202_70 : ev d 202 70 lo st h = evS (mx_pf 20 315 false) d 202 73 lo st h := ev_s n202_70 rfl rfl
theorem n202_73 : mx_ins 202 73 = some ((.aload_n 0), 1) := mx_ins_of mi202 dX20_other_73 rfl
theorem u202_73 : ev d 202 73 lo st h = evS (mx_ldA 0) d 202 74 lo st h := ev_s n202_73 rfl rfl
theorem n202_74 : mx_ins 202 74 = some ((.getfield 315), 3) := mx_ins_of mi202 dX20_other_74 rfl
theorem u202_74 : ev d 202 74 lo st h = evS (mx_gf 20 315) d 202 77 lo st h := ev_s n202_74 rfl rfl
theorem n202_77 : mx_ins 202 77 = some (.ireturn, 1) := mx_ins_of mi202 dX20_other_77 rfl
theorem u202_77 : ev d 202 77 lo st h = evI d 202 77 78 lo st h .ireturn := ev_u n202_77 rfl
theorem mi203 : mx_mi 203 = some (yX20_lighter, cX20_lighter, 1, (Option.some Jvm.ClassFile.FieldType.int), 20, 1, []) := rfl
theorem ow203 : mx_own 203 = 20 := mx_mi_own mi203
theorem mm203 : mx_max 203 = 1 := mx_mi_max mi203
theorem rt203 : mx_ret 203 = (Option.some Jvm.ClassFile.FieldType.int) := mx_mi_ret mi203
theorem hn203 : mx_hnd 203 = [] := mx_mi_hnd mi203
theorem n203_0 : mx_ins 203 0 = some ((.aload_n 0), 1) := mx_ins_of mi203 dX20_lighter_0 rfl
theorem u203_0 : ev d 203 0 lo st h = evS (mx_ldA 0) d 203 1 lo st h := ev_s n203_0 rfl rfl
theorem n203_1 : mx_ins 203 1 = some ((.aload_n 0), 1) := mx_ins_of mi203 dX20_lighter_1 rfl
theorem u203_1 : ev d 203 1 lo st h = evS (mx_ldA 0) d 203 2 lo st h := ev_s n203_1 rfl rfl
theorem n203_2 : mx_ins 203 2 = some ((.invokevirtual 260), 3) := mx_ins_of mi203 dX20_lighter_2 rfl
theorem u203_2 : ev d 203 2 lo st h = evIn d 203 2 5 20 260 1 false lo st h := ev_inv n203_2 rfl rfl ow203 ia20_260
theorem n203_5 : mx_ins 203 5 = some ((.invokevirtual 318), 3) := mx_ins_of mi203 dX20_lighter_5 rfl
theorem u203_5 : ev d 203 5 lo st h = evIn d 203 5 8 20 318 2 false lo st h := ev_inv n203_5 rfl rfl ow203 ia20_318
theorem n203_8 : mx_ins 203 8 = some (.ireturn, 1) := mx_ins_of mi203 dX20_lighter_8 rfl
theorem u203_8 : ev d 203 8 lo st h = evI d 203 8 9 lo st h .ireturn := ev_u n203_8 rfl
theorem mi204 : mx_mi 204 = some (yX20_lighterThan, cX20_lighterThan, 5, (Option.some Jvm.ClassFile.FieldType.int), 20, 2, []) := rfl
theorem ow204 : mx_own 204 = 20 := mx_mi_own mi204
theorem mm204 : mx_max 204 = 5 := mx_mi_max mi204
theorem rt204 : mx_ret 204 = (Option.some Jvm.ClassFile.FieldType.int) := mx_mi_ret mi204
theorem hn204 : mx_hnd 204 = [] := mx_mi_hnd mi204
theorem n204_0 : mx_ins 204 0 = some ((.aload_n 0), 1) := mx_ins_of mi204 dX20_lighterThan_0 rfl
theorem u204_0 : ev d 204 0 lo st h = evS (mx_ldA 0) d 204 1 lo st h := ev_s n204_0 rfl rfl
theorem n204_1 : mx_ins 204 1 = some ((.getfield 7), 3) := mx_ins_of mi204 dX20_lighterThan_1 rfl
theorem u204_1 : ev d 204 1 lo st h = evS (mx_gf 20 7) d 204 4 lo st h := ev_s n204_1 rfl rfl
theorem n204_4 : mx_ins 204 4 = some ((.iconst 0), 1) := mx_ins_of mi204 dX20_lighterThan_4 rfl
theorem u204_4 : ev d 204 4 lo st h = ev d 204 5 lo (.int 0 :: st) h := (ev_s (f := mx_push (.int 0)) n204_4 rfl rfl).trans es_push
theorem n204_5 : mx_ins 204 5 = some (.iaload, 1) := mx_ins_of mi204 dX20_lighterThan_5 rfl
theorem u204_5 : ev d 204 5 lo st h = evI d 204 5 6 lo st h .iaload := ev_u n204_5 rfl
theorem n204_6 : mx_ins 204 6 = some ((.iload_n 1), 1) := mx_ins_of mi204 dX20_lighterThan_6 rfl
theorem u204_6 : ev d 204 6 lo st h = evS (mx_ldI 1) d 204 7 lo st h := ev_s n204_6 rfl rfl
theorem n204_7 : mx_ins 204 7 = some ((.invokestatic 267), 3) := mx_ins_of mi204 dX20_lighterThan_7 rfl
theorem u204_7 : ev d 204 7 lo st h = evIn d 204 7 10 20 267 2 true lo st h := ev_inv n204_7 rfl rfl ow204 ia20_267
theorem n204_10 : mx_ins 204 10 = some ((.istore_n 2), 1) := mx_ins_of mi204 dX20_lighterThan_10 rfl
theorem u204_10 : ev d 204 10 lo st h = evS (mx_stI 2) d 204 11 lo st h := ev_s n204_10 rfl rfl
theorem n204_11 : mx_ins 204 11 = some ((.iconst 0), 1) := mx_ins_of mi204 dX20_lighterThan_11 rfl
theorem u204_11 : ev d 204 11 lo st h = ev d 204 12 lo (.int 0 :: st) h := (ev_s (f := mx_push (.int 0)) n204_11 rfl rfl).trans es_push
theorem n204_12 : mx_ins 204 12 = some ((.istore_n 3), 1) := mx_ins_of mi204 dX20_lighterThan_12 rfl
theorem u204_12 : ev d 204 12 lo st h = evS (mx_stI 3) d 204 13 lo st h := ev_s n204_12 rfl rfl
theorem n204_13 : mx_ins 204 13 = some ((.iconst 0), 1) := mx_ins_of mi204 dX20_lighterThan_13 rfl
theorem u204_13 : ev d 204 13 lo st h = ev d 204 14 lo (.int 0 :: st) h := (ev_s (f := mx_push (.int 0)) n204_13 rfl rfl).trans es_push
theorem n204_14 : mx_ins 204 14 = some ((.istore 4), 2) := mx_ins_of mi204 dX20_lighterThan_14 rfl
theorem u204_14 : ev d 204 14 lo st h = evS (mx_stI 4) d 204 16 lo st h := ev_s n204_14 rfl rfl
theorem n204_16 : mx_ins 204 16 = some ((.iload 4), 2) := mx_ins_of mi204 dX20_lighterThan_16 rfl
theorem u204_16 : ev d 204 16 lo st h = evS (mx_ldI 4) d 204 18 lo st h := ev_s n204_16 rfl rfl
theorem n204_18 : mx_ins 204 18 = some ((.aload_n 0), 1) := mx_ins_of mi204 dX20_lighterThan_18 rfl
theorem u204_18 : ev d 204 18 lo st h = evS (mx_ldA 0) d 204 19 lo st h := ev_s n204_18 rfl rfl
theorem n204_19 : mx_ins 204 19 = some ((.getfield 315), 3) := mx_ins_of mi204 dX20_lighterThan_19 rfl
theorem u204_19 : ev d 204 19 lo st h = evS (mx_gf 20 315) d 204 22 lo st h := ev_s n204_19 rfl rfl
theorem n204_22 : mx_ins 204 22 = some ((.if_icmp .ge 44), 3) := mx_ins_of mi204 dX20_lighterThan_22 rfl
theorem u204_22 : ev d 204 22 lo st h = evK .ge d 204 66 25 lo st h := ev_ic n204_22 rfl rfl
theorem n204_25 : mx_ins 204 25 = some ((.iload_n 3), 1) := mx_ins_of mi204 dX20_lighterThan_25 rfl
theorem u204_25 : ev d 204 25 lo st h = evS (mx_ldI 3) d 204 26 lo st h := ev_s n204_25 rfl rfl
theorem n204_26 : mx_ins 204 26 = some ((.aload_n 0), 1) := mx_ins_of mi204 dX20_lighterThan_26 rfl
theorem u204_26 : ev d 204 26 lo st h = evS (mx_ldA 0) d 204 27 lo st h := ev_s n204_26 rfl rfl
theorem n204_27 : mx_ins 204 27 = some ((.getfield 34), 3) := mx_ins_of mi204 dX20_lighterThan_27 rfl
theorem u204_27 : ev d 204 27 lo st h = evS (mx_gf 20 34) d 204 30 lo st h := ev_s n204_27 rfl rfl
theorem n204_30 : mx_ins 204 30 = some ((.iconst 2), 1) := mx_ins_of mi204 dX20_lighterThan_30 rfl
theorem u204_30 : ev d 204 30 lo st h = ev d 204 31 lo (.int 2 :: st) h := (ev_s (f := mx_push (.int 2)) n204_30 rfl rfl).trans es_push
theorem n204_31 : mx_ins 204 31 = some ((.iload 4), 2) := mx_ins_of mi204 dX20_lighterThan_31 rfl
theorem u204_31 : ev d 204 31 lo st h = evS (mx_ldI 4) d 204 33 lo st h := ev_s n204_31 rfl rfl
theorem n204_33 : mx_ins 204 33 = some (.imul, 1) := mx_ins_of mi204 dX20_lighterThan_33 rfl
theorem u204_33 : ev d 204 33 lo st h = evI d 204 33 34 lo st h .imul := ev_u n204_33 rfl
theorem n204_34 : mx_ins 204 34 = some (.iaload, 1) := mx_ins_of mi204 dX20_lighterThan_34 rfl
theorem u204_34 : ev d 204 34 lo st h = evI d 204 34 35 lo st h .iaload := ev_u n204_34 rfl
theorem n204_35 : mx_ins 204 35 = some ((.aload_n 0), 1) := mx_ins_of mi204 dX20_lighterThan_35 rfl
theorem u204_35 : ev d 204 35 lo st h = evS (mx_ldA 0) d 204 36 lo st h := ev_s n204_35 rfl rfl
theorem n204_36 : mx_ins 204 36 = some ((.getfield 34), 3) := mx_ins_of mi204 dX20_lighterThan_36 rfl
theorem u204_36 : ev d 204 36 lo st h = evS (mx_gf 20 34) d 204 39 lo st h := ev_s n204_36 rfl rfl
theorem n204_39 : mx_ins 204 39 = some ((.iconst 2), 1) := mx_ins_of mi204 dX20_lighterThan_39 rfl
theorem u204_39 : ev d 204 39 lo st h = ev d 204 40 lo (.int 2 :: st) h := (ev_s (f := mx_push (.int 2)) n204_39 rfl rfl).trans es_push
theorem n204_40 : mx_ins 204 40 = some ((.iload 4), 2) := mx_ins_of mi204 dX20_lighterThan_40 rfl
theorem u204_40 : ev d 204 40 lo st h = evS (mx_ldI 4) d 204 42 lo st h := ev_s n204_40 rfl rfl
theorem n204_42 : mx_ins 204 42 = some (.imul, 1) := mx_ins_of mi204 dX20_lighterThan_42 rfl
theorem u204_42 : ev d 204 42 lo st h = evI d 204 42 43 lo st h .imul := ev_u n204_42 rfl
theorem n204_43 : mx_ins 204 43 = some ((.iconst 1), 1) := mx_ins_of mi204 dX20_lighterThan_43 rfl
theorem u204_43 : ev d 204 43 lo st h = ev d 204 44 lo (.int 1 :: st) h := (ev_s (f := mx_push (.int 1)) n204_43 rfl rfl).trans es_push
theorem n204_44 : mx_ins 204 44 = some (.iadd, 1) := mx_ins_of mi204 dX20_lighterThan_44 rfl
theorem u204_44 : ev d 204 44 lo st h = evI d 204 44 45 lo st h .iadd := ev_u n204_44 rfl
theorem n204_45 : mx_ins 204 45 = some (.iaload, 1) := mx_ins_of mi204 dX20_lighterThan_45 rfl
theorem u204_45 : ev d 204 45 lo st h = evI d 204 45 46 lo st h .iaload := ev_u n204_45 rfl
theorem n204_46 : mx_ins 204 46 = some ((.invokestatic 267), 3) := mx_ins_of mi204 dX20_lighterThan_46 rfl
theorem u204_46 : ev d 204 46 lo st h = evIn d 204 46 49 20 267 2 true lo st h := ev_inv n204_46 rfl rfl ow204 ia20_267
theorem n204_49 : mx_ins 204 49 = some ((.iload_n 2), 1) := mx_ins_of mi204 dX20_lighterThan_49 rfl
theorem u204_49 : ev d 204 49 lo st h = evS (mx_ldI 2) d 204 50 lo st h := ev_s n204_49 rfl rfl
theorem n204_50 : mx_ins 204 50 = some ((.if_icmp .ge 7), 3) := mx_ins_of mi204 dX20_lighterThan_50 rfl
theorem u204_50 : ev d 204 50 lo st h = evK .ge d 204 57 53 lo st h := ev_ic n204_50 rfl rfl
theorem n204_53 : mx_ins 204 53 = some ((.iconst 1), 1) := mx_ins_of mi204 dX20_lighterThan_53 rfl
theorem u204_53 : ev d 204 53 lo st h = ev d 204 54 lo (.int 1 :: st) h := (ev_s (f := mx_push (.int 1)) n204_53 rfl rfl).trans es_push
theorem n204_54 : mx_ins 204 54 = some ((.goto 4), 3) := mx_ins_of mi204 dX20_lighterThan_54 rfl
theorem u204_54 : ev d 204 54 lo st h = ev d 204 58 lo st h := ev_goto n204_54 rfl
theorem n204_57 : mx_ins 204 57 = some ((.iconst 0), 1) := mx_ins_of mi204 dX20_lighterThan_57 rfl
theorem u204_57 : ev d 204 57 lo st h = ev d 204 58 lo (.int 0 :: st) h := (ev_s (f := mx_push (.int 0)) n204_57 rfl rfl).trans es_push
theorem n204_58 : mx_ins 204 58 = some (.iadd, 1) := mx_ins_of mi204 dX20_lighterThan_58 rfl
theorem u204_58 : ev d 204 58 lo st h = evI d 204 58 59 lo st h .iadd := ev_u n204_58 rfl
theorem n204_59 : mx_ins 204 59 = some ((.istore_n 3), 1) := mx_ins_of mi204 dX20_lighterThan_59 rfl
theorem u204_59 : ev d 204 59 lo st h = evS (mx_stI 3) d 204 60 lo st h := ev_s n204_59 rfl rfl
theorem n204_60 : mx_ins 204 60 = some ((.iinc 4 1), 3) := mx_ins_of mi204 dX20_lighterThan_60 rfl
theorem u204_60 : ev d 204 60 lo st h = evS (mx_inc 4 (1)) d 204 63 lo st h := ev_s n204_60 rfl rfl
theorem n204_63 : mx_ins 204 63 = some ((.goto (-47)), 3) := mx_ins_of mi204 dX20_lighterThan_63 rfl
theorem u204_63 : ev d 204 63 lo st h = ev d 204 16 lo st h := ev_goto n204_63 rfl
theorem n204_66 : mx_ins 204 66 = some ((.iload_n 3), 1) := mx_ins_of mi204 dX20_lighterThan_66 rfl
theorem u204_66 : ev d 204 66 lo st h = evS (mx_ldI 3) d 204 67 lo st h := ev_s n204_66 rfl rfl
theorem n204_67 : mx_ins 204 67 = some (.ireturn, 1) := mx_ins_of mi204 dX20_lighterThan_67 rfl
theorem u204_67 : ev d 204 67 lo st h = evI d 204 67 68 lo st h .ireturn := ev_u n204_67 rfl
theorem mi205 : mx_mi 205 = some (yX20_least, cX20_least, 3, (Option.some Jvm.ClassFile.FieldType.int), 20, 2, []) := rfl
theorem ow205 : mx_own 205 = 20 := mx_mi_own mi205
theorem mm205 : mx_max 205 = 3 := mx_mi_max mi205
theorem rt205 : mx_ret 205 = (Option.some Jvm.ClassFile.FieldType.int) := mx_mi_ret mi205
theorem hn205 : mx_hnd 205 = [] := mx_mi_hnd mi205
theorem n205_0 : mx_ins 205 0 = some ((.iload_n 1), 1) := mx_ins_of mi205 dX20_least_0 rfl
theorem u205_0 : ev d 205 0 lo st h = evS (mx_ldI 1) d 205 1 lo st h := ev_s n205_0 rfl rfl
theorem n205_1 : mx_ins 205 1 = some ((.iconst 0), 1) := mx_ins_of mi205 dX20_least_1 rfl
theorem u205_1 : ev d 205 1 lo st h = ev d 205 2 lo (.int 0 :: st) h := (ev_s (f := mx_push (.int 0)) n205_1 rfl rfl).trans es_push
theorem n205_2 : mx_ins 205 2 = some ((.bipush 10), 2) := mx_ins_of mi205 dX20_least_2 rfl
theorem u205_2 : ev d 205 2 lo st h = ev d 205 4 lo (.int 10 :: st) h := (ev_s (f := mx_push (.int 10)) n205_2 rfl rfl).trans es_push
theorem n205_4 : mx_ins 205 4 = some ((.invokestatic 100), 3) := mx_ins_of mi205 dX20_least_4 rfl
theorem u205_4 : ev d 205 4 lo st h = evIn d 205 4 7 20 100 3 true lo st h := ev_inv n205_4 rfl rfl ow205 ia20_100
theorem n205_7 : mx_ins 205 7 = some ((.ifCond .ne 5), 3) := mx_ins_of mi205 dX20_least_7 rfl
theorem u205_7 : ev d 205 7 lo st h = evJ .ne d 205 12 10 lo st h := ev_if n205_7 rfl rfl
theorem n205_10 : mx_ins 205 10 = some ((.iconst (-1)), 1) := mx_ins_of mi205 dX20_least_10 rfl
theorem u205_10 : ev d 205 10 lo st h = ev d 205 11 lo (.int (-1) :: st) h := (ev_s (f := mx_push (.int (-1))) n205_10 rfl rfl).trans es_push
theorem n205_11 : mx_ins 205 11 = some (.ireturn, 1) := mx_ins_of mi205 dX20_least_11 rfl
theorem u205_11 : ev d 205 11 lo st h = evI d 205 11 12 lo st h .ireturn := ev_u n205_11 rfl
theorem n205_12 : mx_ins 205 12 = some ((.iconst 1), 1) := mx_ins_of mi205 dX20_least_12 rfl
theorem u205_12 : ev d 205 12 lo st h = ev d 205 13 lo (.int 1 :: st) h := (ev_s (f := mx_push (.int 1)) n205_12 rfl rfl).trans es_push
theorem n205_13 : mx_ins 205 13 = some ((.istore_n 2), 1) := mx_ins_of mi205 dX20_least_13 rfl
theorem u205_13 : ev d 205 13 lo st h = evS (mx_stI 2) d 205 14 lo st h := ev_s n205_13 rfl rfl
theorem n205_14 : mx_ins 205 14 = some ((.iload_n 2), 1) := mx_ins_of mi205 dX20_least_14 rfl
theorem u205_14 : ev d 205 14 lo st h = evS (mx_ldI 2) d 205 15 lo st h := ev_s n205_14 rfl rfl
theorem n205_15 : mx_ins 205 15 = some ((.sipush 9999), 3) := mx_ins_of mi205 dX20_least_15 rfl
theorem u205_15 : ev d 205 15 lo st h = ev d 205 18 lo (.int 9999 :: st) h := (ev_s (f := mx_push (.int 9999)) n205_15 rfl rfl).trans es_push
theorem n205_18 : mx_ins 205 18 = some ((.if_icmp .gt 20), 3) := mx_ins_of mi205 dX20_least_18 rfl
theorem u205_18 : ev d 205 18 lo st h = evK .gt d 205 38 21 lo st h := ev_ic n205_18 rfl rfl
theorem n205_21 : mx_ins 205 21 = some ((.aload_n 0), 1) := mx_ins_of mi205 dX20_least_21 rfl
theorem u205_21 : ev d 205 21 lo st h = evS (mx_ldA 0) d 205 22 lo st h := ev_s n205_21 rfl rfl
theorem n205_22 : mx_ins 205 22 = some ((.iload_n 2), 1) := mx_ins_of mi205 dX20_least_22 rfl
theorem u205_22 : ev d 205 22 lo st h = evS (mx_ldI 2) d 205 23 lo st h := ev_s n205_22 rfl rfl
theorem n205_23 : mx_ins 205 23 = some ((.invokevirtual 318), 3) := mx_ins_of mi205 dX20_least_23 rfl
theorem u205_23 : ev d 205 23 lo st h = evIn d 205 23 26 20 318 2 false lo st h := ev_inv n205_23 rfl rfl ow205 ia20_318
theorem n205_26 : mx_ins 205 26 = some ((.iload_n 1), 1) := mx_ins_of mi205 dX20_least_26 rfl
theorem u205_26 : ev d 205 26 lo st h = evS (mx_ldI 1) d 205 27 lo st h := ev_s n205_26 rfl rfl
theorem n205_27 : mx_ins 205 27 = some ((.if_icmp .lt 5), 3) := mx_ins_of mi205 dX20_least_27 rfl
theorem u205_27 : ev d 205 27 lo st h = evK .lt d 205 32 30 lo st h := ev_ic n205_27 rfl rfl
theorem n205_30 : mx_ins 205 30 = some ((.iload_n 2), 1) := mx_ins_of mi205 dX20_least_30 rfl
theorem u205_30 : ev d 205 30 lo st h = evS (mx_ldI 2) d 205 31 lo st h := ev_s n205_30 rfl rfl
theorem n205_31 : mx_ins 205 31 = some (.ireturn, 1) := mx_ins_of mi205 dX20_least_31 rfl
theorem u205_31 : ev d 205 31 lo st h = evI d 205 31 32 lo st h .ireturn := ev_u n205_31 rfl
theorem n205_32 : mx_ins 205 32 = some ((.iinc 2 1), 3) := mx_ins_of mi205 dX20_least_32 rfl
theorem u205_32 : ev d 205 32 lo st h = evS (mx_inc 2 (1)) d 205 35 lo st h := ev_s n205_32 rfl rfl
theorem n205_35 : mx_ins 205 35 = some ((.goto (-21)), 3) := mx_ins_of mi205 dX20_least_35 rfl
theorem u205_35 : ev d 205 35 lo st h = ev d 205 14 lo st h := ev_goto n205_35 rfl
theorem n205_38 : mx_ins 205 38 = some ((.bipush (-3)), 2) := mx_ins_of mi205 dX20_least_38 rfl
theorem u205_38 : ev d 205 38 lo st h = ev d 205 40 lo (.int (-3) :: st) h := (ev_s (f := mx_push (.int (-3))) n205_38 rfl rfl).trans es_push
theorem n205_40 : mx_ins 205 40 = some (.ireturn, 1) := mx_ins_of mi205 dX20_least_40 rfl
theorem u205_40 : ev d 205 40 lo st h = evI d 205 40 41 lo st h .ireturn := ev_u n205_40 rfl
theorem mi206 : mx_mi 206 = some (yX20_prove, cX20_prove, 2, (Option.some Jvm.ClassFile.FieldType.int), 20, 1, []) := rfl
theorem ow206 : mx_own 206 = 20 := mx_mi_own mi206
theorem mm206 : mx_max 206 = 2 := mx_mi_max mi206
theorem rt206 : mx_ret 206 = (Option.some Jvm.ClassFile.FieldType.int) := mx_mi_ret mi206
theorem hn206 : mx_hnd 206 = [] := mx_mi_hnd mi206
theorem n206_0 : mx_ins 206 0 = some ((.aload_n 0), 1) := mx_ins_of mi206 dX20_prove_0 rfl
theorem u206_0 : ev d 206 0 lo st h = evS (mx_ldA 0) d 206 1 lo st h := ev_s n206_0 rfl rfl
theorem n206_1 : mx_ins 206 1 = some ((.invokevirtual 321), 3) := mx_ins_of mi206 dX20_prove_1 rfl
theorem u206_1 : ev d 206 1 lo st h = evIn d 206 1 4 20 321 1 false lo st h := ev_inv n206_1 rfl rfl ow206 ia20_321
theorem n206_4 : mx_ins 206 4 = some ((.aload_n 0), 1) := mx_ins_of mi206 dX20_prove_4 rfl
theorem u206_4 : ev d 206 4 lo st h = evS (mx_ldA 0) d 206 5 lo st h := ev_s n206_4 rfl rfl
theorem n206_5 : mx_ins 206 5 = some ((.aload_n 0), 1) := mx_ins_of mi206 dX20_prove_5 rfl
theorem u206_5 : ev d 206 5 lo st h = evS (mx_ldA 0) d 206 6 lo st h := ev_s n206_5 rfl rfl
theorem n206_6 : mx_ins 206 6 = some ((.getfield 289), 3) := mx_ins_of mi206 dX20_prove_6 rfl
theorem u206_6 : ev d 206 6 lo st h = evS (mx_gf 20 289) d 206 9 lo st h := ev_s n206_6 rfl rfl
theorem n206_9 : mx_ins 206 9 = some ((.putfield 324), 3) := mx_ins_of mi206 dX20_prove_9 rfl
theorem u206_9 : ev d 206 9 lo st h = evS (mx_pf 20 324 false) d 206 12 lo st h := ev_s n206_9 rfl rfl
theorem n206_12 : mx_ins 206 12 = some ((.iconst 0), 1) := mx_ins_of mi206 dX20_prove_12 rfl
theorem u206_12 : ev d 206 12 lo st h = ev d 206 13 lo (.int 0 :: st) h := (ev_s (f := mx_push (.int 0)) n206_12 rfl rfl).trans es_push
theorem n206_13 : mx_ins 206 13 = some ((.istore_n 1), 1) := mx_ins_of mi206 dX20_prove_13 rfl
theorem u206_13 : ev d 206 13 lo st h = evS (mx_stI 1) d 206 14 lo st h := ev_s n206_13 rfl rfl
theorem n206_14 : mx_ins 206 14 = some ((.iload_n 1), 1) := mx_ins_of mi206 dX20_prove_14 rfl
theorem u206_14 : ev d 206 14 lo st h = evS (mx_ldI 1) d 206 15 lo st h := ev_s n206_14 rfl rfl
theorem n206_15 : mx_ins 206 15 = some ((.iconst 3), 1) := mx_ins_of mi206 dX20_prove_15 rfl
theorem u206_15 : ev d 206 15 lo st h = ev d 206 16 lo (.int 3 :: st) h := (ev_s (f := mx_push (.int 3)) n206_15 rfl rfl).trans es_push
theorem n206_16 : mx_ins 206 16 = some ((.aload_n 0), 1) := mx_ins_of mi206 dX20_prove_16 rfl
theorem u206_16 : ev d 206 16 lo st h = evS (mx_ldA 0) d 206 17 lo st h := ev_s n206_16 rfl rfl
theorem n206_17 : mx_ins 206 17 = some ((.getfield 324), 3) := mx_ins_of mi206 dX20_prove_17 rfl
theorem u206_17 : ev d 206 17 lo st h = evS (mx_gf 20 324) d 206 20 lo st h := ev_s n206_17 rfl rfl
theorem n206_20 : mx_ins 206 20 = some (.imul, 1) := mx_ins_of mi206 dX20_prove_20 rfl
theorem u206_20 : ev d 206 20 lo st h = evI d 206 20 21 lo st h .imul := ev_u n206_20 rfl
theorem n206_21 : mx_ins 206 21 = some ((.if_icmp .ge 21), 3) := mx_ins_of mi206 dX20_prove_21 rfl
theorem u206_21 : ev d 206 21 lo st h = evK .ge d 206 42 24 lo st h := ev_ic n206_21 rfl rfl
theorem n206_24 : mx_ins 206 24 = some ((.aload_n 0), 1) := mx_ins_of mi206 dX20_prove_24 rfl
theorem u206_24 : ev d 206 24 lo st h = evS (mx_ldA 0) d 206 25 lo st h := ev_s n206_24 rfl rfl
theorem n206_25 : mx_ins 206 25 = some ((.getfield 69), 3) := mx_ins_of mi206 dX20_prove_25 rfl
theorem u206_25 : ev d 206 25 lo st h = evS (mx_gf 20 69) d 206 28 lo st h := ev_s n206_25 rfl rfl
theorem n206_28 : mx_ins 206 28 = some ((.iload_n 1), 1) := mx_ins_of mi206 dX20_prove_28 rfl
theorem u206_28 : ev d 206 28 lo st h = evS (mx_ldI 1) d 206 29 lo st h := ev_s n206_28 rfl rfl
theorem n206_29 : mx_ins 206 29 = some ((.aload_n 0), 1) := mx_ins_of mi206 dX20_prove_29 rfl
theorem u206_29 : ev d 206 29 lo st h = evS (mx_ldA 0) d 206 30 lo st h := ev_s n206_29 rfl rfl
theorem n206_30 : mx_ins 206 30 = some ((.getfield 66), 3) := mx_ins_of mi206 dX20_prove_30 rfl
theorem u206_30 : ev d 206 30 lo st h = evS (mx_gf 20 66) d 206 33 lo st h := ev_s n206_30 rfl rfl
theorem n206_33 : mx_ins 206 33 = some ((.iload_n 1), 1) := mx_ins_of mi206 dX20_prove_33 rfl
theorem u206_33 : ev d 206 33 lo st h = evS (mx_ldI 1) d 206 34 lo st h := ev_s n206_33 rfl rfl
theorem n206_34 : mx_ins 206 34 = some (.iaload, 1) := mx_ins_of mi206 dX20_prove_34 rfl
theorem u206_34 : ev d 206 34 lo st h = evI d 206 34 35 lo st h .iaload := ev_u n206_34 rfl
theorem n206_35 : mx_ins 206 35 = some (.iastore, 1) := mx_ins_of mi206 dX20_prove_35 rfl
theorem u206_35 : ev d 206 35 lo st h = evI d 206 35 36 lo st h .iastore := ev_u n206_35 rfl
theorem n206_36 : mx_ins 206 36 = some ((.iinc 1 1), 3) := mx_ins_of mi206 dX20_prove_36 rfl
theorem u206_36 : ev d 206 36 lo st h = evS (mx_inc 1 (1)) d 206 39 lo st h := ev_s n206_36 rfl rfl
theorem n206_39 : mx_ins 206 39 = some ((.goto (-25)), 3) := mx_ins_of mi206 dX20_prove_39 rfl
theorem u206_39 : ev d 206 39 lo st h = ev d 206 14 lo st h := ev_goto n206_39 rfl
theorem n206_42 : mx_ins 206 42 = some ((.aload_n 0), 1) := mx_ins_of mi206 dX20_prove_42 rfl
theorem u206_42 : ev d 206 42 lo st h = evS (mx_ldA 0) d 206 43 lo st h := ev_s n206_42 rfl rfl
theorem n206_43 : mx_ins 206 43 = some ((.getfield 324), 3) := mx_ins_of mi206 dX20_prove_43 rfl
theorem u206_43 : ev d 206 43 lo st h = evS (mx_gf 20 324) d 206 46 lo st h := ev_s n206_43 rfl rfl
theorem n206_46 : mx_ins 206 46 = some (.ireturn, 1) := mx_ins_of mi206 dX20_prove_46 rfl
theorem u206_46 : ev d 206 46 lo st h = evI d 206 46 47 lo st h .ireturn := ev_u n206_46 rfl
theorem mi207 : mx_mi 207 = some (yX20_findRows, cX20_findRows, 1, (none : Option FieldType), 20, 1, []) := rfl
theorem ow207 : mx_own 207 = 20 := mx_mi_own mi207
theorem mm207 : mx_max 207 = 1 := mx_mi_max mi207
theorem rt207 : mx_ret 207 = (none : Option FieldType) := mx_mi_ret mi207
theorem hn207 : mx_hnd 207 = [] := mx_mi_hnd mi207
theorem n207_0 : mx_ins 207 0 = some ((.aload_n 0), 1) := mx_ins_of mi207 dX20_findRows_0 rfl
theorem u207_0 : ev d 207 0 lo st h = evS (mx_ldA 0) d 207 1 lo st h := ev_s n207_0 rfl rfl
theorem n207_1 : mx_ins 207 1 = some ((.iconst 0), 1) := mx_ins_of mi207 dX20_findRows_1 rfl
theorem u207_1 : ev d 207 1 lo st h = ev d 207 2 lo (.int 0 :: st) h := (ev_s (f := mx_push (.int 0)) n207_1 rfl rfl).trans es_push
theorem n207_2 : mx_ins 207 2 = some ((.bipush 7), 2) := mx_ins_of mi207 dX20_findRows_2 rfl
theorem u207_2 : ev d 207 2 lo st h = ev d 207 4 lo (.int 7 :: st) h := (ev_s (f := mx_push (.int 7)) n207_2 rfl rfl).trans es_push
theorem n207_4 : mx_ins 207 4 = some ((.invokevirtual 295), 3) := mx_ins_of mi207 dX20_findRows_4 rfl
theorem u207_4 : ev d 207 4 lo st h = evIn d 207 4 7 20 295 3 false lo st h := ev_inv n207_4 rfl rfl ow207 ia20_295
theorem n207_7 : mx_ins 207 7 = some ((.aload_n 0), 1) := mx_ins_of mi207 dX20_findRows_7 rfl
theorem u207_7 : ev d 207 7 lo st h = evS (mx_ldA 0) d 207 8 lo st h := ev_s n207_7 rfl rfl
theorem n207_8 : mx_ins 207 8 = some ((.invokevirtual 292), 3) := mx_ins_of mi207 dX20_findRows_8 rfl
theorem u207_8 : ev d 207 8 lo st h = evIn d 207 8 11 20 292 1 false lo st h := ev_inv n207_8 rfl rfl ow207 ia20_292
theorem n207_11 : mx_ins 207 11 = some ((.aload_n 0), 1) := mx_ins_of mi207 dX20_findRows_11 rfl
theorem u207_11 : ev d 207 11 lo st h = evS (mx_ldA 0) d 207 12 lo st h := ev_s n207_11 rfl rfl
theorem n207_12 : mx_ins 207 12 = some ((.iconst 0), 1) := mx_ins_of mi207 dX20_findRows_12 rfl
theorem u207_12 : ev d 207 12 lo st h = ev d 207 13 lo (.int 0 :: st) h := (ev_s (f := mx_push (.int 0)) n207_12 rfl rfl).trans es_push
theorem n207_13 : mx_ins 207 13 = some ((.putfield 104), 3) := mx_ins_of mi207 dX20_findRows_13 rfl
theorem u207_13 : ev d 207 13 lo st h = evS (mx_pf 20 104 false) d 207 16 lo st h := ev_s n207_13 rfl rfl
theorem n207_16 : mx_ins 207 16 = some (.return_, 1) := mx_ins_of mi207 dX20_findRows_16 rfl
theorem u207_16 : ev d 207 16 lo st h = evI d 207 16 17 lo st h .return_ := ev_u n207_16 rfl
theorem mi208 : mx_mi 208 = some (yX20_row, cX20_row, 3, (Option.some Jvm.ClassFile.FieldType.int), 20, 3, []) := rfl
theorem ow208 : mx_own 208 = 20 := mx_mi_own mi208
theorem mm208 : mx_max 208 = 3 := mx_mi_max mi208
theorem rt208 : mx_ret 208 = (Option.some Jvm.ClassFile.FieldType.int) := mx_mi_ret mi208
theorem hn208 : mx_hnd 208 = [] := mx_mi_hnd mi208
theorem n208_0 : mx_ins 208 0 = some ((.aload_n 0), 1) := mx_ins_of mi208 dX20_row_0 rfl
theorem u208_0 : ev d 208 0 lo st h = evS (mx_ldA 0) d 208 1 lo st h := ev_s n208_0 rfl rfl
theorem n208_1 : mx_ins 208 1 = some ((.iload_n 1), 1) := mx_ins_of mi208 dX20_row_1 rfl
theorem u208_1 : ev d 208 1 lo st h = evS (mx_ldI 1) d 208 2 lo st h := ev_s n208_1 rfl rfl
theorem n208_2 : mx_ins 208 2 = some ((.iload_n 2), 1) := mx_ins_of mi208 dX20_row_2 rfl
theorem u208_2 : ev d 208 2 lo st h = evS (mx_ldI 2) d 208 3 lo st h := ev_s n208_2 rfl rfl
theorem n208_3 : mx_ins 208 3 = some ((.invokevirtual 327), 3) := mx_ins_of mi208 dX20_row_3 rfl
theorem u208_3 : ev d 208 3 lo st h = evIn d 208 3 6 20 327 3 false lo st h := ev_inv n208_3 rfl rfl ow208 ia20_327
theorem n208_6 : mx_ins 208 6 = some ((.ifCond .eq 16), 3) := mx_ins_of mi208 dX20_row_6 rfl
theorem u208_6 : ev d 208 6 lo st h = evJ .eq d 208 22 9 lo st h := ev_if n208_6 rfl rfl
theorem n208_9 : mx_ins 208 9 = some ((.aload_n 0), 1) := mx_ins_of mi208 dX20_row_9 rfl
theorem u208_9 : ev d 208 9 lo st h = evS (mx_ldA 0) d 208 10 lo st h := ev_s n208_9 rfl rfl
theorem n208_10 : mx_ins 208 10 = some ((.getfield 69), 3) := mx_ins_of mi208 dX20_row_10 rfl
theorem u208_10 : ev d 208 10 lo st h = evS (mx_gf 20 69) d 208 13 lo st h := ev_s n208_10 rfl rfl
theorem n208_13 : mx_ins 208 13 = some ((.iconst 3), 1) := mx_ins_of mi208 dX20_row_13 rfl
theorem u208_13 : ev d 208 13 lo st h = ev d 208 14 lo (.int 3 :: st) h := (ev_s (f := mx_push (.int 3)) n208_13 rfl rfl).trans es_push
theorem n208_14 : mx_ins 208 14 = some ((.iload_n 1), 1) := mx_ins_of mi208 dX20_row_14 rfl
theorem u208_14 : ev d 208 14 lo st h = evS (mx_ldI 1) d 208 15 lo st h := ev_s n208_14 rfl rfl
theorem n208_15 : mx_ins 208 15 = some (.imul, 1) := mx_ins_of mi208 dX20_row_15 rfl
theorem u208_15 : ev d 208 15 lo st h = evI d 208 15 16 lo st h .imul := ev_u n208_15 rfl
theorem n208_16 : mx_ins 208 16 = some ((.iload_n 2), 1) := mx_ins_of mi208 dX20_row_16 rfl
theorem u208_16 : ev d 208 16 lo st h = evS (mx_ldI 2) d 208 17 lo st h := ev_s n208_16 rfl rfl
theorem n208_17 : mx_ins 208 17 = some (.iadd, 1) := mx_ins_of mi208 dX20_row_17 rfl
theorem u208_17 : ev d 208 17 lo st h = evI d 208 17 18 lo st h .iadd := ev_u n208_17 rfl
theorem n208_18 : mx_ins 208 18 = some (.iaload, 1) := mx_ins_of mi208 dX20_row_18 rfl
theorem u208_18 : ev d 208 18 lo st h = evI d 208 18 19 lo st h .iaload := ev_u n208_18 rfl
theorem n208_19 : mx_ins 208 19 = some ((.goto 5), 3) := mx_ins_of mi208 dX20_row_19 rfl
theorem u208_19 : ev d 208 19 lo st h = ev d 208 24 lo st h := ev_goto n208_19 rfl
theorem n208_22 : mx_ins 208 22 = some ((.bipush (-9)), 2) := mx_ins_of mi208 dX20_row_22 rfl
theorem u208_22 : ev d 208 22 lo st h = ev d 208 24 lo (.int (-9) :: st) h := (ev_s (f := mx_push (.int (-9))) n208_22 rfl rfl).trans es_push
theorem n208_24 : mx_ins 208 24 = some (.ireturn, 1) := mx_ins_of mi208 dX20_row_24 rfl
theorem u208_24 : ev d 208 24 lo st h = evI d 208 24 25 lo st h .ireturn := ev_u n208_24 rfl
theorem mi209 : mx_mi 209 = some (yX20_isRow, cX20_isRow, 3, (Option.some Jvm.ClassFile.FieldType.boolean), 20, 3, []) := rfl
theorem ow209 : mx_own 209 = 20 := mx_mi_own mi209
theorem mm209 : mx_max 209 = 3 := mx_mi_max mi209
theorem rt209 : mx_ret 209 = (Option.some Jvm.ClassFile.FieldType.boolean) := mx_mi_ret mi209
theorem hn209 : mx_hnd 209 = [] := mx_mi_hnd mi209
theorem n209_0 : mx_ins 209 0 = some ((.iload_n 1), 1) := mx_ins_of mi209 dX20_isRow_0 rfl
theorem u209_0 : ev d 209 0 lo st h = evS (mx_ldI 1) d 209 1 lo st h := ev_s n209_0 rfl rfl
theorem n209_1 : mx_ins 209 1 = some ((.iconst 0), 1) := mx_ins_of mi209 dX20_isRow_1 rfl
theorem u209_1 : ev d 209 1 lo st h = ev d 209 2 lo (.int 0 :: st) h := (ev_s (f := mx_push (.int 0)) n209_1 rfl rfl).trans es_push
theorem n209_2 : mx_ins 209 2 = some ((.aload_n 0), 1) := mx_ins_of mi209 dX20_isRow_2 rfl
theorem u209_2 : ev d 209 2 lo st h = evS (mx_ldA 0) d 209 3 lo st h := ev_s n209_2 rfl rfl
theorem n209_3 : mx_ins 209 3 = some ((.getfield 324), 3) := mx_ins_of mi209 dX20_isRow_3 rfl
theorem u209_3 : ev d 209 3 lo st h = evS (mx_gf 20 324) d 209 6 lo st h := ev_s n209_3 rfl rfl
theorem n209_6 : mx_ins 209 6 = some ((.iconst 1), 1) := mx_ins_of mi209 dX20_isRow_6 rfl
theorem u209_6 : ev d 209 6 lo st h = ev d 209 7 lo (.int 1 :: st) h := (ev_s (f := mx_push (.int 1)) n209_6 rfl rfl).trans es_push
theorem n209_7 : mx_ins 209 7 = some (.isub, 1) := mx_ins_of mi209 dX20_isRow_7 rfl
theorem u209_7 : ev d 209 7 lo st h = evI d 209 7 8 lo st h .isub := ev_u n209_7 rfl
theorem n209_8 : mx_ins 209 8 = some ((.invokestatic 100), 3) := mx_ins_of mi209 dX20_isRow_8 rfl
theorem u209_8 : ev d 209 8 lo st h = evIn d 209 8 11 20 100 3 true lo st h := ev_inv n209_8 rfl rfl ow209 ia20_100
theorem n209_11 : mx_ins 209 11 = some ((.ifCond .eq 16), 3) := mx_ins_of mi209 dX20_isRow_11 rfl
theorem u209_11 : ev d 209 11 lo st h = evJ .eq d 209 27 14 lo st h := ev_if n209_11 rfl rfl
theorem n209_14 : mx_ins 209 14 = some ((.iload_n 2), 1) := mx_ins_of mi209 dX20_isRow_14 rfl
theorem u209_14 : ev d 209 14 lo st h = evS (mx_ldI 2) d 209 15 lo st h := ev_s n209_14 rfl rfl
theorem n209_15 : mx_ins 209 15 = some ((.iconst 0), 1) := mx_ins_of mi209 dX20_isRow_15 rfl
theorem u209_15 : ev d 209 15 lo st h = ev d 209 16 lo (.int 0 :: st) h := (ev_s (f := mx_push (.int 0)) n209_15 rfl rfl).trans es_push
theorem n209_16 : mx_ins 209 16 = some ((.iconst 2), 1) := mx_ins_of mi209 dX20_isRow_16 rfl
theorem u209_16 : ev d 209 16 lo st h = ev d 209 17 lo (.int 2 :: st) h := (ev_s (f := mx_push (.int 2)) n209_16 rfl rfl).trans es_push
theorem n209_17 : mx_ins 209 17 = some ((.invokestatic 100), 3) := mx_ins_of mi209 dX20_isRow_17 rfl
theorem u209_17 : ev d 209 17 lo st h = evIn d 209 17 20 20 100 3 true lo st h := ev_inv n209_17 rfl rfl ow209 ia20_100
theorem n209_20 : mx_ins 209 20 = some ((.ifCond .eq 7), 3) := mx_ins_of mi209 dX20_isRow_20 rfl
theorem u209_20 : ev d 209 20 lo st h = evJ .eq d 209 27 23 lo st h := ev_if n209_20 rfl rfl
theorem n209_23 : mx_ins 209 23 = some ((.iconst 1), 1) := mx_ins_of mi209 dX20_isRow_23 rfl
theorem u209_23 : ev d 209 23 lo st h = ev d 209 24 lo (.int 1 :: st) h := (ev_s (f := mx_push (.int 1)) n209_23 rfl rfl).trans es_push
theorem n209_24 : mx_ins 209 24 = some ((.goto 4), 3) := mx_ins_of mi209 dX20_isRow_24 rfl
theorem u209_24 : ev d 209 24 lo st h = ev d 209 28 lo st h := ev_goto n209_24 rfl
theorem n209_27 : mx_ins 209 27 = some ((.iconst 0), 1) := mx_ins_of mi209 dX20_isRow_27 rfl
theorem u209_27 : ev d 209 27 lo st h = ev d 209 28 lo (.int 0 :: st) h := (ev_s (f := mx_push (.int 0)) n209_27 rfl rfl).trans es_push
theorem n209_28 : mx_ins 209 28 = some (.ireturn, 1) := mx_ins_of mi209 dX20_isRow_28 rfl
theorem u209_28 : ev d 209 28 lo st h = evI d 209 28 29 lo st h .ireturn := ev_u n209_28 rfl
theorem mi210 : mx_mi 210 = some (yX20_alterRow, cX20_alterRow, 5, (Option.some Jvm.ClassFile.FieldType.int), 20, 4, []) := rfl
theorem ow210 : mx_own 210 = 20 := mx_mi_own mi210
theorem mm210 : mx_max 210 = 5 := mx_mi_max mi210
theorem rt210 : mx_ret 210 = (Option.some Jvm.ClassFile.FieldType.int) := mx_mi_ret mi210
theorem hn210 : mx_hnd 210 = [] := mx_mi_hnd mi210
theorem n210_0 : mx_ins 210 0 = some ((.aload_n 0), 1) := mx_ins_of mi210 dX20_alterRow_0 rfl
theorem u210_0 : ev d 210 0 lo st h = evS (mx_ldA 0) d 210 1 lo st h := ev_s n210_0 rfl rfl
theorem n210_1 : mx_ins 210 1 = some ((.iload_n 1), 1) := mx_ins_of mi210 dX20_alterRow_1 rfl
theorem u210_1 : ev d 210 1 lo st h = evS (mx_ldI 1) d 210 2 lo st h := ev_s n210_1 rfl rfl
theorem n210_2 : mx_ins 210 2 = some ((.iload_n 2), 1) := mx_ins_of mi210 dX20_alterRow_2 rfl
theorem u210_2 : ev d 210 2 lo st h = evS (mx_ldI 2) d 210 3 lo st h := ev_s n210_2 rfl rfl
theorem n210_3 : mx_ins 210 3 = some ((.invokevirtual 327), 3) := mx_ins_of mi210 dX20_alterRow_3 rfl
theorem u210_3 : ev d 210 3 lo st h = evIn d 210 3 6 20 327 3 false lo st h := ev_inv n210_3 rfl rfl ow210 ia20_327
theorem n210_6 : mx_ins 210 6 = some ((.ifCond .ne 6), 3) := mx_ins_of mi210 dX20_alterRow_6 rfl
theorem u210_6 : ev d 210 6 lo st h = evJ .ne d 210 12 9 lo st h := ev_if n210_6 rfl rfl
theorem n210_9 : mx_ins 210 9 = some ((.bipush (-9)), 2) := mx_ins_of mi210 dX20_alterRow_9 rfl
theorem u210_9 : ev d 210 9 lo st h = ev d 210 11 lo (.int (-9) :: st) h := (ev_s (f := mx_push (.int (-9))) n210_9 rfl rfl).trans es_push
theorem n210_11 : mx_ins 210 11 = some (.ireturn, 1) := mx_ins_of mi210 dX20_alterRow_11 rfl
theorem u210_11 : ev d 210 11 lo st h = evI d 210 11 12 lo st h .ireturn := ev_u n210_11 rfl
theorem n210_12 : mx_ins 210 12 = some ((.aload_n 0), 1) := mx_ins_of mi210 dX20_alterRow_12 rfl
theorem u210_12 : ev d 210 12 lo st h = evS (mx_ldA 0) d 210 13 lo st h := ev_s n210_12 rfl rfl
theorem n210_13 : mx_ins 210 13 = some ((.getfield 69), 3) := mx_ins_of mi210 dX20_alterRow_13 rfl
theorem u210_13 : ev d 210 13 lo st h = evS (mx_gf 20 69) d 210 16 lo st h := ev_s n210_13 rfl rfl
theorem n210_16 : mx_ins 210 16 = some ((.iconst 3), 1) := mx_ins_of mi210 dX20_alterRow_16 rfl
theorem u210_16 : ev d 210 16 lo st h = ev d 210 17 lo (.int 3 :: st) h := (ev_s (f := mx_push (.int 3)) n210_16 rfl rfl).trans es_push
theorem n210_17 : mx_ins 210 17 = some ((.iload_n 1), 1) := mx_ins_of mi210 dX20_alterRow_17 rfl
theorem u210_17 : ev d 210 17 lo st h = evS (mx_ldI 1) d 210 18 lo st h := ev_s n210_17 rfl rfl
theorem n210_18 : mx_ins 210 18 = some (.imul, 1) := mx_ins_of mi210 dX20_alterRow_18 rfl
theorem u210_18 : ev d 210 18 lo st h = evI d 210 18 19 lo st h .imul := ev_u n210_18 rfl
theorem n210_19 : mx_ins 210 19 = some ((.iload_n 2), 1) := mx_ins_of mi210 dX20_alterRow_19 rfl
theorem u210_19 : ev d 210 19 lo st h = evS (mx_ldI 2) d 210 20 lo st h := ev_s n210_19 rfl rfl
theorem n210_20 : mx_ins 210 20 = some (.iadd, 1) := mx_ins_of mi210 dX20_alterRow_20 rfl
theorem u210_20 : ev d 210 20 lo st h = evI d 210 20 21 lo st h .iadd := ev_u n210_20 rfl
theorem n210_21 : mx_ins 210 21 = some (.iaload, 1) := mx_ins_of mi210 dX20_alterRow_21 rfl
theorem u210_21 : ev d 210 21 lo st h = evI d 210 21 22 lo st h .iaload := ev_u n210_21 rfl
theorem n210_22 : mx_ins 210 22 = some ((.istore 4), 2) := mx_ins_of mi210 dX20_alterRow_22 rfl
theorem u210_22 : ev d 210 22 lo st h = evS (mx_stI 4) d 210 24 lo st h := ev_s n210_22 rfl rfl
theorem n210_24 : mx_ins 210 24 = some ((.aload_n 0), 1) := mx_ins_of mi210 dX20_alterRow_24 rfl
theorem u210_24 : ev d 210 24 lo st h = evS (mx_ldA 0) d 210 25 lo st h := ev_s n210_24 rfl rfl
theorem n210_25 : mx_ins 210 25 = some ((.getfield 69), 3) := mx_ins_of mi210 dX20_alterRow_25 rfl
theorem u210_25 : ev d 210 25 lo st h = evS (mx_gf 20 69) d 210 28 lo st h := ev_s n210_25 rfl rfl
theorem n210_28 : mx_ins 210 28 = some ((.iconst 3), 1) := mx_ins_of mi210 dX20_alterRow_28 rfl
theorem u210_28 : ev d 210 28 lo st h = ev d 210 29 lo (.int 3 :: st) h := (ev_s (f := mx_push (.int 3)) n210_28 rfl rfl).trans es_push
theorem n210_29 : mx_ins 210 29 = some ((.iload_n 1), 1) := mx_ins_of mi210 dX20_alterRow_29 rfl
theorem u210_29 : ev d 210 29 lo st h = evS (mx_ldI 1) d 210 30 lo st h := ev_s n210_29 rfl rfl
theorem n210_30 : mx_ins 210 30 = some (.imul, 1) := mx_ins_of mi210 dX20_alterRow_30 rfl
theorem u210_30 : ev d 210 30 lo st h = evI d 210 30 31 lo st h .imul := ev_u n210_30 rfl
theorem n210_31 : mx_ins 210 31 = some ((.iload_n 2), 1) := mx_ins_of mi210 dX20_alterRow_31 rfl
theorem u210_31 : ev d 210 31 lo st h = evS (mx_ldI 2) d 210 32 lo st h := ev_s n210_31 rfl rfl
theorem n210_32 : mx_ins 210 32 = some (.iadd, 1) := mx_ins_of mi210 dX20_alterRow_32 rfl
theorem u210_32 : ev d 210 32 lo st h = evI d 210 32 33 lo st h .iadd := ev_u n210_32 rfl
theorem n210_33 : mx_ins 210 33 = some ((.iload_n 3), 1) := mx_ins_of mi210 dX20_alterRow_33 rfl
theorem u210_33 : ev d 210 33 lo st h = evS (mx_ldI 3) d 210 34 lo st h := ev_s n210_33 rfl rfl
theorem n210_34 : mx_ins 210 34 = some (.iastore, 1) := mx_ins_of mi210 dX20_alterRow_34 rfl
theorem u210_34 : ev d 210 34 lo st h = evI d 210 34 35 lo st h .iastore := ev_u n210_34 rfl
theorem n210_35 : mx_ins 210 35 = some ((.iload 4), 2) := mx_ins_of mi210 dX20_alterRow_35 rfl
theorem u210_35 : ev d 210 35 lo st h = evS (mx_ldI 4) d 210 37 lo st h := ev_s n210_35 rfl rfl
theorem n210_37 : mx_ins 210 37 = some (.ireturn, 1) := mx_ins_of mi210 dX20_alterRow_37 rfl
theorem u210_37 : ev d 210 37 lo st h = evI d 210 37 38 lo st h .ireturn := ev_u n210_37 rfl
theorem mi211 : mx_mi 211 = some (yX20_judge, cX20_judge, 4, (Option.some Jvm.ClassFile.FieldType.int), 20, 1, []) := rfl
theorem ow211 : mx_own 211 = 20 := mx_mi_own mi211
theorem mm211 : mx_max 211 = 4 := mx_mi_max mi211
theorem rt211 : mx_ret 211 = (Option.some Jvm.ClassFile.FieldType.int) := mx_mi_ret mi211
theorem hn211 : mx_hnd 211 = [] := mx_mi_hnd mi211
theorem n211_0 : mx_ins 211 0 = some ((.aload_n 0), 1) := mx_ins_of mi211 dX20_judge_0 rfl
theorem u211_0 : ev d 211 0 lo st h = evS (mx_ldA 0) d 211 1 lo st h := ev_s n211_0 rfl rfl
theorem n211_1 : mx_ins 211 1 = some ((.invokevirtual 321), 3) := mx_ins_of mi211 dX20_judge_1 rfl
theorem u211_1 : ev d 211 1 lo st h = evIn d 211 1 4 20 321 1 false lo st h := ev_inv n211_1 rfl rfl ow211 ia20_321
theorem n211_4 : mx_ins 211 4 = some ((.iconst 0), 1) := mx_ins_of mi211 dX20_judge_4 rfl
theorem u211_4 : ev d 211 4 lo st h = ev d 211 5 lo (.int 0 :: st) h := (ev_s (f := mx_push (.int 0)) n211_4 rfl rfl).trans es_push
theorem n211_5 : mx_ins 211 5 = some ((.istore_n 1), 1) := mx_ins_of mi211 dX20_judge_5 rfl
theorem u211_5 : ev d 211 5 lo st h = evS (mx_stI 1) d 211 6 lo st h := ev_s n211_5 rfl rfl
theorem n211_6 : mx_ins 211 6 = some ((.iload_n 1), 1) := mx_ins_of mi211 dX20_judge_6 rfl
theorem u211_6 : ev d 211 6 lo st h = evS (mx_ldI 1) d 211 7 lo st h := ev_s n211_6 rfl rfl
theorem n211_7 : mx_ins 211 7 = some ((.aload_n 0), 1) := mx_ins_of mi211 dX20_judge_7 rfl
theorem u211_7 : ev d 211 7 lo st h = evS (mx_ldA 0) d 211 8 lo st h := ev_s n211_7 rfl rfl
theorem n211_8 : mx_ins 211 8 = some ((.getfield 324), 3) := mx_ins_of mi211 dX20_judge_8 rfl
theorem u211_8 : ev d 211 8 lo st h = evS (mx_gf 20 324) d 211 11 lo st h := ev_s n211_8 rfl rfl
theorem n211_11 : mx_ins 211 11 = some ((.if_icmp .ge 77), 3) := mx_ins_of mi211 dX20_judge_11 rfl
theorem u211_11 : ev d 211 11 lo st h = evK .ge d 211 88 14 lo st h := ev_ic n211_11 rfl rfl
theorem n211_14 : mx_ins 211 14 = some ((.iload_n 1), 1) := mx_ins_of mi211 dX20_judge_14 rfl
theorem u211_14 : ev d 211 14 lo st h = evS (mx_ldI 1) d 211 15 lo st h := ev_s n211_14 rfl rfl
theorem n211_15 : mx_ins 211 15 = some ((.aload_n 0), 1) := mx_ins_of mi211 dX20_judge_15 rfl
theorem u211_15 : ev d 211 15 lo st h = evS (mx_ldA 0) d 211 16 lo st h := ev_s n211_15 rfl rfl
theorem n211_16 : mx_ins 211 16 = some ((.getfield 289), 3) := mx_ins_of mi211 dX20_judge_16 rfl
theorem u211_16 : ev d 211 16 lo st h = evS (mx_gf 20 289) d 211 19 lo st h := ev_s n211_16 rfl rfl
theorem n211_19 : mx_ins 211 19 = some ((.if_icmp .ge 7), 3) := mx_ins_of mi211 dX20_judge_19 rfl
theorem u211_19 : ev d 211 19 lo st h = evK .ge d 211 26 22 lo st h := ev_ic n211_19 rfl rfl
theorem n211_22 : mx_ins 211 22 = some ((.iconst 1), 1) := mx_ins_of mi211 dX20_judge_22 rfl
theorem u211_22 : ev d 211 22 lo st h = ev d 211 23 lo (.int 1 :: st) h := (ev_s (f := mx_push (.int 1)) n211_22 rfl rfl).trans es_push
theorem n211_23 : mx_ins 211 23 = some ((.goto 4), 3) := mx_ins_of mi211 dX20_judge_23 rfl
theorem u211_23 : ev d 211 23 lo st h = ev d 211 27 lo st h := ev_goto n211_23 rfl
theorem n211_26 : mx_ins 211 26 = some ((.iconst 0), 1) := mx_ins_of mi211 dX20_judge_26 rfl
theorem u211_26 : ev d 211 26 lo st h = ev d 211 27 lo (.int 0 :: st) h := (ev_s (f := mx_push (.int 0)) n211_26 rfl rfl).trans es_push
theorem n211_27 : mx_ins 211 27 = some ((.istore_n 2), 1) := mx_ins_of mi211 dX20_judge_27 rfl
theorem u211_27 : ev d 211 27 lo st h = evS (mx_stI 2) d 211 28 lo st h := ev_s n211_27 rfl rfl
theorem n211_28 : mx_ins 211 28 = some ((.iconst 0), 1) := mx_ins_of mi211 dX20_judge_28 rfl
theorem u211_28 : ev d 211 28 lo st h = ev d 211 29 lo (.int 0 :: st) h := (ev_s (f := mx_push (.int 0)) n211_28 rfl rfl).trans es_push
theorem n211_29 : mx_ins 211 29 = some ((.istore_n 3), 1) := mx_ins_of mi211 dX20_judge_29 rfl
theorem u211_29 : ev d 211 29 lo st h = evS (mx_stI 3) d 211 30 lo st h := ev_s n211_29 rfl rfl
theorem n211_30 : mx_ins 211 30 = some ((.iload_n 3), 1) := mx_ins_of mi211 dX20_judge_30 rfl
theorem u211_30 : ev d 211 30 lo st h = evS (mx_ldI 3) d 211 31 lo st h := ev_s n211_30 rfl rfl
theorem n211_31 : mx_ins 211 31 = some ((.iconst 3), 1) := mx_ins_of mi211 dX20_judge_31 rfl
theorem u211_31 : ev d 211 31 lo st h = ev d 211 32 lo (.int 3 :: st) h := (ev_s (f := mx_push (.int 3)) n211_31 rfl rfl).trans es_push
theorem n211_32 : mx_ins 211 32 = some ((.if_icmp .ge 42), 3) := mx_ins_of mi211 dX20_judge_32 rfl
theorem u211_32 : ev d 211 32 lo st h = evK .ge d 211 74 35 lo st h := ev_ic n211_32 rfl rfl
theorem n211_35 : mx_ins 211 35 = some ((.iload_n 2), 1) := mx_ins_of mi211 dX20_judge_35 rfl
theorem u211_35 : ev d 211 35 lo st h = evS (mx_ldI 2) d 211 36 lo st h := ev_s n211_35 rfl rfl
theorem n211_36 : mx_ins 211 36 = some ((.ifCond .eq 38), 3) := mx_ins_of mi211 dX20_judge_36 rfl
theorem u211_36 : ev d 211 36 lo st h = evJ .eq d 211 74 39 lo st h := ev_if n211_36 rfl rfl
theorem n211_39 : mx_ins 211 39 = some ((.aload_n 0), 1) := mx_ins_of mi211 dX20_judge_39 rfl
theorem u211_39 : ev d 211 39 lo st h = evS (mx_ldA 0) d 211 40 lo st h := ev_s n211_39 rfl rfl
theorem n211_40 : mx_ins 211 40 = some ((.getfield 69), 3) := mx_ins_of mi211 dX20_judge_40 rfl
theorem u211_40 : ev d 211 40 lo st h = evS (mx_gf 20 69) d 211 43 lo st h := ev_s n211_40 rfl rfl
theorem n211_43 : mx_ins 211 43 = some ((.iconst 3), 1) := mx_ins_of mi211 dX20_judge_43 rfl
theorem u211_43 : ev d 211 43 lo st h = ev d 211 44 lo (.int 3 :: st) h := (ev_s (f := mx_push (.int 3)) n211_43 rfl rfl).trans es_push
theorem n211_44 : mx_ins 211 44 = some ((.iload_n 1), 1) := mx_ins_of mi211 dX20_judge_44 rfl
theorem u211_44 : ev d 211 44 lo st h = evS (mx_ldI 1) d 211 45 lo st h := ev_s n211_44 rfl rfl
theorem n211_45 : mx_ins 211 45 = some (.imul, 1) := mx_ins_of mi211 dX20_judge_45 rfl
theorem u211_45 : ev d 211 45 lo st h = evI d 211 45 46 lo st h .imul := ev_u n211_45 rfl
theorem n211_46 : mx_ins 211 46 = some ((.iload_n 3), 1) := mx_ins_of mi211 dX20_judge_46 rfl
theorem u211_46 : ev d 211 46 lo st h = evS (mx_ldI 3) d 211 47 lo st h := ev_s n211_46 rfl rfl
theorem n211_47 : mx_ins 211 47 = some (.iadd, 1) := mx_ins_of mi211 dX20_judge_47 rfl
theorem u211_47 : ev d 211 47 lo st h = evI d 211 47 48 lo st h .iadd := ev_u n211_47 rfl
theorem n211_48 : mx_ins 211 48 = some (.iaload, 1) := mx_ins_of mi211 dX20_judge_48 rfl
theorem u211_48 : ev d 211 48 lo st h = evI d 211 48 49 lo st h .iaload := ev_u n211_48 rfl
theorem n211_49 : mx_ins 211 49 = some ((.aload_n 0), 1) := mx_ins_of mi211 dX20_judge_49 rfl
theorem u211_49 : ev d 211 49 lo st h = evS (mx_ldA 0) d 211 50 lo st h := ev_s n211_49 rfl rfl
theorem n211_50 : mx_ins 211 50 = some ((.getfield 66), 3) := mx_ins_of mi211 dX20_judge_50 rfl
theorem u211_50 : ev d 211 50 lo st h = evS (mx_gf 20 66) d 211 53 lo st h := ev_s n211_50 rfl rfl
theorem n211_53 : mx_ins 211 53 = some ((.iconst 3), 1) := mx_ins_of mi211 dX20_judge_53 rfl
theorem u211_53 : ev d 211 53 lo st h = ev d 211 54 lo (.int 3 :: st) h := (ev_s (f := mx_push (.int 3)) n211_53 rfl rfl).trans es_push
theorem n211_54 : mx_ins 211 54 = some ((.iload_n 1), 1) := mx_ins_of mi211 dX20_judge_54 rfl
theorem u211_54 : ev d 211 54 lo st h = evS (mx_ldI 1) d 211 55 lo st h := ev_s n211_54 rfl rfl
theorem n211_55 : mx_ins 211 55 = some (.imul, 1) := mx_ins_of mi211 dX20_judge_55 rfl
theorem u211_55 : ev d 211 55 lo st h = evI d 211 55 56 lo st h .imul := ev_u n211_55 rfl
theorem n211_56 : mx_ins 211 56 = some ((.iload_n 3), 1) := mx_ins_of mi211 dX20_judge_56 rfl
theorem u211_56 : ev d 211 56 lo st h = evS (mx_ldI 3) d 211 57 lo st h := ev_s n211_56 rfl rfl
theorem n211_57 : mx_ins 211 57 = some (.iadd, 1) := mx_ins_of mi211 dX20_judge_57 rfl
theorem u211_57 : ev d 211 57 lo st h = evI d 211 57 58 lo st h .iadd := ev_u n211_57 rfl
theorem n211_58 : mx_ins 211 58 = some (.iaload, 1) := mx_ins_of mi211 dX20_judge_58 rfl
theorem u211_58 : ev d 211 58 lo st h = evI d 211 58 59 lo st h .iaload := ev_u n211_58 rfl
theorem n211_59 : mx_ins 211 59 = some ((.if_icmp .ne 7), 3) := mx_ins_of mi211 dX20_judge_59 rfl
theorem u211_59 : ev d 211 59 lo st h = evK .ne d 211 66 62 lo st h := ev_ic n211_59 rfl rfl
theorem n211_62 : mx_ins 211 62 = some ((.iconst 1), 1) := mx_ins_of mi211 dX20_judge_62 rfl
theorem u211_62 : ev d 211 62 lo st h = ev d 211 63 lo (.int 1 :: st) h := (ev_s (f := mx_push (.int 1)) n211_62 rfl rfl).trans es_push
theorem n211_63 : mx_ins 211 63 = some ((.goto 4), 3) := mx_ins_of mi211 dX20_judge_63 rfl
theorem u211_63 : ev d 211 63 lo st h = ev d 211 67 lo st h := ev_goto n211_63 rfl
theorem n211_66 : mx_ins 211 66 = some ((.iconst 0), 1) := mx_ins_of mi211 dX20_judge_66 rfl
theorem u211_66 : ev d 211 66 lo st h = ev d 211 67 lo (.int 0 :: st) h := (ev_s (f := mx_push (.int 0)) n211_66 rfl rfl).trans es_push
theorem n211_67 : mx_ins 211 67 = some ((.istore_n 2), 1) := mx_ins_of mi211 dX20_judge_67 rfl
theorem u211_67 : ev d 211 67 lo st h = evS (mx_stI 2) d 211 68 lo st h := ev_s n211_67 rfl rfl
theorem n211_68 : mx_ins 211 68 = some ((.iinc 3 1), 3) := mx_ins_of mi211 dX20_judge_68 rfl
theorem u211_68 : ev d 211 68 lo st h = evS (mx_inc 3 (1)) d 211 71 lo st h := ev_s n211_68 rfl rfl
theorem n211_71 : mx_ins 211 71 = some ((.goto (-41)), 3) := mx_ins_of mi211 dX20_judge_71 rfl
theorem u211_71 : ev d 211 71 lo st h = ev d 211 30 lo st h := ev_goto n211_71 rfl
theorem n211_74 : mx_ins 211 74 = some ((.iload_n 2), 1) := mx_ins_of mi211 dX20_judge_74 rfl
theorem u211_74 : ev d 211 74 lo st h = evS (mx_ldI 2) d 211 75 lo st h := ev_s n211_74 rfl rfl
theorem n211_75 : mx_ins 211 75 = some ((.ifCond .ne 7), 3) := mx_ins_of mi211 dX20_judge_75 rfl
theorem u211_75 : ev d 211 75 lo st h = evJ .ne d 211 82 78 lo st h := ev_if n211_75 rfl rfl
theorem n211_78 : mx_ins 211 78 = some ((.iload_n 1), 1) := mx_ins_of mi211 dX20_judge_78 rfl
theorem u211_78 : ev d 211 78 lo st h = evS (mx_ldI 1) d 211 79 lo st h := ev_s n211_78 rfl rfl
theorem n211_79 : mx_ins 211 79 = some ((.iconst 1), 1) := mx_ins_of mi211 dX20_judge_79 rfl
theorem u211_79 : ev d 211 79 lo st h = ev d 211 80 lo (.int 1 :: st) h := (ev_s (f := mx_push (.int 1)) n211_79 rfl rfl).trans es_push
theorem n211_80 : mx_ins 211 80 = some (.iadd, 1) := mx_ins_of mi211 dX20_judge_80 rfl
theorem u211_80 : ev d 211 80 lo st h = evI d 211 80 81 lo st h .iadd := ev_u n211_80 rfl
theorem n211_81 : mx_ins 211 81 = some (.ireturn, 1) := mx_ins_of mi211 dX20_judge_81 rfl
theorem u211_81 : ev d 211 81 lo st h = evI d 211 81 82 lo st h .ireturn := ev_u n211_81 rfl
theorem n211_82 : mx_ins 211 82 = some ((.iinc 1 1), 3) := mx_ins_of mi211 dX20_judge_82 rfl
theorem u211_82 : ev d 211 82 lo st h = evS (mx_inc 1 (1)) d 211 85 lo st h := ev_s n211_82 rfl rfl
theorem n211_85 : mx_ins 211 85 = some ((.goto (-79)), 3) := mx_ins_of mi211 dX20_judge_85 rfl
theorem u211_85 : ev d 211 85 lo st h = ev d 211 6 lo st h := ev_goto n211_85 rfl
theorem n211_88 : mx_ins 211 88 = some ((.aload_n 0), 1) := mx_ins_of mi211 dX20_judge_88 rfl
theorem u211_88 : ev d 211 88 lo st h = evS (mx_ldA 0) d 211 89 lo st h := ev_s n211_88 rfl rfl
theorem n211_89 : mx_ins 211 89 = some ((.getfield 324), 3) := mx_ins_of mi211 dX20_judge_89 rfl
theorem u211_89 : ev d 211 89 lo st h = evS (mx_gf 20 324) d 211 92 lo st h := ev_s n211_89 rfl rfl
theorem n211_92 : mx_ins 211 92 = some ((.aload_n 0), 1) := mx_ins_of mi211 dX20_judge_92 rfl
theorem u211_92 : ev d 211 92 lo st h = evS (mx_ldA 0) d 211 93 lo st h := ev_s n211_92 rfl rfl
theorem n211_93 : mx_ins 211 93 = some ((.getfield 289), 3) := mx_ins_of mi211 dX20_judge_93 rfl
theorem u211_93 : ev d 211 93 lo st h = evS (mx_gf 20 289) d 211 96 lo st h := ev_s n211_93 rfl rfl
theorem n211_96 : mx_ins 211 96 = some ((.if_icmp .ge 9), 3) := mx_ins_of mi211 dX20_judge_96 rfl
theorem u211_96 : ev d 211 96 lo st h = evK .ge d 211 105 99 lo st h := ev_ic n211_96 rfl rfl
theorem n211_99 : mx_ins 211 99 = some ((.sipush 222), 3) := mx_ins_of mi211 dX20_judge_99 rfl
theorem u211_99 : ev d 211 99 lo st h = ev d 211 102 lo (.int 222 :: st) h := (ev_s (f := mx_push (.int 222)) n211_99 rfl rfl).trans es_push
theorem n211_102 : mx_ins 211 102 = some ((.goto 4), 3) := mx_ins_of mi211 dX20_judge_102 rfl
theorem u211_102 : ev d 211 102 lo st h = ev d 211 106 lo st h := ev_goto n211_102 rfl
theorem n211_105 : mx_ins 211 105 = some ((.iconst 0), 1) := mx_ins_of mi211 dX20_judge_105 rfl
theorem u211_105 : ev d 211 105 lo st h = ev d 211 106 lo (.int 0 :: st) h := (ev_s (f := mx_push (.int 0)) n211_105 rfl rfl).trans es_push
theorem n211_106 : mx_ins 211 106 = some (.ireturn, 1) := mx_ins_of mi211 dX20_judge_106 rfl
theorem u211_106 : ev d 211 106 lo st h = evI d 211 106 107 lo st h .ireturn := ev_u n211_106 rfl
theorem mi212 : mx_mi 212 = some (yX20_outs, cX20_outs, 9, (Option.some Jvm.ClassFile.FieldType.int), 20, 5, []) := rfl
theorem ow212 : mx_own 212 = 20 := mx_mi_own mi212
theorem mm212 : mx_max 212 = 9 := mx_mi_max mi212
theorem rt212 : mx_ret 212 = (Option.some Jvm.ClassFile.FieldType.int) := mx_mi_ret mi212
theorem hn212 : mx_hnd 212 = [] := mx_mi_hnd mi212
theorem n212_0 : mx_ins 212 0 = some ((.iload_n 1), 1) := mx_ins_of mi212 dX20_outs_0 rfl
theorem u212_0 : ev d 212 0 lo st h = evS (mx_ldI 1) d 212 1 lo st h := ev_s n212_0 rfl rfl
theorem n212_1 : mx_ins 212 1 = some ((.invokestatic 331), 3) := mx_ins_of mi212 dX20_outs_1 rfl
theorem u212_1 : ev d 212 1 lo st h = evIn d 212 1 4 20 331 1 true lo st h := ev_inv n212_1 rfl rfl ow212 ia20_331
theorem n212_4 : mx_ins 212 4 = some ((.ifCond .eq 30), 3) := mx_ins_of mi212 dX20_outs_4 rfl
theorem u212_4 : ev d 212 4 lo st h = evJ .eq d 212 34 7 lo st h := ev_if n212_4 rfl rfl
theorem n212_7 : mx_ins 212 7 = some ((.iload_n 3), 1) := mx_ins_of mi212 dX20_outs_7 rfl
theorem u212_7 : ev d 212 7 lo st h = evS (mx_ldI 3) d 212 8 lo st h := ev_s n212_7 rfl rfl
theorem n212_8 : mx_ins 212 8 = some ((.invokestatic 238), 3) := mx_ins_of mi212 dX20_outs_8 rfl
theorem u212_8 : ev d 212 8 lo st h = evIn d 212 8 11 20 238 1 true lo st h := ev_inv n212_8 rfl rfl ow212 ia20_238
theorem n212_11 : mx_ins 212 11 = some ((.ifCond .eq 23), 3) := mx_ins_of mi212 dX20_outs_11 rfl
theorem u212_11 : ev d 212 11 lo st h = evJ .eq d 212 34 14 lo st h := ev_if n212_11 rfl rfl
theorem n212_14 : mx_ins 212 14 = some ((.iload 4), 2) := mx_ins_of mi212 dX20_outs_14 rfl
theorem u212_14 : ev d 212 14 lo st h = evS (mx_ldI 4) d 212 16 lo st h := ev_s n212_14 rfl rfl
theorem n212_16 : mx_ins 212 16 = some ((.iconst 0), 1) := mx_ins_of mi212 dX20_outs_16 rfl
theorem u212_16 : ev d 212 16 lo st h = ev d 212 17 lo (.int 0 :: st) h := (ev_s (f := mx_push (.int 0)) n212_16 rfl rfl).trans es_push
theorem n212_17 : mx_ins 212 17 = some ((.bipush 24), 2) := mx_ins_of mi212 dX20_outs_17 rfl
theorem u212_17 : ev d 212 17 lo st h = ev d 212 19 lo (.int 24 :: st) h := (ev_s (f := mx_push (.int 24)) n212_17 rfl rfl).trans es_push
theorem n212_19 : mx_ins 212 19 = some ((.invokestatic 100), 3) := mx_ins_of mi212 dX20_outs_19 rfl
theorem u212_19 : ev d 212 19 lo st h = evIn d 212 19 22 20 100 3 true lo st h := ev_inv n212_19 rfl rfl ow212 ia20_100
theorem n212_22 : mx_ins 212 22 = some ((.ifCond .eq 12), 3) := mx_ins_of mi212 dX20_outs_22 rfl
theorem u212_22 : ev d 212 22 lo st h = evJ .eq d 212 34 25 lo st h := ev_if n212_22 rfl rfl
theorem n212_25 : mx_ins 212 25 = some ((.iload_n 3), 1) := mx_ins_of mi212 dX20_outs_25 rfl
theorem u212_25 : ev d 212 25 lo st h = evS (mx_ldI 3) d 212 26 lo st h := ev_s n212_25 rfl rfl
theorem n212_26 : mx_ins 212 26 = some ((.iload 4), 2) := mx_ins_of mi212 dX20_outs_26 rfl
theorem u212_26 : ev d 212 26 lo st h = evS (mx_ldI 4) d 212 28 lo st h := ev_s n212_26 rfl rfl
theorem n212_28 : mx_ins 212 28 = some (.iadd, 1) := mx_ins_of mi212 dX20_outs_28 rfl
theorem u212_28 : ev d 212 28 lo st h = evI d 212 28 29 lo st h .iadd := ev_u n212_28 rfl
theorem n212_29 : mx_ins 212 29 = some ((.bipush 24), 2) := mx_ins_of mi212 dX20_outs_29 rfl
theorem u212_29 : ev d 212 29 lo st h = ev d 212 31 lo (.int 24 :: st) h := (ev_s (f := mx_push (.int 24)) n212_29 rfl rfl).trans es_push
theorem n212_31 : mx_ins 212 31 = some ((.if_icmp .le 5), 3) := mx_ins_of mi212 dX20_outs_31 rfl
theorem u212_31 : ev d 212 31 lo st h = evK .le d 212 36 34 lo st h := ev_ic n212_31 rfl rfl
theorem n212_34 : mx_ins 212 34 = some ((.iconst (-1)), 1) := mx_ins_of mi212 dX20_outs_34 rfl
theorem u212_34 : ev d 212 34 lo st h = ev d 212 35 lo (.int (-1) :: st) h := (ev_s (f := mx_push (.int (-1))) n212_34 rfl rfl).trans es_push
theorem n212_35 : mx_ins 212 35 = some (.ireturn, 1) := mx_ins_of mi212 dX20_outs_35 rfl
theorem u212_35 : ev d 212 35 lo st h = evI d 212 35 36 lo st h .ireturn := ev_u n212_35 rfl
theorem n212_36 : mx_ins 212 36 = some ((.aload_n 0), 1) := mx_ins_of mi212 dX20_outs_36 rfl
theorem u212_36 : ev d 212 36 lo st h = evS (mx_ldA 0) d 212 37 lo st h := ev_s n212_36 rfl rfl
theorem n212_37 : mx_ins 212 37 = some ((.iload_n 1), 1) := mx_ins_of mi212 dX20_outs_37 rfl
theorem u212_37 : ev d 212 37 lo st h = evS (mx_ldI 1) d 212 38 lo st h := ev_s n212_37 rfl rfl
theorem n212_38 : mx_ins 212 38 = some ((.iconst 1), 1) := mx_ins_of mi212 dX20_outs_38 rfl
theorem u212_38 : ev d 212 38 lo st h = ev d 212 39 lo (.int 1 :: st) h := (ev_s (f := mx_push (.int 1)) n212_38 rfl rfl).trans es_push
theorem n212_39 : mx_ins 212 39 = some ((.invokevirtual 334), 3) := mx_ins_of mi212 dX20_outs_39 rfl
theorem u212_39 : ev d 212 39 lo st h = evIn d 212 39 42 20 334 3 false lo st h := ev_inv n212_39 rfl rfl ow212 ia20_334
theorem n212_42 : mx_ins 212 42 = some ((.istore 5), 2) := mx_ins_of mi212 dX20_outs_42 rfl
theorem u212_42 : ev d 212 42 lo st h = evS (mx_stI 5) d 212 44 lo st h := ev_s n212_42 rfl rfl
theorem n212_44 : mx_ins 212 44 = some ((.iload 5), 2) := mx_ins_of mi212 dX20_outs_44 rfl
theorem u212_44 : ev d 212 44 lo st h = evS (mx_ldI 5) d 212 46 lo st h := ev_s n212_44 rfl rfl
theorem n212_46 : mx_ins 212 46 = some ((.ifCond .eq 6), 3) := mx_ins_of mi212 dX20_outs_46 rfl
theorem u212_46 : ev d 212 46 lo st h = evJ .eq d 212 52 49 lo st h := ev_if n212_46 rfl rfl
theorem n212_49 : mx_ins 212 49 = some ((.iload 5), 2) := mx_ins_of mi212 dX20_outs_49 rfl
theorem u212_49 : ev d 212 49 lo st h = evS (mx_ldI 5) d 212 51 lo st h := ev_s n212_49 rfl rfl
theorem n212_51 : mx_ins 212 51 = some (.ireturn, 1) := mx_ins_of mi212 dX20_outs_51 rfl
theorem u212_51 : ev d 212 51 lo st h = evI d 212 51 52 lo st h .ireturn := ev_u n212_51 rfl
theorem n212_52 : mx_ins 212 52 = some ((.iload_n 2), 1) := mx_ins_of mi212 dX20_outs_52 rfl
theorem u212_52 : ev d 212 52 lo st h = evS (mx_ldI 2) d 212 53 lo st h := ev_s n212_52 rfl rfl
theorem n212_53 : mx_ins 212 53 = some ((.ifCond .lt 16), 3) := mx_ins_of mi212 dX20_outs_53 rfl
theorem u212_53 : ev d 212 53 lo st h = evJ .lt d 212 69 56 lo st h := ev_if n212_53 rfl rfl
theorem n212_56 : mx_ins 212 56 = some ((.iload_n 2), 1) := mx_ins_of mi212 dX20_outs_56 rfl
theorem u212_56 : ev d 212 56 lo st h = evS (mx_ldI 2) d 212 57 lo st h := ev_s n212_56 rfl rfl
theorem n212_57 : mx_ins 212 57 = some ((.aload_n 0), 1) := mx_ins_of mi212 dX20_outs_57 rfl
theorem u212_57 : ev d 212 57 lo st h = evS (mx_ldA 0) d 212 58 lo st h := ev_s n212_57 rfl rfl
theorem n212_58 : mx_ins 212 58 = some ((.getfield 75), 3) := mx_ins_of mi212 dX20_outs_58 rfl
theorem u212_58 : ev d 212 58 lo st h = evS (mx_gf 20 75) d 212 61 lo st h := ev_s n212_58 rfl rfl
theorem n212_61 : mx_ins 212 61 = some ((.iload_n 1), 1) := mx_ins_of mi212 dX20_outs_61 rfl
theorem u212_61 : ev d 212 61 lo st h = evS (mx_ldI 1) d 212 62 lo st h := ev_s n212_61 rfl rfl
theorem n212_62 : mx_ins 212 62 = some (.iaload, 1) := mx_ins_of mi212 dX20_outs_62 rfl
theorem u212_62 : ev d 212 62 lo st h = evI d 212 62 63 lo st h .iaload := ev_u n212_62 rfl
theorem n212_63 : mx_ins 212 63 = some ((.iload 4), 2) := mx_ins_of mi212 dX20_outs_63 rfl
theorem u212_63 : ev d 212 63 lo st h = evS (mx_ldI 4) d 212 65 lo st h := ev_s n212_63 rfl rfl
theorem n212_65 : mx_ins 212 65 = some (.isub, 1) := mx_ins_of mi212 dX20_outs_65 rfl
theorem u212_65 : ev d 212 65 lo st h = evI d 212 65 66 lo st h .isub := ev_u n212_65 rfl
theorem n212_66 : mx_ins 212 66 = some ((.if_icmp .le 6), 3) := mx_ins_of mi212 dX20_outs_66 rfl
theorem u212_66 : ev d 212 66 lo st h = evK .le d 212 72 69 lo st h := ev_ic n212_66 rfl rfl
theorem n212_69 : mx_ins 212 69 = some ((.bipush (-12)), 2) := mx_ins_of mi212 dX20_outs_69 rfl
theorem u212_69 : ev d 212 69 lo st h = ev d 212 71 lo (.int (-12) :: st) h := (ev_s (f := mx_push (.int (-12))) n212_69 rfl rfl).trans es_push
theorem n212_71 : mx_ins 212 71 = some (.ireturn, 1) := mx_ins_of mi212 dX20_outs_71 rfl
theorem u212_71 : ev d 212 71 lo st h = evI d 212 71 72 lo st h .ireturn := ev_u n212_71 rfl
theorem n212_72 : mx_ins 212 72 = some ((.iconst 0), 1) := mx_ins_of mi212 dX20_outs_72 rfl
theorem u212_72 : ev d 212 72 lo st h = ev d 212 73 lo (.int 0 :: st) h := (ev_s (f := mx_push (.int 0)) n212_72 rfl rfl).trans es_push
theorem n212_73 : mx_ins 212 73 = some ((.istore 6), 2) := mx_ins_of mi212 dX20_outs_73 rfl
theorem u212_73 : ev d 212 73 lo st h = evS (mx_stI 6) d 212 75 lo st h := ev_s n212_73 rfl rfl
theorem n212_75 : mx_ins 212 75 = some ((.iload 6), 2) := mx_ins_of mi212 dX20_outs_75 rfl
theorem u212_75 : ev d 212 75 lo st h = evS (mx_ldI 6) d 212 77 lo st h := ev_s n212_75 rfl rfl
theorem n212_77 : mx_ins 212 77 = some ((.iload 4), 2) := mx_ins_of mi212 dX20_outs_77 rfl
theorem u212_77 : ev d 212 77 lo st h = evS (mx_ldI 4) d 212 79 lo st h := ev_s n212_77 rfl rfl
theorem n212_79 : mx_ins 212 79 = some ((.if_icmp .ge 65), 3) := mx_ins_of mi212 dX20_outs_79 rfl
theorem u212_79 : ev d 212 79 lo st h = evK .ge d 212 144 82 lo st h := ev_ic n212_79 rfl rfl
theorem n212_82 : mx_ins 212 82 = some ((.aload_n 0), 1) := mx_ins_of mi212 dX20_outs_82 rfl
theorem u212_82 : ev d 212 82 lo st h = evS (mx_ldA 0) d 212 83 lo st h := ev_s n212_82 rfl rfl
theorem n212_83 : mx_ins 212 83 = some ((.getfield 78), 3) := mx_ins_of mi212 dX20_outs_83 rfl
theorem u212_83 : ev d 212 83 lo st h = evS (mx_gf 20 78) d 212 86 lo st h := ev_s n212_83 rfl rfl
theorem n212_86 : mx_ins 212 86 = some ((.bipush 40), 2) := mx_ins_of mi212 dX20_outs_86 rfl
theorem u212_86 : ev d 212 86 lo st h = ev d 212 88 lo (.int 40 :: st) h := (ev_s (f := mx_push (.int 40)) n212_86 rfl rfl).trans es_push
theorem n212_88 : mx_ins 212 88 = some ((.iload_n 1), 1) := mx_ins_of mi212 dX20_outs_88 rfl
theorem u212_88 : ev d 212 88 lo st h = evS (mx_ldI 1) d 212 89 lo st h := ev_s n212_88 rfl rfl
theorem n212_89 : mx_ins 212 89 = some (.imul, 1) := mx_ins_of mi212 dX20_outs_89 rfl
theorem u212_89 : ev d 212 89 lo st h = evI d 212 89 90 lo st h .imul := ev_u n212_89 rfl
theorem n212_90 : mx_ins 212 90 = some ((.iload_n 2), 1) := mx_ins_of mi212 dX20_outs_90 rfl
theorem u212_90 : ev d 212 90 lo st h = evS (mx_ldI 2) d 212 91 lo st h := ev_s n212_90 rfl rfl
theorem n212_91 : mx_ins 212 91 = some (.iadd, 1) := mx_ins_of mi212 dX20_outs_91 rfl
theorem u212_91 : ev d 212 91 lo st h = evI d 212 91 92 lo st h .iadd := ev_u n212_91 rfl
theorem n212_92 : mx_ins 212 92 = some ((.iload 6), 2) := mx_ins_of mi212 dX20_outs_92 rfl
theorem u212_92 : ev d 212 92 lo st h = evS (mx_ldI 6) d 212 94 lo st h := ev_s n212_92 rfl rfl
theorem n212_94 : mx_ins 212 94 = some (.iadd, 1) := mx_ins_of mi212 dX20_outs_94 rfl
theorem u212_94 : ev d 212 94 lo st h = evI d 212 94 95 lo st h .iadd := ev_u n212_94 rfl
theorem n212_95 : mx_ins 212 95 = some (.laload, 1) := mx_ins_of mi212 dX20_outs_95 rfl
theorem u212_95 : ev d 212 95 lo st h = evI d 212 95 96 lo st h .laload := ev_u n212_95 rfl
theorem n212_96 : mx_ins 212 96 = some ((.lstore 7), 2) := mx_ins_of mi212 dX20_outs_96 rfl
theorem u212_96 : ev d 212 96 lo st h = evS (mx_stL 7) d 212 98 lo st h := ev_s n212_96 rfl rfl
theorem n212_98 : mx_ins 212 98 = some ((.aload_n 0), 1) := mx_ins_of mi212 dX20_outs_98 rfl
theorem u212_98 : ev d 212 98 lo st h = evS (mx_ldA 0) d 212 99 lo st h := ev_s n212_98 rfl rfl
theorem n212_99 : mx_ins 212 99 = some ((.getfield 19), 3) := mx_ins_of mi212 dX20_outs_99 rfl
theorem u212_99 : ev d 212 99 lo st h = evS (mx_gf 20 19) d 212 102 lo st h := ev_s n212_99 rfl rfl
theorem n212_102 : mx_ins 212 102 = some ((.iload_n 3), 1) := mx_ins_of mi212 dX20_outs_102 rfl
theorem u212_102 : ev d 212 102 lo st h = evS (mx_ldI 3) d 212 103 lo st h := ev_s n212_102 rfl rfl
theorem n212_103 : mx_ins 212 103 = some ((.iload 6), 2) := mx_ins_of mi212 dX20_outs_103 rfl
theorem u212_103 : ev d 212 103 lo st h = evS (mx_ldI 6) d 212 105 lo st h := ev_s n212_103 rfl rfl
theorem n212_105 : mx_ins 212 105 = some (.iadd, 1) := mx_ins_of mi212 dX20_outs_105 rfl
theorem u212_105 : ev d 212 105 lo st h = evI d 212 105 106 lo st h .iadd := ev_u n212_105 rfl
theorem n212_106 : mx_ins 212 106 = some ((.lload 7), 2) := mx_ins_of mi212 dX20_outs_106 rfl
theorem u212_106 : ev d 212 106 lo st h = evS (mx_ldL 7) d 212 108 lo st h := ev_s n212_106 rfl rfl
theorem n212_108 : mx_ins 212 108 = some ((.ldc2_w 337), 3) := mx_ins_of mi212 dX20_outs_108 rfl
theorem u212_108 : ev d 212 108 lo st h = ev d 212 111 lo (.long (-20) :: st) h := (ev_s (f := mx_push (.long (-20))) n212_108 rfl rfl).trans es_push
theorem n212_111 : mx_ins 212 111 = some (.lcmp, 1) := mx_ins_of mi212 dX20_outs_111 rfl
theorem u212_111 : ev d 212 111 lo st h = evI d 212 111 112 lo st h .lcmp := ev_u n212_111 rfl
theorem n212_112 : mx_ins 212 112 = some ((.ifCond .ge 8), 3) := mx_ins_of mi212 dX20_outs_112 rfl
theorem u212_112 : ev d 212 112 lo st h = evJ .ge d 212 120 115 lo st h := ev_if n212_112 rfl rfl
theorem n212_115 : mx_ins 212 115 = some ((.bipush (-20)), 2) := mx_ins_of mi212 dX20_outs_115 rfl
theorem u212_115 : ev d 212 115 lo st h = ev d 212 117 lo (.int (-20) :: st) h := (ev_s (f := mx_push (.int (-20))) n212_115 rfl rfl).trans es_push
theorem n212_117 : mx_ins 212 117 = some ((.goto 20), 3) := mx_ins_of mi212 dX20_outs_117 rfl
theorem u212_117 : ev d 212 117 lo st h = ev d 212 137 lo st h := ev_goto n212_117 rfl
theorem n212_120 : mx_ins 212 120 = some ((.lload 7), 2) := mx_ins_of mi212 dX20_outs_120 rfl
theorem u212_120 : ev d 212 120 lo st h = evS (mx_ldL 7) d 212 122 lo st h := ev_s n212_120 rfl rfl
theorem n212_122 : mx_ins 212 122 = some ((.ldc2_w 339), 3) := mx_ins_of mi212 dX20_outs_122 rfl
theorem u212_122 : ev d 212 122 lo st h = ev d 212 125 lo (.long 30 :: st) h := (ev_s (f := mx_push (.long 30)) n212_122 rfl rfl).trans es_push
theorem n212_125 : mx_ins 212 125 = some (.lcmp, 1) := mx_ins_of mi212 dX20_outs_125 rfl
theorem u212_125 : ev d 212 125 lo st h = evI d 212 125 126 lo st h .lcmp := ev_u n212_125 rfl
theorem n212_126 : mx_ins 212 126 = some ((.ifCond .le 8), 3) := mx_ins_of mi212 dX20_outs_126 rfl
theorem u212_126 : ev d 212 126 lo st h = evJ .le d 212 134 129 lo st h := ev_if n212_126 rfl rfl
theorem n212_129 : mx_ins 212 129 = some ((.bipush 30), 2) := mx_ins_of mi212 dX20_outs_129 rfl
theorem u212_129 : ev d 212 129 lo st h = ev d 212 131 lo (.int 30 :: st) h := (ev_s (f := mx_push (.int 30)) n212_129 rfl rfl).trans es_push
theorem n212_131 : mx_ins 212 131 = some ((.goto 6), 3) := mx_ins_of mi212 dX20_outs_131 rfl
theorem u212_131 : ev d 212 131 lo st h = ev d 212 137 lo st h := ev_goto n212_131 rfl
theorem n212_134 : mx_ins 212 134 = some ((.lload 7), 2) := mx_ins_of mi212 dX20_outs_134 rfl
theorem u212_134 : ev d 212 134 lo st h = evS (mx_ldL 7) d 212 136 lo st h := ev_s n212_134 rfl rfl
theorem n212_136 : mx_ins 212 136 = some (.l2i, 1) := mx_ins_of mi212 dX20_outs_136 rfl
theorem u212_136 : ev d 212 136 lo st h = evI d 212 136 137 lo st h .l2i := ev_u n212_136 rfl
theorem n212_137 : mx_ins 212 137 = some (.iastore, 1) := mx_ins_of mi212 dX20_outs_137 rfl
theorem u212_137 : ev d 212 137 lo st h = evI d 212 137 138 lo st h .iastore := ev_u n212_137 rfl
theorem n212_138 : mx_ins 212 138 = some ((.iinc 6 1), 3) := mx_ins_of mi212 dX20_outs_138 rfl
theorem u212_138 : ev d 212 138 lo st h = evS (mx_inc 6 (1)) d 212 141 lo st h := ev_s n212_138 rfl rfl
theorem n212_141 : mx_ins 212 141 = some ((.goto (-66)), 3) := mx_ins_of mi212 dX20_outs_141 rfl
theorem u212_141 : ev d 212 141 lo st h = ev d 212 75 lo st h := ev_goto n212_141 rfl
theorem n212_144 : mx_ins 212 144 = some ((.iload 4), 2) := mx_ins_of mi212 dX20_outs_144 rfl
theorem u212_144 : ev d 212 144 lo st h = evS (mx_ldI 4) d 212 146 lo st h := ev_s n212_144 rfl rfl
theorem n212_146 : mx_ins 212 146 = some (.ireturn, 1) := mx_ins_of mi212 dX20_outs_146 rfl
theorem u212_146 : ev d 212 146 lo st h = evI d 212 146 147 lo st h .ireturn := ev_u n212_146 rfl
theorem mi213 : mx_mi 213 = some (yX20_isShelf, cX20_isShelf, 1, (Option.some Jvm.ClassFile.FieldType.boolean), 20, 1, []) := rfl
theorem ow213 : mx_own 213 = 20 := mx_mi_own mi213
theorem mm213 : mx_max 213 = 1 := mx_mi_max mi213
theorem rt213 : mx_ret 213 = (Option.some Jvm.ClassFile.FieldType.boolean) := mx_mi_ret mi213
theorem hn213 : mx_hnd 213 = [] := mx_mi_hnd mi213
theorem n213_0 : mx_ins 213 0 = some ((.iload_n 0), 1) := mx_ins_of mi213 dX20_isShelf_0 rfl
theorem u213_0 : ev d 213 0 lo st h = evS (mx_ldI 0) d 213 1 lo st h := ev_s n213_0 rfl rfl
theorem n213_1 : mx_ins 213 1 = some ((.iconst 0), 1) := mx_ins_of mi213 dX20_isShelf_1 rfl
theorem u213_1 : ev d 213 1 lo st h = ev d 213 2 lo (.int 0 :: st) h := (ev_s (f := mx_push (.int 0)) n213_1 rfl rfl).trans es_push
theorem n213_2 : mx_ins 213 2 = some ((.iconst 3), 1) := mx_ins_of mi213 dX20_isShelf_2 rfl
theorem u213_2 : ev d 213 2 lo st h = ev d 213 3 lo (.int 3 :: st) h := (ev_s (f := mx_push (.int 3)) n213_2 rfl rfl).trans es_push
theorem n213_3 : mx_ins 213 3 = some ((.invokestatic 100), 3) := mx_ins_of mi213 dX20_isShelf_3 rfl
theorem u213_3 : ev d 213 3 lo st h = evIn d 213 3 6 20 100 3 true lo st h := ev_inv n213_3 rfl rfl ow213 ia20_100
theorem n213_6 : mx_ins 213 6 = some (.ireturn, 1) := mx_ins_of mi213 dX20_isShelf_6 rfl
theorem u213_6 : ev d 213 6 lo st h = evI d 213 6 7 lo st h .ireturn := ev_u n213_6 rfl
theorem mi214 : mx_mi 214 = some (yX20_lacksSort, cX20_lacksSort, 3, (Option.some Jvm.ClassFile.FieldType.int), 20, 3, []) := rfl
theorem ow214 : mx_own 214 = 20 := mx_mi_own mi214
theorem mm214 : mx_max 214 = 3 := mx_mi_max mi214
theorem rt214 : mx_ret 214 = (Option.some Jvm.ClassFile.FieldType.int) := mx_mi_ret mi214
theorem hn214 : mx_hnd 214 = [] := mx_mi_hnd mi214
theorem n214_0 : mx_ins 214 0 = some ((.aload_n 0), 1) := mx_ins_of mi214 dX20_lacksSort_0 rfl
theorem u214_0 : ev d 214 0 lo st h = evS (mx_ldA 0) d 214 1 lo st h := ev_s n214_0 rfl rfl
theorem n214_1 : mx_ins 214 1 = some ((.getfield 72), 3) := mx_ins_of mi214 dX20_lacksSort_1 rfl
theorem u214_1 : ev d 214 1 lo st h = evS (mx_gf 20 72) d 214 4 lo st h := ev_s n214_1 rfl rfl
theorem n214_4 : mx_ins 214 4 = some ((.iload_n 1), 1) := mx_ins_of mi214 dX20_lacksSort_4 rfl
theorem u214_4 : ev d 214 4 lo st h = evS (mx_ldI 1) d 214 5 lo st h := ev_s n214_4 rfl rfl
theorem n214_5 : mx_ins 214 5 = some (.iaload, 1) := mx_ins_of mi214 dX20_lacksSort_5 rfl
theorem u214_5 : ev d 214 5 lo st h = evI d 214 5 6 lo st h .iaload := ev_u n214_5 rfl
theorem n214_6 : mx_ins 214 6 = some ((.ifCond .ge 8), 3) := mx_ins_of mi214 dX20_lacksSort_6 rfl
theorem u214_6 : ev d 214 6 lo st h = evJ .ge d 214 14 9 lo st h := ev_if n214_6 rfl rfl
theorem n214_9 : mx_ins 214 9 = some ((.bipush (-11)), 2) := mx_ins_of mi214 dX20_lacksSort_9 rfl
theorem u214_9 : ev d 214 9 lo st h = ev d 214 11 lo (.int (-11) :: st) h := (ev_s (f := mx_push (.int (-11))) n214_9 rfl rfl).trans es_push
theorem n214_11 : mx_ins 214 11 = some ((.goto 19), 3) := mx_ins_of mi214 dX20_lacksSort_11 rfl
theorem u214_11 : ev d 214 11 lo st h = ev d 214 30 lo st h := ev_goto n214_11 rfl
theorem n214_14 : mx_ins 214 14 = some ((.aload_n 0), 1) := mx_ins_of mi214 dX20_lacksSort_14 rfl
theorem u214_14 : ev d 214 14 lo st h = evS (mx_ldA 0) d 214 15 lo st h := ev_s n214_14 rfl rfl
theorem n214_15 : mx_ins 214 15 = some ((.getfield 72), 3) := mx_ins_of mi214 dX20_lacksSort_15 rfl
theorem u214_15 : ev d 214 15 lo st h = evS (mx_gf 20 72) d 214 18 lo st h := ev_s n214_15 rfl rfl
theorem n214_18 : mx_ins 214 18 = some ((.iload_n 1), 1) := mx_ins_of mi214 dX20_lacksSort_18 rfl
theorem u214_18 : ev d 214 18 lo st h = evS (mx_ldI 1) d 214 19 lo st h := ev_s n214_18 rfl rfl
theorem n214_19 : mx_ins 214 19 = some (.iaload, 1) := mx_ins_of mi214 dX20_lacksSort_19 rfl
theorem u214_19 : ev d 214 19 lo st h = evI d 214 19 20 lo st h .iaload := ev_u n214_19 rfl
theorem n214_20 : mx_ins 214 20 = some ((.iload_n 2), 1) := mx_ins_of mi214 dX20_lacksSort_20 rfl
theorem u214_20 : ev d 214 20 lo st h = evS (mx_ldI 2) d 214 21 lo st h := ev_s n214_20 rfl rfl
theorem n214_21 : mx_ins 214 21 = some ((.if_icmp .eq 8), 3) := mx_ins_of mi214 dX20_lacksSort_21 rfl
theorem u214_21 : ev d 214 21 lo st h = evK .eq d 214 29 24 lo st h := ev_ic n214_21 rfl rfl
theorem n214_24 : mx_ins 214 24 = some ((.bipush (-13)), 2) := mx_ins_of mi214 dX20_lacksSort_24 rfl
theorem u214_24 : ev d 214 24 lo st h = ev d 214 26 lo (.int (-13) :: st) h := (ev_s (f := mx_push (.int (-13))) n214_24 rfl rfl).trans es_push
theorem n214_26 : mx_ins 214 26 = some ((.goto 4), 3) := mx_ins_of mi214 dX20_lacksSort_26 rfl
theorem u214_26 : ev d 214 26 lo st h = ev d 214 30 lo st h := ev_goto n214_26 rfl
theorem n214_29 : mx_ins 214 29 = some ((.iconst 0), 1) := mx_ins_of mi214 dX20_lacksSort_29 rfl
theorem u214_29 : ev d 214 29 lo st h = ev d 214 30 lo (.int 0 :: st) h := (ev_s (f := mx_push (.int 0)) n214_29 rfl rfl).trans es_push
theorem n214_30 : mx_ins 214 30 = some (.ireturn, 1) := mx_ins_of mi214 dX20_lacksSort_30 rfl
theorem u214_30 : ev d 214 30 lo st h = evI d 214 30 31 lo st h .ireturn := ev_u n214_30 rfl
theorem mi215 : mx_mi 215 = some (yX20_sheet, cX20_sheet, 5, (Option.some Jvm.ClassFile.FieldType.int), 20, 4, []) := rfl
theorem ow215 : mx_own 215 = 20 := mx_mi_own mi215
theorem mm215 : mx_max 215 = 5 := mx_mi_max mi215
theorem rt215 : mx_ret 215 = (Option.some Jvm.ClassFile.FieldType.int) := mx_mi_ret mi215
theorem hn215 : mx_hnd 215 = [] := mx_mi_hnd mi215
theorem n215_0 : mx_ins 215 0 = some ((.iload_n 1), 1) := mx_ins_of mi215 dX20_sheet_0 rfl
theorem u215_0 : ev d 215 0 lo st h = evS (mx_ldI 1) d 215 1 lo st h := ev_s n215_0 rfl rfl
theorem n215_1 : mx_ins 215 1 = some ((.invokestatic 331), 3) := mx_ins_of mi215 dX20_sheet_1 rfl
theorem u215_1 : ev d 215 1 lo st h = evIn d 215 1 4 20 331 1 true lo st h := ev_inv n215_1 rfl rfl ow215 ia20_331
theorem n215_4 : mx_ins 215 4 = some ((.ifCond .eq 22), 3) := mx_ins_of mi215 dX20_sheet_4 rfl
theorem u215_4 : ev d 215 4 lo st h = evJ .eq d 215 26 7 lo st h := ev_if n215_4 rfl rfl
theorem n215_7 : mx_ins 215 7 = some ((.iload_n 2), 1) := mx_ins_of mi215 dX20_sheet_7 rfl
theorem u215_7 : ev d 215 7 lo st h = evS (mx_ldI 2) d 215 8 lo st h := ev_s n215_7 rfl rfl
theorem n215_8 : mx_ins 215 8 = some ((.iconst (-1)), 1) := mx_ins_of mi215 dX20_sheet_8 rfl
theorem u215_8 : ev d 215 8 lo st h = ev d 215 9 lo (.int (-1) :: st) h := (ev_s (f := mx_push (.int (-1))) n215_8 rfl rfl).trans es_push
theorem n215_9 : mx_ins 215 9 = some ((.iconst 3), 1) := mx_ins_of mi215 dX20_sheet_9 rfl
theorem u215_9 : ev d 215 9 lo st h = ev d 215 10 lo (.int 3 :: st) h := (ev_s (f := mx_push (.int 3)) n215_9 rfl rfl).trans es_push
theorem n215_10 : mx_ins 215 10 = some ((.invokestatic 100), 3) := mx_ins_of mi215 dX20_sheet_10 rfl
theorem u215_10 : ev d 215 10 lo st h = evIn d 215 10 13 20 100 3 true lo st h := ev_inv n215_10 rfl rfl ow215 ia20_100
theorem n215_13 : mx_ins 215 13 = some ((.ifCond .eq 13), 3) := mx_ins_of mi215 dX20_sheet_13 rfl
theorem u215_13 : ev d 215 13 lo st h = evJ .eq d 215 26 16 lo st h := ev_if n215_13 rfl rfl
theorem n215_16 : mx_ins 215 16 = some ((.iload_n 2), 1) := mx_ins_of mi215 dX20_sheet_16 rfl
theorem u215_16 : ev d 215 16 lo st h = evS (mx_ldI 2) d 215 17 lo st h := ev_s n215_16 rfl rfl
theorem n215_17 : mx_ins 215 17 = some ((.ifCond .lt 11), 3) := mx_ins_of mi215 dX20_sheet_17 rfl
theorem u215_17 : ev d 215 17 lo st h = evJ .lt d 215 28 20 lo st h := ev_if n215_17 rfl rfl
theorem n215_20 : mx_ins 215 20 = some ((.iload_n 3), 1) := mx_ins_of mi215 dX20_sheet_20 rfl
theorem u215_20 : ev d 215 20 lo st h = evS (mx_ldI 3) d 215 21 lo st h := ev_s n215_20 rfl rfl
theorem n215_21 : mx_ins 215 21 = some ((.bipush 40), 2) := mx_ins_of mi215 dX20_sheet_21 rfl
theorem u215_21 : ev d 215 21 lo st h = ev d 215 23 lo (.int 40 :: st) h := (ev_s (f := mx_push (.int 40)) n215_21 rfl rfl).trans es_push
theorem n215_23 : mx_ins 215 23 = some ((.if_icmp .le 5), 3) := mx_ins_of mi215 dX20_sheet_23 rfl
theorem u215_23 : ev d 215 23 lo st h = evK .le d 215 28 26 lo st h := ev_ic n215_23 rfl rfl
theorem n215_26 : mx_ins 215 26 = some ((.iconst (-1)), 1) := mx_ins_of mi215 dX20_sheet_26 rfl
theorem u215_26 : ev d 215 26 lo st h = ev d 215 27 lo (.int (-1) :: st) h := (ev_s (f := mx_push (.int (-1))) n215_26 rfl rfl).trans es_push
theorem n215_27 : mx_ins 215 27 = some (.ireturn, 1) := mx_ins_of mi215 dX20_sheet_27 rfl
theorem u215_27 : ev d 215 27 lo st h = evI d 215 27 28 lo st h .ireturn := ev_u n215_27 rfl
theorem n215_28 : mx_ins 215 28 = some ((.iload_n 2), 1) := mx_ins_of mi215 dX20_sheet_28 rfl
theorem u215_28 : ev d 215 28 lo st h = evS (mx_ldI 2) d 215 29 lo st h := ev_s n215_28 rfl rfl
theorem n215_29 : mx_ins 215 29 = some ((.ifCond .lt 10), 3) := mx_ins_of mi215 dX20_sheet_29 rfl
theorem u215_29 : ev d 215 29 lo st h = evJ .lt d 215 39 32 lo st h := ev_if n215_29 rfl rfl
theorem n215_32 : mx_ins 215 32 = some ((.iload_n 3), 1) := mx_ins_of mi215 dX20_sheet_32 rfl
theorem u215_32 : ev d 215 32 lo st h = evS (mx_ldI 3) d 215 33 lo st h := ev_s n215_32 rfl rfl
theorem n215_33 : mx_ins 215 33 = some ((.ifCond .ge 6), 3) := mx_ins_of mi215 dX20_sheet_33 rfl
theorem u215_33 : ev d 215 33 lo st h = evJ .ge d 215 39 36 lo st h := ev_if n215_33 rfl rfl
theorem n215_36 : mx_ins 215 36 = some ((.bipush (-14)), 2) := mx_ins_of mi215 dX20_sheet_36 rfl
theorem u215_36 : ev d 215 36 lo st h = ev d 215 38 lo (.int (-14) :: st) h := (ev_s (f := mx_push (.int (-14))) n215_36 rfl rfl).trans es_push
theorem n215_38 : mx_ins 215 38 = some (.ireturn, 1) := mx_ins_of mi215 dX20_sheet_38 rfl
theorem u215_38 : ev d 215 38 lo st h = evI d 215 38 39 lo st h .ireturn := ev_u n215_38 rfl
theorem n215_39 : mx_ins 215 39 = some ((.aload_n 0), 1) := mx_ins_of mi215 dX20_sheet_39 rfl
theorem u215_39 : ev d 215 39 lo st h = evS (mx_ldA 0) d 215 40 lo st h := ev_s n215_39 rfl rfl
theorem n215_40 : mx_ins 215 40 = some ((.getfield 72), 3) := mx_ins_of mi215 dX20_sheet_40 rfl
theorem u215_40 : ev d 215 40 lo st h = evS (mx_gf 20 72) d 215 43 lo st h := ev_s n215_40 rfl rfl
theorem n215_43 : mx_ins 215 43 = some ((.iload_n 1), 1) := mx_ins_of mi215 dX20_sheet_43 rfl
theorem u215_43 : ev d 215 43 lo st h = evS (mx_ldI 1) d 215 44 lo st h := ev_s n215_43 rfl rfl
theorem n215_44 : mx_ins 215 44 = some ((.iload_n 2), 1) := mx_ins_of mi215 dX20_sheet_44 rfl
theorem u215_44 : ev d 215 44 lo st h = evS (mx_ldI 2) d 215 45 lo st h := ev_s n215_44 rfl rfl
theorem n215_45 : mx_ins 215 45 = some (.iastore, 1) := mx_ins_of mi215 dX20_sheet_45 rfl
theorem u215_45 : ev d 215 45 lo st h = evI d 215 45 46 lo st h .iastore := ev_u n215_45 rfl
theorem n215_46 : mx_ins 215 46 = some ((.aload_n 0), 1) := mx_ins_of mi215 dX20_sheet_46 rfl
theorem u215_46 : ev d 215 46 lo st h = evS (mx_ldA 0) d 215 47 lo st h := ev_s n215_46 rfl rfl
theorem n215_47 : mx_ins 215 47 = some ((.getfield 75), 3) := mx_ins_of mi215 dX20_sheet_47 rfl
theorem u215_47 : ev d 215 47 lo st h = evS (mx_gf 20 75) d 215 50 lo st h := ev_s n215_47 rfl rfl
theorem n215_50 : mx_ins 215 50 = some ((.iload_n 1), 1) := mx_ins_of mi215 dX20_sheet_50 rfl
theorem u215_50 : ev d 215 50 lo st h = evS (mx_ldI 1) d 215 51 lo st h := ev_s n215_50 rfl rfl
theorem n215_51 : mx_ins 215 51 = some ((.iload_n 2), 1) := mx_ins_of mi215 dX20_sheet_51 rfl
theorem u215_51 : ev d 215 51 lo st h = evS (mx_ldI 2) d 215 52 lo st h := ev_s n215_51 rfl rfl
theorem n215_52 : mx_ins 215 52 = some ((.ifCond .ge 7), 3) := mx_ins_of mi215 dX20_sheet_52 rfl
theorem u215_52 : ev d 215 52 lo st h = evJ .ge d 215 59 55 lo st h := ev_if n215_52 rfl rfl
theorem n215_55 : mx_ins 215 55 = some ((.iconst 0), 1) := mx_ins_of mi215 dX20_sheet_55 rfl
theorem u215_55 : ev d 215 55 lo st h = ev d 215 56 lo (.int 0 :: st) h := (ev_s (f := mx_push (.int 0)) n215_55 rfl rfl).trans es_push
theorem n215_56 : mx_ins 215 56 = some ((.goto 4), 3) := mx_ins_of mi215 dX20_sheet_56 rfl
theorem u215_56 : ev d 215 56 lo st h = ev d 215 60 lo st h := ev_goto n215_56 rfl
theorem n215_59 : mx_ins 215 59 = some ((.iload_n 3), 1) := mx_ins_of mi215 dX20_sheet_59 rfl
theorem u215_59 : ev d 215 59 lo st h = evS (mx_ldI 3) d 215 60 lo st h := ev_s n215_59 rfl rfl
theorem n215_60 : mx_ins 215 60 = some (.iastore, 1) := mx_ins_of mi215 dX20_sheet_60 rfl
theorem u215_60 : ev d 215 60 lo st h = evI d 215 60 61 lo st h .iastore := ev_u n215_60 rfl
theorem n215_61 : mx_ins 215 61 = some ((.iconst 0), 1) := mx_ins_of mi215 dX20_sheet_61 rfl
theorem u215_61 : ev d 215 61 lo st h = ev d 215 62 lo (.int 0 :: st) h := (ev_s (f := mx_push (.int 0)) n215_61 rfl rfl).trans es_push
theorem n215_62 : mx_ins 215 62 = some ((.istore 4), 2) := mx_ins_of mi215 dX20_sheet_62 rfl
theorem u215_62 : ev d 215 62 lo st h = evS (mx_stI 4) d 215 64 lo st h := ev_s n215_62 rfl rfl
theorem n215_64 : mx_ins 215 64 = some ((.iload 4), 2) := mx_ins_of mi215 dX20_sheet_64 rfl
theorem u215_64 : ev d 215 64 lo st h = evS (mx_ldI 4) d 215 66 lo st h := ev_s n215_64 rfl rfl
theorem n215_66 : mx_ins 215 66 = some ((.bipush 40), 2) := mx_ins_of mi215 dX20_sheet_66 rfl
theorem u215_66 : ev d 215 66 lo st h = ev d 215 68 lo (.int 40 :: st) h := (ev_s (f := mx_push (.int 40)) n215_66 rfl rfl).trans es_push
theorem n215_68 : mx_ins 215 68 = some ((.if_icmp .ge 22), 3) := mx_ins_of mi215 dX20_sheet_68 rfl
theorem u215_68 : ev d 215 68 lo st h = evK .ge d 215 90 71 lo st h := ev_ic n215_68 rfl rfl
theorem n215_71 : mx_ins 215 71 = some ((.aload_n 0), 1) := mx_ins_of mi215 dX20_sheet_71 rfl
theorem u215_71 : ev d 215 71 lo st h = evS (mx_ldA 0) d 215 72 lo st h := ev_s n215_71 rfl rfl
theorem n215_72 : mx_ins 215 72 = some ((.getfield 78), 3) := mx_ins_of mi215 dX20_sheet_72 rfl
theorem u215_72 : ev d 215 72 lo st h = evS (mx_gf 20 78) d 215 75 lo st h := ev_s n215_72 rfl rfl
theorem n215_75 : mx_ins 215 75 = some ((.bipush 40), 2) := mx_ins_of mi215 dX20_sheet_75 rfl
theorem u215_75 : ev d 215 75 lo st h = ev d 215 77 lo (.int 40 :: st) h := (ev_s (f := mx_push (.int 40)) n215_75 rfl rfl).trans es_push
theorem n215_77 : mx_ins 215 77 = some ((.iload_n 1), 1) := mx_ins_of mi215 dX20_sheet_77 rfl
theorem u215_77 : ev d 215 77 lo st h = evS (mx_ldI 1) d 215 78 lo st h := ev_s n215_77 rfl rfl
theorem n215_78 : mx_ins 215 78 = some (.imul, 1) := mx_ins_of mi215 dX20_sheet_78 rfl
theorem u215_78 : ev d 215 78 lo st h = evI d 215 78 79 lo st h .imul := ev_u n215_78 rfl
theorem n215_79 : mx_ins 215 79 = some ((.iload 4), 2) := mx_ins_of mi215 dX20_sheet_79 rfl
theorem u215_79 : ev d 215 79 lo st h = evS (mx_ldI 4) d 215 81 lo st h := ev_s n215_79 rfl rfl
theorem n215_81 : mx_ins 215 81 = some (.iadd, 1) := mx_ins_of mi215 dX20_sheet_81 rfl
theorem u215_81 : ev d 215 81 lo st h = evI d 215 81 82 lo st h .iadd := ev_u n215_81 rfl
theorem n215_82 : mx_ins 215 82 = some ((.lconst 0), 1) := mx_ins_of mi215 dX20_sheet_82 rfl
theorem u215_82 : ev d 215 82 lo st h = ev d 215 83 lo (.long 0 :: st) h := (ev_s (f := mx_push (.long 0)) n215_82 rfl rfl).trans es_push
theorem n215_83 : mx_ins 215 83 = some (.lastore, 1) := mx_ins_of mi215 dX20_sheet_83 rfl
theorem u215_83 : ev d 215 83 lo st h = evI d 215 83 84 lo st h .lastore := ev_u n215_83 rfl
theorem n215_84 : mx_ins 215 84 = some ((.iinc 4 1), 3) := mx_ins_of mi215 dX20_sheet_84 rfl
theorem u215_84 : ev d 215 84 lo st h = evS (mx_inc 4 (1)) d 215 87 lo st h := ev_s n215_84 rfl rfl
theorem n215_87 : mx_ins 215 87 = some ((.goto (-23)), 3) := mx_ins_of mi215 dX20_sheet_87 rfl
theorem u215_87 : ev d 215 87 lo st h = ev d 215 64 lo st h := ev_goto n215_87 rfl
theorem n215_90 : mx_ins 215 90 = some ((.iconst 1), 1) := mx_ins_of mi215 dX20_sheet_90 rfl
theorem u215_90 : ev d 215 90 lo st h = ev d 215 91 lo (.int 1 :: st) h := (ev_s (f := mx_push (.int 1)) n215_90 rfl rfl).trans es_push
theorem n215_91 : mx_ins 215 91 = some (.ireturn, 1) := mx_ins_of mi215 dX20_sheet_91 rfl
theorem u215_91 : ev d 215 91 lo st h = evI d 215 91 92 lo st h .ireturn := ev_u n215_91 rfl
theorem mi216 : mx_mi 216 = some (yX20_put, cX20_put, 4, (Option.some Jvm.ClassFile.FieldType.int), 20, 4, []) := rfl
theorem ow216 : mx_own 216 = 20 := mx_mi_own mi216
theorem mm216 : mx_max 216 = 4 := mx_mi_max mi216
theorem rt216 : mx_ret 216 = (Option.some Jvm.ClassFile.FieldType.int) := mx_mi_ret mi216
theorem hn216 : mx_hnd 216 = [] := mx_mi_hnd mi216
theorem n216_0 : mx_ins 216 0 = some ((.iload_n 1), 1) := mx_ins_of mi216 dX20_put_0 rfl
theorem u216_0 : ev d 216 0 lo st h = evS (mx_ldI 1) d 216 1 lo st h := ev_s n216_0 rfl rfl
theorem n216_1 : mx_ins 216 1 = some ((.invokestatic 331), 3) := mx_ins_of mi216 dX20_put_1 rfl
theorem u216_1 : ev d 216 1 lo st h = evIn d 216 1 4 20 331 1 true lo st h := ev_inv n216_1 rfl rfl ow216 ia20_331
theorem n216_4 : mx_ins 216 4 = some ((.ifCond .ne 5), 3) := mx_ins_of mi216 dX20_put_4 rfl
theorem u216_4 : ev d 216 4 lo st h = evJ .ne d 216 9 7 lo st h := ev_if n216_4 rfl rfl
theorem n216_7 : mx_ins 216 7 = some ((.iconst (-1)), 1) := mx_ins_of mi216 dX20_put_7 rfl
theorem u216_7 : ev d 216 7 lo st h = ev d 216 8 lo (.int (-1) :: st) h := (ev_s (f := mx_push (.int (-1))) n216_7 rfl rfl).trans es_push
theorem n216_8 : mx_ins 216 8 = some (.ireturn, 1) := mx_ins_of mi216 dX20_put_8 rfl
theorem u216_8 : ev d 216 8 lo st h = evI d 216 8 9 lo st h .ireturn := ev_u n216_8 rfl
theorem n216_9 : mx_ins 216 9 = some ((.aload_n 0), 1) := mx_ins_of mi216 dX20_put_9 rfl
theorem u216_9 : ev d 216 9 lo st h = evS (mx_ldA 0) d 216 10 lo st h := ev_s n216_9 rfl rfl
theorem n216_10 : mx_ins 216 10 = some ((.getfield 72), 3) := mx_ins_of mi216 dX20_put_10 rfl
theorem u216_10 : ev d 216 10 lo st h = evS (mx_gf 20 72) d 216 13 lo st h := ev_s n216_10 rfl rfl
theorem n216_13 : mx_ins 216 13 = some ((.iload_n 1), 1) := mx_ins_of mi216 dX20_put_13 rfl
theorem u216_13 : ev d 216 13 lo st h = evS (mx_ldI 1) d 216 14 lo st h := ev_s n216_13 rfl rfl
theorem n216_14 : mx_ins 216 14 = some (.iaload, 1) := mx_ins_of mi216 dX20_put_14 rfl
theorem u216_14 : ev d 216 14 lo st h = evI d 216 14 15 lo st h .iaload := ev_u n216_14 rfl
theorem n216_15 : mx_ins 216 15 = some ((.ifCond .ge 6), 3) := mx_ins_of mi216 dX20_put_15 rfl
theorem u216_15 : ev d 216 15 lo st h = evJ .ge d 216 21 18 lo st h := ev_if n216_15 rfl rfl
theorem n216_18 : mx_ins 216 18 = some ((.bipush (-11)), 2) := mx_ins_of mi216 dX20_put_18 rfl
theorem u216_18 : ev d 216 18 lo st h = ev d 216 20 lo (.int (-11) :: st) h := (ev_s (f := mx_push (.int (-11))) n216_18 rfl rfl).trans es_push
theorem n216_20 : mx_ins 216 20 = some (.ireturn, 1) := mx_ins_of mi216 dX20_put_20 rfl
theorem u216_20 : ev d 216 20 lo st h = evI d 216 20 21 lo st h .ireturn := ev_u n216_20 rfl
theorem n216_21 : mx_ins 216 21 = some ((.iload_n 2), 1) := mx_ins_of mi216 dX20_put_21 rfl
theorem u216_21 : ev d 216 21 lo st h = evS (mx_ldI 2) d 216 22 lo st h := ev_s n216_21 rfl rfl
theorem n216_22 : mx_ins 216 22 = some ((.iconst 0), 1) := mx_ins_of mi216 dX20_put_22 rfl
theorem u216_22 : ev d 216 22 lo st h = ev d 216 23 lo (.int 0 :: st) h := (ev_s (f := mx_push (.int 0)) n216_22 rfl rfl).trans es_push
theorem n216_23 : mx_ins 216 23 = some ((.aload_n 0), 1) := mx_ins_of mi216 dX20_put_23 rfl
theorem u216_23 : ev d 216 23 lo st h = evS (mx_ldA 0) d 216 24 lo st h := ev_s n216_23 rfl rfl
theorem n216_24 : mx_ins 216 24 = some ((.getfield 75), 3) := mx_ins_of mi216 dX20_put_24 rfl
theorem u216_24 : ev d 216 24 lo st h = evS (mx_gf 20 75) d 216 27 lo st h := ev_s n216_24 rfl rfl
theorem n216_27 : mx_ins 216 27 = some ((.iload_n 1), 1) := mx_ins_of mi216 dX20_put_27 rfl
theorem u216_27 : ev d 216 27 lo st h = evS (mx_ldI 1) d 216 28 lo st h := ev_s n216_27 rfl rfl
theorem n216_28 : mx_ins 216 28 = some (.iaload, 1) := mx_ins_of mi216 dX20_put_28 rfl
theorem u216_28 : ev d 216 28 lo st h = evI d 216 28 29 lo st h .iaload := ev_u n216_28 rfl
theorem n216_29 : mx_ins 216 29 = some ((.iconst 1), 1) := mx_ins_of mi216 dX20_put_29 rfl
theorem u216_29 : ev d 216 29 lo st h = ev d 216 30 lo (.int 1 :: st) h := (ev_s (f := mx_push (.int 1)) n216_29 rfl rfl).trans es_push
theorem n216_30 : mx_ins 216 30 = some (.isub, 1) := mx_ins_of mi216 dX20_put_30 rfl
theorem u216_30 : ev d 216 30 lo st h = evI d 216 30 31 lo st h .isub := ev_u n216_30 rfl
theorem n216_31 : mx_ins 216 31 = some ((.invokestatic 100), 3) := mx_ins_of mi216 dX20_put_31 rfl
theorem u216_31 : ev d 216 31 lo st h = evIn d 216 31 34 20 100 3 true lo st h := ev_inv n216_31 rfl rfl ow216 ia20_100
theorem n216_34 : mx_ins 216 34 = some ((.ifCond .ne 6), 3) := mx_ins_of mi216 dX20_put_34 rfl
theorem u216_34 : ev d 216 34 lo st h = evJ .ne d 216 40 37 lo st h := ev_if n216_34 rfl rfl
theorem n216_37 : mx_ins 216 37 = some ((.bipush (-12)), 2) := mx_ins_of mi216 dX20_put_37 rfl
theorem u216_37 : ev d 216 37 lo st h = ev d 216 39 lo (.int (-12) :: st) h := (ev_s (f := mx_push (.int (-12))) n216_37 rfl rfl).trans es_push
theorem n216_39 : mx_ins 216 39 = some (.ireturn, 1) := mx_ins_of mi216 dX20_put_39 rfl
theorem u216_39 : ev d 216 39 lo st h = evI d 216 39 40 lo st h .ireturn := ev_u n216_39 rfl
theorem n216_40 : mx_ins 216 40 = some ((.aload_n 0), 1) := mx_ins_of mi216 dX20_put_40 rfl
theorem u216_40 : ev d 216 40 lo st h = evS (mx_ldA 0) d 216 41 lo st h := ev_s n216_40 rfl rfl
theorem n216_41 : mx_ins 216 41 = some ((.getfield 78), 3) := mx_ins_of mi216 dX20_put_41 rfl
theorem u216_41 : ev d 216 41 lo st h = evS (mx_gf 20 78) d 216 44 lo st h := ev_s n216_41 rfl rfl
theorem n216_44 : mx_ins 216 44 = some ((.bipush 40), 2) := mx_ins_of mi216 dX20_put_44 rfl
theorem u216_44 : ev d 216 44 lo st h = ev d 216 46 lo (.int 40 :: st) h := (ev_s (f := mx_push (.int 40)) n216_44 rfl rfl).trans es_push
theorem n216_46 : mx_ins 216 46 = some ((.iload_n 1), 1) := mx_ins_of mi216 dX20_put_46 rfl
theorem u216_46 : ev d 216 46 lo st h = evS (mx_ldI 1) d 216 47 lo st h := ev_s n216_46 rfl rfl
theorem n216_47 : mx_ins 216 47 = some (.imul, 1) := mx_ins_of mi216 dX20_put_47 rfl
theorem u216_47 : ev d 216 47 lo st h = evI d 216 47 48 lo st h .imul := ev_u n216_47 rfl
theorem n216_48 : mx_ins 216 48 = some ((.iload_n 2), 1) := mx_ins_of mi216 dX20_put_48 rfl
theorem u216_48 : ev d 216 48 lo st h = evS (mx_ldI 2) d 216 49 lo st h := ev_s n216_48 rfl rfl
theorem n216_49 : mx_ins 216 49 = some (.iadd, 1) := mx_ins_of mi216 dX20_put_49 rfl
theorem u216_49 : ev d 216 49 lo st h = evI d 216 49 50 lo st h .iadd := ev_u n216_49 rfl
theorem n216_50 : mx_ins 216 50 = some ((.aload_n 0), 1) := mx_ins_of mi216 dX20_put_50 rfl
theorem u216_50 : ev d 216 50 lo st h = evS (mx_ldA 0) d 216 51 lo st h := ev_s n216_50 rfl rfl
theorem n216_51 : mx_ins 216 51 = some ((.getfield 72), 3) := mx_ins_of mi216 dX20_put_51 rfl
theorem u216_51 : ev d 216 51 lo st h = evS (mx_gf 20 72) d 216 54 lo st h := ev_s n216_51 rfl rfl
theorem n216_54 : mx_ins 216 54 = some ((.iload_n 1), 1) := mx_ins_of mi216 dX20_put_54 rfl
theorem u216_54 : ev d 216 54 lo st h = evS (mx_ldI 1) d 216 55 lo st h := ev_s n216_54 rfl rfl
theorem n216_55 : mx_ins 216 55 = some (.iaload, 1) := mx_ins_of mi216 dX20_put_55 rfl
theorem u216_55 : ev d 216 55 lo st h = evI d 216 55 56 lo st h .iaload := ev_u n216_55 rfl
theorem n216_56 : mx_ins 216 56 = some ((.ifCond .ne 9), 3) := mx_ins_of mi216 dX20_put_56 rfl
theorem u216_56 : ev d 216 56 lo st h = evJ .ne d 216 65 59 lo st h := ev_if n216_56 rfl rfl
theorem n216_59 : mx_ins 216 59 = some ((.iload_n 3), 1) := mx_ins_of mi216 dX20_put_59 rfl
theorem u216_59 : ev d 216 59 lo st h = evS (mx_ldI 3) d 216 60 lo st h := ev_s n216_59 rfl rfl
theorem n216_60 : mx_ins 216 60 = some (.i2b, 1) := mx_ins_of mi216 dX20_put_60 rfl
theorem u216_60 : ev d 216 60 lo st h = evI d 216 60 61 lo st h .i2b := ev_u n216_60 rfl
theorem n216_61 : mx_ins 216 61 = some (.i2l, 1) := mx_ins_of mi216 dX20_put_61 rfl
theorem u216_61 : ev d 216 61 lo st h = evI d 216 61 62 lo st h .i2l := ev_u n216_61 rfl
theorem n216_62 : mx_ins 216 62 = some ((.goto 21), 3) := mx_ins_of mi216 dX20_put_62 rfl
theorem u216_62 : ev d 216 62 lo st h = ev d 216 83 lo st h := ev_goto n216_62 rfl
theorem n216_65 : mx_ins 216 65 = some ((.aload_n 0), 1) := mx_ins_of mi216 dX20_put_65 rfl
theorem u216_65 : ev d 216 65 lo st h = evS (mx_ldA 0) d 216 66 lo st h := ev_s n216_65 rfl rfl
theorem n216_66 : mx_ins 216 66 = some ((.getfield 72), 3) := mx_ins_of mi216 dX20_put_66 rfl
theorem u216_66 : ev d 216 66 lo st h = evS (mx_gf 20 72) d 216 69 lo st h := ev_s n216_66 rfl rfl
theorem n216_69 : mx_ins 216 69 = some ((.iload_n 1), 1) := mx_ins_of mi216 dX20_put_69 rfl
theorem u216_69 : ev d 216 69 lo st h = evS (mx_ldI 1) d 216 70 lo st h := ev_s n216_69 rfl rfl
theorem n216_70 : mx_ins 216 70 = some (.iaload, 1) := mx_ins_of mi216 dX20_put_70 rfl
theorem u216_70 : ev d 216 70 lo st h = evI d 216 70 71 lo st h .iaload := ev_u n216_70 rfl
theorem n216_71 : mx_ins 216 71 = some ((.iconst 1), 1) := mx_ins_of mi216 dX20_put_71 rfl
theorem u216_71 : ev d 216 71 lo st h = ev d 216 72 lo (.int 1 :: st) h := (ev_s (f := mx_push (.int 1)) n216_71 rfl rfl).trans es_push
theorem n216_72 : mx_ins 216 72 = some ((.if_icmp .ne 9), 3) := mx_ins_of mi216 dX20_put_72 rfl
theorem u216_72 : ev d 216 72 lo st h = evK .ne d 216 81 75 lo st h := ev_ic n216_72 rfl rfl
theorem n216_75 : mx_ins 216 75 = some ((.iload_n 3), 1) := mx_ins_of mi216 dX20_put_75 rfl
theorem u216_75 : ev d 216 75 lo st h = evS (mx_ldI 3) d 216 76 lo st h := ev_s n216_75 rfl rfl
theorem n216_76 : mx_ins 216 76 = some (.i2s, 1) := mx_ins_of mi216 dX20_put_76 rfl
theorem u216_76 : ev d 216 76 lo st h = evI d 216 76 77 lo st h .i2s := ev_u n216_76 rfl
theorem n216_77 : mx_ins 216 77 = some (.i2l, 1) := mx_ins_of mi216 dX20_put_77 rfl
theorem u216_77 : ev d 216 77 lo st h = evI d 216 77 78 lo st h .i2l := ev_u n216_77 rfl
theorem n216_78 : mx_ins 216 78 = some ((.goto 5), 3) := mx_ins_of mi216 dX20_put_78 rfl
theorem u216_78 : ev d 216 78 lo st h = ev d 216 83 lo st h := ev_goto n216_78 rfl
theorem n216_81 : mx_ins 216 81 = some ((.iload_n 3), 1) := mx_ins_of mi216 dX20_put_81 rfl
theorem u216_81 : ev d 216 81 lo st h = evS (mx_ldI 3) d 216 82 lo st h := ev_s n216_81 rfl rfl
theorem n216_82 : mx_ins 216 82 = some (.i2l, 1) := mx_ins_of mi216 dX20_put_82 rfl
theorem u216_82 : ev d 216 82 lo st h = evI d 216 82 83 lo st h .i2l := ev_u n216_82 rfl
theorem n216_83 : mx_ins 216 83 = some (.lastore, 1) := mx_ins_of mi216 dX20_put_83 rfl
theorem u216_83 : ev d 216 83 lo st h = evI d 216 83 84 lo st h .lastore := ev_u n216_83 rfl
theorem n216_84 : mx_ins 216 84 = some ((.iconst 1), 1) := mx_ins_of mi216 dX20_put_84 rfl
theorem u216_84 : ev d 216 84 lo st h = ev d 216 85 lo (.int 1 :: st) h := (ev_s (f := mx_push (.int 1)) n216_84 rfl rfl).trans es_push
theorem n216_85 : mx_ins 216 85 = some (.ireturn, 1) := mx_ins_of mi216 dX20_put_85 rfl
theorem u216_85 : ev d 216 85 lo st h = evI d 216 85 86 lo st h .ireturn := ev_u n216_85 rfl
theorem mi217 : mx_mi 217 = some (yX20_item, cX20_item, 5, (Option.some Jvm.ClassFile.FieldType.int), 20, 4, []) := rfl
theorem ow217 : mx_own 217 = 20 := mx_mi_own mi217
theorem mm217 : mx_max 217 = 5 := mx_mi_max mi217
theorem rt217 : mx_ret 217 = (Option.some Jvm.ClassFile.FieldType.int) := mx_mi_ret mi217
theorem hn217 : mx_hnd 217 = [] := mx_mi_hnd mi217
theorem n217_0 : mx_ins 217 0 = some ((.iload_n 1), 1) := mx_ins_of mi217 dX20_item_0 rfl
theorem u217_0 : ev d 217 0 lo st h = evS (mx_ldI 1) d 217 1 lo st h := ev_s n217_0 rfl rfl
theorem n217_1 : mx_ins 217 1 = some ((.invokestatic 331), 3) := mx_ins_of mi217 dX20_item_1 rfl
theorem u217_1 : ev d 217 1 lo st h = evIn d 217 1 4 20 331 1 true lo st h := ev_inv n217_1 rfl rfl ow217 ia20_331
theorem n217_4 : mx_ins 217 4 = some ((.ifCond .eq 12), 3) := mx_ins_of mi217 dX20_item_4 rfl
theorem u217_4 : ev d 217 4 lo st h = evJ .eq d 217 16 7 lo st h := ev_if n217_4 rfl rfl
theorem n217_7 : mx_ins 217 7 = some ((.iload_n 2), 1) := mx_ins_of mi217 dX20_item_7 rfl
theorem u217_7 : ev d 217 7 lo st h = evS (mx_ldI 2) d 217 8 lo st h := ev_s n217_7 rfl rfl
theorem n217_8 : mx_ins 217 8 = some ((.iconst 0), 1) := mx_ins_of mi217 dX20_item_8 rfl
theorem u217_8 : ev d 217 8 lo st h = ev d 217 9 lo (.int 0 :: st) h := (ev_s (f := mx_push (.int 0)) n217_8 rfl rfl).trans es_push
theorem n217_9 : mx_ins 217 9 = some ((.iconst 3), 1) := mx_ins_of mi217 dX20_item_9 rfl
theorem u217_9 : ev d 217 9 lo st h = ev d 217 10 lo (.int 3 :: st) h := (ev_s (f := mx_push (.int 3)) n217_9 rfl rfl).trans es_push
theorem n217_10 : mx_ins 217 10 = some ((.invokestatic 100), 3) := mx_ins_of mi217 dX20_item_10 rfl
theorem u217_10 : ev d 217 10 lo st h = evIn d 217 10 13 20 100 3 true lo st h := ev_inv n217_10 rfl rfl ow217 ia20_100
theorem n217_13 : mx_ins 217 13 = some ((.ifCond .ne 5), 3) := mx_ins_of mi217 dX20_item_13 rfl
theorem u217_13 : ev d 217 13 lo st h = evJ .ne d 217 18 16 lo st h := ev_if n217_13 rfl rfl
theorem n217_16 : mx_ins 217 16 = some ((.iconst (-1)), 1) := mx_ins_of mi217 dX20_item_16 rfl
theorem u217_16 : ev d 217 16 lo st h = ev d 217 17 lo (.int (-1) :: st) h := (ev_s (f := mx_push (.int (-1))) n217_16 rfl rfl).trans es_push
theorem n217_17 : mx_ins 217 17 = some (.ireturn, 1) := mx_ins_of mi217 dX20_item_17 rfl
theorem u217_17 : ev d 217 17 lo st h = evI d 217 17 18 lo st h .ireturn := ev_u n217_17 rfl
theorem n217_18 : mx_ins 217 18 = some ((.aload_n 0), 1) := mx_ins_of mi217 dX20_item_18 rfl
theorem u217_18 : ev d 217 18 lo st h = evS (mx_ldA 0) d 217 19 lo st h := ev_s n217_18 rfl rfl
theorem n217_19 : mx_ins 217 19 = some ((.iload_n 1), 1) := mx_ins_of mi217 dX20_item_19 rfl
theorem u217_19 : ev d 217 19 lo st h = evS (mx_ldI 1) d 217 20 lo st h := ev_s n217_19 rfl rfl
theorem n217_20 : mx_ins 217 20 = some ((.iload_n 2), 1) := mx_ins_of mi217 dX20_item_20 rfl
theorem u217_20 : ev d 217 20 lo st h = evS (mx_ldI 2) d 217 21 lo st h := ev_s n217_20 rfl rfl
theorem n217_21 : mx_ins 217 21 = some ((.invokevirtual 334), 3) := mx_ins_of mi217 dX20_item_21 rfl
theorem u217_21 : ev d 217 21 lo st h = evIn d 217 21 24 20 334 3 false lo st h := ev_inv n217_21 rfl rfl ow217 ia20_334
theorem n217_24 : mx_ins 217 24 = some ((.istore 4), 2) := mx_ins_of mi217 dX20_item_24 rfl
theorem u217_24 : ev d 217 24 lo st h = evS (mx_stI 4) d 217 26 lo st h := ev_s n217_24 rfl rfl
theorem n217_26 : mx_ins 217 26 = some ((.iload 4), 2) := mx_ins_of mi217 dX20_item_26 rfl
theorem u217_26 : ev d 217 26 lo st h = evS (mx_ldI 4) d 217 28 lo st h := ev_s n217_26 rfl rfl
theorem n217_28 : mx_ins 217 28 = some ((.ifCond .eq 6), 3) := mx_ins_of mi217 dX20_item_28 rfl
theorem u217_28 : ev d 217 28 lo st h = evJ .eq d 217 34 31 lo st h := ev_if n217_28 rfl rfl
theorem n217_31 : mx_ins 217 31 = some ((.iload 4), 2) := mx_ins_of mi217 dX20_item_31 rfl
theorem u217_31 : ev d 217 31 lo st h = evS (mx_ldI 4) d 217 33 lo st h := ev_s n217_31 rfl rfl
theorem n217_33 : mx_ins 217 33 = some (.ireturn, 1) := mx_ins_of mi217 dX20_item_33 rfl
theorem u217_33 : ev d 217 33 lo st h = evI d 217 33 34 lo st h .ireturn := ev_u n217_33 rfl
theorem n217_34 : mx_ins 217 34 = some ((.iload_n 3), 1) := mx_ins_of mi217 dX20_item_34 rfl
theorem u217_34 : ev d 217 34 lo st h = evS (mx_ldI 3) d 217 35 lo st h := ev_s n217_34 rfl rfl
theorem n217_35 : mx_ins 217 35 = some ((.iconst 0), 1) := mx_ins_of mi217 dX20_item_35 rfl
theorem u217_35 : ev d 217 35 lo st h = ev d 217 36 lo (.int 0 :: st) h := (ev_s (f := mx_push (.int 0)) n217_35 rfl rfl).trans es_push
theorem n217_36 : mx_ins 217 36 = some ((.aload_n 0), 1) := mx_ins_of mi217 dX20_item_36 rfl
theorem u217_36 : ev d 217 36 lo st h = evS (mx_ldA 0) d 217 37 lo st h := ev_s n217_36 rfl rfl
theorem n217_37 : mx_ins 217 37 = some ((.getfield 75), 3) := mx_ins_of mi217 dX20_item_37 rfl
theorem u217_37 : ev d 217 37 lo st h = evS (mx_gf 20 75) d 217 40 lo st h := ev_s n217_37 rfl rfl
theorem n217_40 : mx_ins 217 40 = some ((.iload_n 1), 1) := mx_ins_of mi217 dX20_item_40 rfl
theorem u217_40 : ev d 217 40 lo st h = evS (mx_ldI 1) d 217 41 lo st h := ev_s n217_40 rfl rfl
theorem n217_41 : mx_ins 217 41 = some (.iaload, 1) := mx_ins_of mi217 dX20_item_41 rfl
theorem u217_41 : ev d 217 41 lo st h = evI d 217 41 42 lo st h .iaload := ev_u n217_41 rfl
theorem n217_42 : mx_ins 217 42 = some ((.iconst 1), 1) := mx_ins_of mi217 dX20_item_42 rfl
theorem u217_42 : ev d 217 42 lo st h = ev d 217 43 lo (.int 1 :: st) h := (ev_s (f := mx_push (.int 1)) n217_42 rfl rfl).trans es_push
theorem n217_43 : mx_ins 217 43 = some (.isub, 1) := mx_ins_of mi217 dX20_item_43 rfl
theorem u217_43 : ev d 217 43 lo st h = evI d 217 43 44 lo st h .isub := ev_u n217_43 rfl
theorem n217_44 : mx_ins 217 44 = some ((.invokestatic 100), 3) := mx_ins_of mi217 dX20_item_44 rfl
theorem u217_44 : ev d 217 44 lo st h = evIn d 217 44 47 20 100 3 true lo st h := ev_inv n217_44 rfl rfl ow217 ia20_100
theorem n217_47 : mx_ins 217 47 = some ((.ifCond .eq 18), 3) := mx_ins_of mi217 dX20_item_47 rfl
theorem u217_47 : ev d 217 47 lo st h = evJ .eq d 217 65 50 lo st h := ev_if n217_47 rfl rfl
theorem n217_50 : mx_ins 217 50 = some ((.aload_n 0), 1) := mx_ins_of mi217 dX20_item_50 rfl
theorem u217_50 : ev d 217 50 lo st h = evS (mx_ldA 0) d 217 51 lo st h := ev_s n217_50 rfl rfl
theorem n217_51 : mx_ins 217 51 = some ((.getfield 78), 3) := mx_ins_of mi217 dX20_item_51 rfl
theorem u217_51 : ev d 217 51 lo st h = evS (mx_gf 20 78) d 217 54 lo st h := ev_s n217_51 rfl rfl
theorem n217_54 : mx_ins 217 54 = some ((.bipush 40), 2) := mx_ins_of mi217 dX20_item_54 rfl
theorem u217_54 : ev d 217 54 lo st h = ev d 217 56 lo (.int 40 :: st) h := (ev_s (f := mx_push (.int 40)) n217_54 rfl rfl).trans es_push
theorem n217_56 : mx_ins 217 56 = some ((.iload_n 1), 1) := mx_ins_of mi217 dX20_item_56 rfl
theorem u217_56 : ev d 217 56 lo st h = evS (mx_ldI 1) d 217 57 lo st h := ev_s n217_56 rfl rfl
theorem n217_57 : mx_ins 217 57 = some (.imul, 1) := mx_ins_of mi217 dX20_item_57 rfl
theorem u217_57 : ev d 217 57 lo st h = evI d 217 57 58 lo st h .imul := ev_u n217_57 rfl
theorem n217_58 : mx_ins 217 58 = some ((.iload_n 3), 1) := mx_ins_of mi217 dX20_item_58 rfl
theorem u217_58 : ev d 217 58 lo st h = evS (mx_ldI 3) d 217 59 lo st h := ev_s n217_58 rfl rfl
theorem n217_59 : mx_ins 217 59 = some (.iadd, 1) := mx_ins_of mi217 dX20_item_59 rfl
theorem u217_59 : ev d 217 59 lo st h = evI d 217 59 60 lo st h .iadd := ev_u n217_59 rfl
theorem n217_60 : mx_ins 217 60 = some (.laload, 1) := mx_ins_of mi217 dX20_item_60 rfl
theorem u217_60 : ev d 217 60 lo st h = evI d 217 60 61 lo st h .laload := ev_u n217_60 rfl
theorem n217_61 : mx_ins 217 61 = some (.l2i, 1) := mx_ins_of mi217 dX20_item_61 rfl
theorem u217_61 : ev d 217 61 lo st h = evI d 217 61 62 lo st h .l2i := ev_u n217_61 rfl
theorem n217_62 : mx_ins 217 62 = some ((.goto 5), 3) := mx_ins_of mi217 dX20_item_62 rfl
theorem u217_62 : ev d 217 62 lo st h = ev d 217 67 lo st h := ev_goto n217_62 rfl
theorem n217_65 : mx_ins 217 65 = some ((.bipush (-12)), 2) := mx_ins_of mi217 dX20_item_65 rfl
theorem u217_65 : ev d 217 65 lo st h = ev d 217 67 lo (.int (-12) :: st) h := (ev_s (f := mx_push (.int (-12))) n217_65 rfl rfl).trans es_push
theorem n217_67 : mx_ins 217 67 = some (.ireturn, 1) := mx_ins_of mi217 dX20_item_67 rfl
theorem u217_67 : ev d 217 67 lo st h = evI d 217 67 68 lo st h .ireturn := ev_u n217_67 rfl
theorem mi218 : mx_mi 218 = some (yX20_shelf, cX20_shelf, 4, (Option.some Jvm.ClassFile.FieldType.int), 20, 4, []) := rfl
theorem ow218 : mx_own 218 = 20 := mx_mi_own mi218
theorem mm218 : mx_max 218 = 4 := mx_mi_max mi218
theorem rt218 : mx_ret 218 = (Option.some Jvm.ClassFile.FieldType.int) := mx_mi_ret mi218
theorem hn218 : mx_hnd 218 = [] := mx_mi_hnd mi218
theorem n218_0 : mx_ins 218 0 = some ((.iload_n 1), 1) := mx_ins_of mi218 dX20_shelf_0 rfl
theorem u218_0 : ev d 218 0 lo st h = evS (mx_ldI 1) d 218 1 lo st h := ev_s n218_0 rfl rfl
theorem n218_1 : mx_ins 218 1 = some ((.invokestatic 331), 3) := mx_ins_of mi218 dX20_shelf_1 rfl
theorem u218_1 : ev d 218 1 lo st h = evIn d 218 1 4 20 331 1 true lo st h := ev_inv n218_1 rfl rfl ow218 ia20_331
theorem n218_4 : mx_ins 218 4 = some ((.ifCond .eq 12), 3) := mx_ins_of mi218 dX20_shelf_4 rfl
theorem u218_4 : ev d 218 4 lo st h = evJ .eq d 218 16 7 lo st h := ev_if n218_4 rfl rfl
theorem n218_7 : mx_ins 218 7 = some ((.aload_n 0), 1) := mx_ins_of mi218 dX20_shelf_7 rfl
theorem u218_7 : ev d 218 7 lo st h = evS (mx_ldA 0) d 218 8 lo st h := ev_s n218_7 rfl rfl
theorem n218_8 : mx_ins 218 8 = some ((.iload_n 2), 1) := mx_ins_of mi218 dX20_shelf_8 rfl
theorem u218_8 : ev d 218 8 lo st h = evS (mx_ldI 2) d 218 9 lo st h := ev_s n218_8 rfl rfl
theorem n218_9 : mx_ins 218 9 = some ((.iload_n 3), 1) := mx_ins_of mi218 dX20_shelf_9 rfl
theorem u218_9 : ev d 218 9 lo st h = evS (mx_ldI 3) d 218 10 lo st h := ev_s n218_9 rfl rfl
theorem n218_10 : mx_ins 218 10 = some ((.invokevirtual 341), 3) := mx_ins_of mi218 dX20_shelf_10 rfl
theorem u218_10 : ev d 218 10 lo st h = evIn d 218 10 13 20 341 3 false lo st h := ev_inv n218_10 rfl rfl ow218 ia20_341
theorem n218_13 : mx_ins 218 13 = some ((.ifCond .ne 5), 3) := mx_ins_of mi218 dX20_shelf_13 rfl
theorem u218_13 : ev d 218 13 lo st h = evJ .ne d 218 18 16 lo st h := ev_if n218_13 rfl rfl
theorem n218_16 : mx_ins 218 16 = some ((.iconst (-1)), 1) := mx_ins_of mi218 dX20_shelf_16 rfl
theorem u218_16 : ev d 218 16 lo st h = ev d 218 17 lo (.int (-1) :: st) h := (ev_s (f := mx_push (.int (-1))) n218_16 rfl rfl).trans es_push
theorem n218_17 : mx_ins 218 17 = some (.ireturn, 1) := mx_ins_of mi218 dX20_shelf_17 rfl
theorem u218_17 : ev d 218 17 lo st h = evI d 218 17 18 lo st h .ireturn := ev_u n218_17 rfl
theorem n218_18 : mx_ins 218 18 = some ((.aload_n 0), 1) := mx_ins_of mi218 dX20_shelf_18 rfl
theorem u218_18 : ev d 218 18 lo st h = evS (mx_ldA 0) d 218 19 lo st h := ev_s n218_18 rfl rfl
theorem n218_19 : mx_ins 218 19 = some ((.getfield 82), 3) := mx_ins_of mi218 dX20_shelf_19 rfl
theorem u218_19 : ev d 218 19 lo st h = evS (mx_gf 20 82) d 218 22 lo st h := ev_s n218_19 rfl rfl
theorem n218_22 : mx_ins 218 22 = some ((.iload_n 1), 1) := mx_ins_of mi218 dX20_shelf_22 rfl
theorem u218_22 : ev d 218 22 lo st h = evS (mx_ldI 1) d 218 23 lo st h := ev_s n218_22 rfl rfl
theorem n218_23 : mx_ins 218 23 = some ((.iload_n 2), 1) := mx_ins_of mi218 dX20_shelf_23 rfl
theorem u218_23 : ev d 218 23 lo st h = evS (mx_ldI 2) d 218 24 lo st h := ev_s n218_23 rfl rfl
theorem n218_24 : mx_ins 218 24 = some ((.iconst 2), 1) := mx_ins_of mi218 dX20_shelf_24 rfl
theorem u218_24 : ev d 218 24 lo st h = ev d 218 25 lo (.int 2 :: st) h := (ev_s (f := mx_push (.int 2)) n218_24 rfl rfl).trans es_push
theorem n218_25 : mx_ins 218 25 = some ((.if_icmp .eq 17), 3) := mx_ins_of mi218 dX20_shelf_25 rfl
theorem u218_25 : ev d 218 25 lo st h = evK .eq d 218 42 28 lo st h := ev_ic n218_25 rfl rfl
theorem n218_28 : mx_ins 218 28 = some ((.iload_n 2), 1) := mx_ins_of mi218 dX20_shelf_28 rfl
theorem u218_28 : ev d 218 28 lo st h = evS (mx_ldI 2) d 218 29 lo st h := ev_s n218_28 rfl rfl
theorem n218_29 : mx_ins 218 29 = some ((.iconst 1), 1) := mx_ins_of mi218 dX20_shelf_29 rfl
theorem u218_29 : ev d 218 29 lo st h = ev d 218 30 lo (.int 1 :: st) h := (ev_s (f := mx_push (.int 1)) n218_29 rfl rfl).trans es_push
theorem n218_30 : mx_ins 218 30 = some ((.if_icmp .ne 16), 3) := mx_ins_of mi218 dX20_shelf_30 rfl
theorem u218_30 : ev d 218 30 lo st h = evK .ne d 218 46 33 lo st h := ev_ic n218_30 rfl rfl
theorem n218_33 : mx_ins 218 33 = some ((.aload_n 0), 1) := mx_ins_of mi218 dX20_shelf_33 rfl
theorem u218_33 : ev d 218 33 lo st h = evS (mx_ldA 0) d 218 34 lo st h := ev_s n218_33 rfl rfl
theorem n218_34 : mx_ins 218 34 = some ((.getfield 72), 3) := mx_ins_of mi218 dX20_shelf_34 rfl
theorem u218_34 : ev d 218 34 lo st h = evS (mx_gf 20 72) d 218 37 lo st h := ev_s n218_34 rfl rfl
theorem n218_37 : mx_ins 218 37 = some ((.iload_n 3), 1) := mx_ins_of mi218 dX20_shelf_37 rfl
theorem u218_37 : ev d 218 37 lo st h = evS (mx_ldI 3) d 218 38 lo st h := ev_s n218_37 rfl rfl
theorem n218_38 : mx_ins 218 38 = some (.iaload, 1) := mx_ins_of mi218 dX20_shelf_38 rfl
theorem u218_38 : ev d 218 38 lo st h = evI d 218 38 39 lo st h .iaload := ev_u n218_38 rfl
theorem n218_39 : mx_ins 218 39 = some ((.ifCond .ge 7), 3) := mx_ins_of mi218 dX20_shelf_39 rfl
theorem u218_39 : ev d 218 39 lo st h = evJ .ge d 218 46 42 lo st h := ev_if n218_39 rfl rfl
theorem n218_42 : mx_ins 218 42 = some ((.iconst (-1)), 1) := mx_ins_of mi218 dX20_shelf_42 rfl
theorem u218_42 : ev d 218 42 lo st h = ev d 218 43 lo (.int (-1) :: st) h := (ev_s (f := mx_push (.int (-1))) n218_42 rfl rfl).trans es_push
theorem n218_43 : mx_ins 218 43 = some ((.goto 4), 3) := mx_ins_of mi218 dX20_shelf_43 rfl
theorem u218_43 : ev d 218 43 lo st h = ev d 218 47 lo st h := ev_goto n218_43 rfl
theorem n218_46 : mx_ins 218 46 = some ((.iload_n 2), 1) := mx_ins_of mi218 dX20_shelf_46 rfl
theorem u218_46 : ev d 218 46 lo st h = evS (mx_ldI 2) d 218 47 lo st h := ev_s n218_46 rfl rfl
theorem n218_47 : mx_ins 218 47 = some (.iastore, 1) := mx_ins_of mi218 dX20_shelf_47 rfl
theorem u218_47 : ev d 218 47 lo st h = evI d 218 47 48 lo st h .iastore := ev_u n218_47 rfl
theorem n218_48 : mx_ins 218 48 = some ((.aload_n 0), 1) := mx_ins_of mi218 dX20_shelf_48 rfl
theorem u218_48 : ev d 218 48 lo st h = evS (mx_ldA 0) d 218 49 lo st h := ev_s n218_48 rfl rfl
theorem n218_49 : mx_ins 218 49 = some ((.getfield 85), 3) := mx_ins_of mi218 dX20_shelf_49 rfl
theorem u218_49 : ev d 218 49 lo st h = evS (mx_gf 20 85) d 218 52 lo st h := ev_s n218_49 rfl rfl
theorem n218_52 : mx_ins 218 52 = some ((.iload_n 1), 1) := mx_ins_of mi218 dX20_shelf_52 rfl
theorem u218_52 : ev d 218 52 lo st h = evS (mx_ldI 1) d 218 53 lo st h := ev_s n218_52 rfl rfl
theorem n218_53 : mx_ins 218 53 = some ((.iload_n 2), 1) := mx_ins_of mi218 dX20_shelf_53 rfl
theorem u218_53 : ev d 218 53 lo st h = evS (mx_ldI 2) d 218 54 lo st h := ev_s n218_53 rfl rfl
theorem n218_54 : mx_ins 218 54 = some ((.iconst 1), 1) := mx_ins_of mi218 dX20_shelf_54 rfl
theorem u218_54 : ev d 218 54 lo st h = ev d 218 55 lo (.int 1 :: st) h := (ev_s (f := mx_push (.int 1)) n218_54 rfl rfl).trans es_push
theorem n218_55 : mx_ins 218 55 = some ((.if_icmp .ne 12), 3) := mx_ins_of mi218 dX20_shelf_55 rfl
theorem u218_55 : ev d 218 55 lo st h = evK .ne d 218 67 58 lo st h := ev_ic n218_55 rfl rfl
theorem n218_58 : mx_ins 218 58 = some ((.aload_n 0), 1) := mx_ins_of mi218 dX20_shelf_58 rfl
theorem u218_58 : ev d 218 58 lo st h = evS (mx_ldA 0) d 218 59 lo st h := ev_s n218_58 rfl rfl
theorem n218_59 : mx_ins 218 59 = some ((.getfield 72), 3) := mx_ins_of mi218 dX20_shelf_59 rfl
theorem u218_59 : ev d 218 59 lo st h = evS (mx_gf 20 72) d 218 62 lo st h := ev_s n218_59 rfl rfl
theorem n218_62 : mx_ins 218 62 = some ((.iload_n 3), 1) := mx_ins_of mi218 dX20_shelf_62 rfl
theorem u218_62 : ev d 218 62 lo st h = evS (mx_ldI 3) d 218 63 lo st h := ev_s n218_62 rfl rfl
theorem n218_63 : mx_ins 218 63 = some (.iaload, 1) := mx_ins_of mi218 dX20_shelf_63 rfl
theorem u218_63 : ev d 218 63 lo st h = evI d 218 63 64 lo st h .iaload := ev_u n218_63 rfl
theorem n218_64 : mx_ins 218 64 = some ((.goto 4), 3) := mx_ins_of mi218 dX20_shelf_64 rfl
theorem u218_64 : ev d 218 64 lo st h = ev d 218 68 lo st h := ev_goto n218_64 rfl
theorem n218_67 : mx_ins 218 67 = some ((.iload_n 3), 1) := mx_ins_of mi218 dX20_shelf_67 rfl
theorem u218_67 : ev d 218 67 lo st h = evS (mx_ldI 3) d 218 68 lo st h := ev_s n218_67 rfl rfl
theorem n218_68 : mx_ins 218 68 = some (.iastore, 1) := mx_ins_of mi218 dX20_shelf_68 rfl
theorem u218_68 : ev d 218 68 lo st h = evI d 218 68 69 lo st h .iastore := ev_u n218_68 rfl
theorem n218_69 : mx_ins 218 69 = some ((.aload_n 0), 1) := mx_ins_of mi218 dX20_shelf_69 rfl
theorem u218_69 : ev d 218 69 lo st h = evS (mx_ldA 0) d 218 70 lo st h := ev_s n218_69 rfl rfl
theorem n218_70 : mx_ins 218 70 = some ((.getfield 88), 3) := mx_ins_of mi218 dX20_shelf_70 rfl
theorem u218_70 : ev d 218 70 lo st h = evS (mx_gf 20 88) d 218 73 lo st h := ev_s n218_70 rfl rfl
theorem n218_73 : mx_ins 218 73 = some ((.iload_n 1), 1) := mx_ins_of mi218 dX20_shelf_73 rfl
theorem u218_73 : ev d 218 73 lo st h = evS (mx_ldI 1) d 218 74 lo st h := ev_s n218_73 rfl rfl
theorem n218_74 : mx_ins 218 74 = some ((.iload_n 2), 1) := mx_ins_of mi218 dX20_shelf_74 rfl
theorem u218_74 : ev d 218 74 lo st h = evS (mx_ldI 2) d 218 75 lo st h := ev_s n218_74 rfl rfl
theorem n218_75 : mx_ins 218 75 = some ((.iconst 1), 1) := mx_ins_of mi218 dX20_shelf_75 rfl
theorem u218_75 : ev d 218 75 lo st h = ev d 218 76 lo (.int 1 :: st) h := (ev_s (f := mx_push (.int 1)) n218_75 rfl rfl).trans es_push
theorem n218_76 : mx_ins 218 76 = some ((.if_icmp .ne 12), 3) := mx_ins_of mi218 dX20_shelf_76 rfl
theorem u218_76 : ev d 218 76 lo st h = evK .ne d 218 88 79 lo st h := ev_ic n218_76 rfl rfl
theorem n218_79 : mx_ins 218 79 = some ((.aload_n 0), 1) := mx_ins_of mi218 dX20_shelf_79 rfl
theorem u218_79 : ev d 218 79 lo st h = evS (mx_ldA 0) d 218 80 lo st h := ev_s n218_79 rfl rfl
theorem n218_80 : mx_ins 218 80 = some ((.getfield 75), 3) := mx_ins_of mi218 dX20_shelf_80 rfl
theorem u218_80 : ev d 218 80 lo st h = evS (mx_gf 20 75) d 218 83 lo st h := ev_s n218_80 rfl rfl
theorem n218_83 : mx_ins 218 83 = some ((.iload_n 3), 1) := mx_ins_of mi218 dX20_shelf_83 rfl
theorem u218_83 : ev d 218 83 lo st h = evS (mx_ldI 3) d 218 84 lo st h := ev_s n218_83 rfl rfl
theorem n218_84 : mx_ins 218 84 = some (.iaload, 1) := mx_ins_of mi218 dX20_shelf_84 rfl
theorem u218_84 : ev d 218 84 lo st h = evI d 218 84 85 lo st h .iaload := ev_u n218_84 rfl
theorem n218_85 : mx_ins 218 85 = some ((.goto 4), 3) := mx_ins_of mi218 dX20_shelf_85 rfl
theorem u218_85 : ev d 218 85 lo st h = ev d 218 89 lo st h := ev_goto n218_85 rfl
theorem n218_88 : mx_ins 218 88 = some ((.iconst 0), 1) := mx_ins_of mi218 dX20_shelf_88 rfl
theorem u218_88 : ev d 218 88 lo st h = ev d 218 89 lo (.int 0 :: st) h := (ev_s (f := mx_push (.int 0)) n218_88 rfl rfl).trans es_push
theorem n218_89 : mx_ins 218 89 = some (.iastore, 1) := mx_ins_of mi218 dX20_shelf_89 rfl
theorem u218_89 : ev d 218 89 lo st h = evI d 218 89 90 lo st h .iastore := ev_u n218_89 rfl
theorem n218_90 : mx_ins 218 90 = some ((.iconst 1), 1) := mx_ins_of mi218 dX20_shelf_90 rfl
theorem u218_90 : ev d 218 90 lo st h = ev d 218 91 lo (.int 1 :: st) h := (ev_s (f := mx_push (.int 1)) n218_90 rfl rfl).trans es_push
theorem n218_91 : mx_ins 218 91 = some (.ireturn, 1) := mx_ins_of mi218 dX20_shelf_91 rfl
theorem u218_91 : ev d 218 91 lo st h = evI d 218 91 92 lo st h .ireturn := ev_u n218_91 rfl
theorem mi219 : mx_mi 219 = some (yX20_isHeld, cX20_isHeld, 3, (Option.some Jvm.ClassFile.FieldType.boolean), 20, 3, []) := rfl
theorem ow219 : mx_own 219 = 20 := mx_mi_own mi219
theorem mm219 : mx_max 219 = 3 := mx_mi_max mi219
theorem rt219 : mx_ret 219 = (Option.some Jvm.ClassFile.FieldType.boolean) := mx_mi_ret mi219
theorem hn219 : mx_hnd 219 = [] := mx_mi_hnd mi219
theorem n219_0 : mx_ins 219 0 = some ((.iload_n 1), 1) := mx_ins_of mi219 dX20_isHeld_0 rfl
theorem u219_0 : ev d 219 0 lo st h = evS (mx_ldI 1) d 219 1 lo st h := ev_s n219_0 rfl rfl
theorem n219_1 : mx_ins 219 1 = some ((.ifCond .ne 10), 3) := mx_ins_of mi219 dX20_isHeld_1 rfl
theorem u219_1 : ev d 219 1 lo st h = evJ .ne d 219 11 4 lo st h := ev_if n219_1 rfl rfl
theorem n219_4 : mx_ins 219 4 = some ((.iload_n 2), 1) := mx_ins_of mi219 dX20_isHeld_4 rfl
theorem u219_4 : ev d 219 4 lo st h = evS (mx_ldI 2) d 219 5 lo st h := ev_s n219_4 rfl rfl
theorem n219_5 : mx_ins 219 5 = some ((.invokestatic 238), 3) := mx_ins_of mi219 dX20_isHeld_5 rfl
theorem u219_5 : ev d 219 5 lo st h = evIn d 219 5 8 20 238 1 true lo st h := ev_inv n219_5 rfl rfl ow219 ia20_238
theorem n219_8 : mx_ins 219 8 = some ((.goto 25), 3) := mx_ins_of mi219 dX20_isHeld_8 rfl
theorem u219_8 : ev d 219 8 lo st h = ev d 219 33 lo st h := ev_goto n219_8 rfl
theorem n219_11 : mx_ins 219 11 = some ((.iload_n 1), 1) := mx_ins_of mi219 dX20_isHeld_11 rfl
theorem u219_11 : ev d 219 11 lo st h = evS (mx_ldI 1) d 219 12 lo st h := ev_s n219_11 rfl rfl
theorem n219_12 : mx_ins 219 12 = some ((.iconst 1), 1) := mx_ins_of mi219 dX20_isHeld_12 rfl
theorem u219_12 : ev d 219 12 lo st h = ev d 219 13 lo (.int 1 :: st) h := (ev_s (f := mx_push (.int 1)) n219_12 rfl rfl).trans es_push
theorem n219_13 : mx_ins 219 13 = some ((.if_icmp .ne 10), 3) := mx_ins_of mi219 dX20_isHeld_13 rfl
theorem u219_13 : ev d 219 13 lo st h = evK .ne d 219 23 16 lo st h := ev_ic n219_13 rfl rfl
theorem n219_16 : mx_ins 219 16 = some ((.iload_n 2), 1) := mx_ins_of mi219 dX20_isHeld_16 rfl
theorem u219_16 : ev d 219 16 lo st h = evS (mx_ldI 2) d 219 17 lo st h := ev_s n219_16 rfl rfl
theorem n219_17 : mx_ins 219 17 = some ((.invokestatic 331), 3) := mx_ins_of mi219 dX20_isHeld_17 rfl
theorem u219_17 : ev d 219 17 lo st h = evIn d 219 17 20 20 331 1 true lo st h := ev_inv n219_17 rfl rfl ow219 ia20_331
theorem n219_20 : mx_ins 219 20 = some ((.goto 13), 3) := mx_ins_of mi219 dX20_isHeld_20 rfl
theorem u219_20 : ev d 219 20 lo st h = ev d 219 33 lo st h := ev_goto n219_20 rfl
theorem n219_23 : mx_ins 219 23 = some ((.iload_n 1), 1) := mx_ins_of mi219 dX20_isHeld_23 rfl
theorem u219_23 : ev d 219 23 lo st h = evS (mx_ldI 1) d 219 24 lo st h := ev_s n219_23 rfl rfl
theorem n219_24 : mx_ins 219 24 = some ((.iconst 2), 1) := mx_ins_of mi219 dX20_isHeld_24 rfl
theorem u219_24 : ev d 219 24 lo st h = ev d 219 25 lo (.int 2 :: st) h := (ev_s (f := mx_push (.int 2)) n219_24 rfl rfl).trans es_push
theorem n219_25 : mx_ins 219 25 = some ((.if_icmp .ne 7), 3) := mx_ins_of mi219 dX20_isHeld_25 rfl
theorem u219_25 : ev d 219 25 lo st h = evK .ne d 219 32 28 lo st h := ev_ic n219_25 rfl rfl
theorem n219_28 : mx_ins 219 28 = some ((.iconst 1), 1) := mx_ins_of mi219 dX20_isHeld_28 rfl
theorem u219_28 : ev d 219 28 lo st h = ev d 219 29 lo (.int 1 :: st) h := (ev_s (f := mx_push (.int 1)) n219_28 rfl rfl).trans es_push
theorem n219_29 : mx_ins 219 29 = some ((.goto 4), 3) := mx_ins_of mi219 dX20_isHeld_29 rfl
theorem u219_29 : ev d 219 29 lo st h = ev d 219 33 lo st h := ev_goto n219_29 rfl
theorem n219_32 : mx_ins 219 32 = some ((.iconst 0), 1) := mx_ins_of mi219 dX20_isHeld_32 rfl
theorem u219_32 : ev d 219 32 lo st h = ev d 219 33 lo (.int 0 :: st) h := (ev_s (f := mx_push (.int 0)) n219_32 rfl rfl).trans es_push
theorem n219_33 : mx_ins 219 33 = some (.ireturn, 1) := mx_ins_of mi219 dX20_isHeld_33 rfl
theorem u219_33 : ev d 219 33 lo st h = evI d 219 33 34 lo st h .ireturn := ev_u n219_33 rfl
theorem mi220 : mx_mi 220 = some (yX20_taken, cX20_taken, 4, (Option.some Jvm.ClassFile.FieldType.int), 20, 3, []) := rfl
theorem ow220 : mx_own 220 = 20 := mx_mi_own mi220
theorem mm220 : mx_max 220 = 4 := mx_mi_max mi220
theorem rt220 : mx_ret 220 = (Option.some Jvm.ClassFile.FieldType.int) := mx_mi_ret mi220
theorem hn220 : mx_hnd 220 = [] := mx_mi_hnd mi220
theorem n220_0 : mx_ins 220 0 = some ((.iload_n 1), 1) := mx_ins_of mi220 dX20_taken_0 rfl
theorem u220_0 : ev d 220 0 lo st h = evS (mx_ldI 1) d 220 1 lo st h := ev_s n220_0 rfl rfl
theorem n220_1 : mx_ins 220 1 = some ((.invokestatic 331), 3) := mx_ins_of mi220 dX20_taken_1 rfl
theorem u220_1 : ev d 220 1 lo st h = evIn d 220 1 4 20 331 1 true lo st h := ev_inv n220_1 rfl rfl ow220 ia20_331
theorem n220_4 : mx_ins 220 4 = some ((.ifCond .eq 23), 3) := mx_ins_of mi220 dX20_taken_4 rfl
theorem u220_4 : ev d 220 4 lo st h = evJ .eq d 220 27 7 lo st h := ev_if n220_4 rfl rfl
theorem n220_7 : mx_ins 220 7 = some ((.iload_n 2), 1) := mx_ins_of mi220 dX20_taken_7 rfl
theorem u220_7 : ev d 220 7 lo st h = evS (mx_ldI 2) d 220 8 lo st h := ev_s n220_7 rfl rfl
theorem n220_8 : mx_ins 220 8 = some ((.iconst 0), 1) := mx_ins_of mi220 dX20_taken_8 rfl
theorem u220_8 : ev d 220 8 lo st h = ev d 220 9 lo (.int 0 :: st) h := (ev_s (f := mx_push (.int 0)) n220_8 rfl rfl).trans es_push
theorem n220_9 : mx_ins 220 9 = some ((.iconst 5), 1) := mx_ins_of mi220 dX20_taken_9 rfl
theorem u220_9 : ev d 220 9 lo st h = ev d 220 10 lo (.int 5 :: st) h := (ev_s (f := mx_push (.int 5)) n220_9 rfl rfl).trans es_push
theorem n220_10 : mx_ins 220 10 = some ((.invokestatic 100), 3) := mx_ins_of mi220 dX20_taken_10 rfl
theorem u220_10 : ev d 220 10 lo st h = evIn d 220 10 13 20 100 3 true lo st h := ev_inv n220_10 rfl rfl ow220 ia20_100
theorem n220_13 : mx_ins 220 13 = some ((.ifCond .ne 16), 3) := mx_ins_of mi220 dX20_taken_13 rfl
theorem u220_13 : ev d 220 13 lo st h = evJ .ne d 220 29 16 lo st h := ev_if n220_13 rfl rfl
theorem n220_16 : mx_ins 220 16 = some ((.iload_n 2), 1) := mx_ins_of mi220 dX20_taken_16 rfl
theorem u220_16 : ev d 220 16 lo st h = evS (mx_ldI 2) d 220 17 lo st h := ev_s n220_16 rfl rfl
theorem n220_17 : mx_ins 220 17 = some ((.bipush 10), 2) := mx_ins_of mi220 dX20_taken_17 rfl
theorem u220_17 : ev d 220 17 lo st h = ev d 220 19 lo (.int 10 :: st) h := (ev_s (f := mx_push (.int 10)) n220_17 rfl rfl).trans es_push
theorem n220_19 : mx_ins 220 19 = some ((.bipush 13), 2) := mx_ins_of mi220 dX20_taken_19 rfl
theorem u220_19 : ev d 220 19 lo st h = ev d 220 21 lo (.int 13 :: st) h := (ev_s (f := mx_push (.int 13)) n220_19 rfl rfl).trans es_push
theorem n220_21 : mx_ins 220 21 = some ((.invokestatic 100), 3) := mx_ins_of mi220 dX20_taken_21 rfl
theorem u220_21 : ev d 220 21 lo st h = evIn d 220 21 24 20 100 3 true lo st h := ev_inv n220_21 rfl rfl ow220 ia20_100
theorem n220_24 : mx_ins 220 24 = some ((.ifCond .ne 5), 3) := mx_ins_of mi220 dX20_taken_24 rfl
theorem u220_24 : ev d 220 24 lo st h = evJ .ne d 220 29 27 lo st h := ev_if n220_24 rfl rfl
theorem n220_27 : mx_ins 220 27 = some ((.iconst (-1)), 1) := mx_ins_of mi220 dX20_taken_27 rfl
theorem u220_27 : ev d 220 27 lo st h = ev d 220 28 lo (.int (-1) :: st) h := (ev_s (f := mx_push (.int (-1))) n220_27 rfl rfl).trans es_push
theorem n220_28 : mx_ins 220 28 = some (.ireturn, 1) := mx_ins_of mi220 dX20_taken_28 rfl
theorem u220_28 : ev d 220 28 lo st h = evI d 220 28 29 lo st h .ireturn := ev_u n220_28 rfl
theorem n220_29 : mx_ins 220 29 = some ((.aload_n 0), 1) := mx_ins_of mi220 dX20_taken_29 rfl
theorem u220_29 : ev d 220 29 lo st h = evS (mx_ldA 0) d 220 30 lo st h := ev_s n220_29 rfl rfl
theorem n220_30 : mx_ins 220 30 = some ((.iload_n 1), 1) := mx_ins_of mi220 dX20_taken_30 rfl
theorem u220_30 : ev d 220 30 lo st h = evS (mx_ldI 1) d 220 31 lo st h := ev_s n220_30 rfl rfl
theorem n220_31 : mx_ins 220 31 = some ((.invokevirtual 344), 3) := mx_ins_of mi220 dX20_taken_31 rfl
theorem u220_31 : ev d 220 31 lo st h = evIn d 220 31 34 20 344 2 false lo st h := ev_inv n220_31 rfl rfl ow220 ia20_344
theorem n220_34 : mx_ins 220 34 = some ((.istore_n 3), 1) := mx_ins_of mi220 dX20_taken_34 rfl
theorem u220_34 : ev d 220 34 lo st h = evS (mx_stI 3) d 220 35 lo st h := ev_s n220_34 rfl rfl
theorem n220_35 : mx_ins 220 35 = some ((.iload_n 3), 1) := mx_ins_of mi220 dX20_taken_35 rfl
theorem u220_35 : ev d 220 35 lo st h = evS (mx_ldI 3) d 220 36 lo st h := ev_s n220_35 rfl rfl
theorem n220_36 : mx_ins 220 36 = some ((.ifCond .ge 6), 3) := mx_ins_of mi220 dX20_taken_36 rfl
theorem u220_36 : ev d 220 36 lo st h = evJ .ge d 220 42 39 lo st h := ev_if n220_36 rfl rfl
theorem n220_39 : mx_ins 220 39 = some ((.bipush (-11)), 2) := mx_ins_of mi220 dX20_taken_39 rfl
theorem u220_39 : ev d 220 39 lo st h = ev d 220 41 lo (.int (-11) :: st) h := (ev_s (f := mx_push (.int (-11))) n220_39 rfl rfl).trans es_push
theorem n220_41 : mx_ins 220 41 = some (.ireturn, 1) := mx_ins_of mi220 dX20_taken_41 rfl
theorem u220_41 : ev d 220 41 lo st h = evI d 220 41 42 lo st h .ireturn := ev_u n220_41 rfl
theorem n220_42 : mx_ins 220 42 = some ((.iload_n 3), 1) := mx_ins_of mi220 dX20_taken_42 rfl
theorem u220_42 : ev d 220 42 lo st h = evS (mx_ldI 3) d 220 43 lo st h := ev_s n220_42 rfl rfl
theorem n220_43 : mx_ins 220 43 = some ((.bipush 9), 2) := mx_ins_of mi220 dX20_taken_43 rfl
theorem u220_43 : ev d 220 43 lo st h = ev d 220 45 lo (.int 9 :: st) h := (ev_s (f := mx_push (.int 9)) n220_43 rfl rfl).trans es_push
theorem n220_45 : mx_ins 220 45 = some ((.if_icmp .ne 28), 3) := mx_ins_of mi220 dX20_taken_45 rfl
theorem u220_45 : ev d 220 45 lo st h = evK .ne d 220 73 48 lo st h := ev_ic n220_45 rfl rfl
theorem n220_48 : mx_ins 220 48 = some ((.iload_n 2), 1) := mx_ins_of mi220 dX20_taken_48 rfl
theorem u220_48 : ev d 220 48 lo st h = evS (mx_ldI 2) d 220 49 lo st h := ev_s n220_48 rfl rfl
theorem n220_49 : mx_ins 220 49 = some ((.bipush 10), 2) := mx_ins_of mi220 dX20_taken_49 rfl
theorem u220_49 : ev d 220 49 lo st h = ev d 220 51 lo (.int 10 :: st) h := (ev_s (f := mx_push (.int 10)) n220_49 rfl rfl).trans es_push
theorem n220_51 : mx_ins 220 51 = some ((.aload_n 0), 1) := mx_ins_of mi220 dX20_taken_51 rfl
theorem u220_51 : ev d 220 51 lo st h = evS (mx_ldA 0) d 220 52 lo st h := ev_s n220_51 rfl rfl
theorem n220_52 : mx_ins 220 52 = some ((.getfield 85), 3) := mx_ins_of mi220 dX20_taken_52 rfl
theorem u220_52 : ev d 220 52 lo st h = evS (mx_gf 20 85) d 220 55 lo st h := ev_s n220_52 rfl rfl
theorem n220_55 : mx_ins 220 55 = some ((.iload_n 1), 1) := mx_ins_of mi220 dX20_taken_55 rfl
theorem u220_55 : ev d 220 55 lo st h = evS (mx_ldI 1) d 220 56 lo st h := ev_s n220_55 rfl rfl
theorem n220_56 : mx_ins 220 56 = some (.iaload, 1) := mx_ins_of mi220 dX20_taken_56 rfl
theorem u220_56 : ev d 220 56 lo st h = evI d 220 56 57 lo st h .iaload := ev_u n220_56 rfl
theorem n220_57 : mx_ins 220 57 = some (.iadd, 1) := mx_ins_of mi220 dX20_taken_57 rfl
theorem u220_57 : ev d 220 57 lo st h = evI d 220 57 58 lo st h .iadd := ev_u n220_57 rfl
theorem n220_58 : mx_ins 220 58 = some ((.if_icmp .ne 12), 3) := mx_ins_of mi220 dX20_taken_58 rfl
theorem u220_58 : ev d 220 58 lo st h = evK .ne d 220 70 61 lo st h := ev_ic n220_58 rfl rfl
theorem n220_61 : mx_ins 220 61 = some ((.aload_n 0), 1) := mx_ins_of mi220 dX20_taken_61 rfl
theorem u220_61 : ev d 220 61 lo st h = evS (mx_ldA 0) d 220 62 lo st h := ev_s n220_61 rfl rfl
theorem n220_62 : mx_ins 220 62 = some ((.getfield 88), 3) := mx_ins_of mi220 dX20_taken_62 rfl
theorem u220_62 : ev d 220 62 lo st h = evS (mx_gf 20 88) d 220 65 lo st h := ev_s n220_62 rfl rfl
theorem n220_65 : mx_ins 220 65 = some ((.iload_n 1), 1) := mx_ins_of mi220 dX20_taken_65 rfl
theorem u220_65 : ev d 220 65 lo st h = evS (mx_ldI 1) d 220 66 lo st h := ev_s n220_65 rfl rfl
theorem n220_66 : mx_ins 220 66 = some (.iaload, 1) := mx_ins_of mi220 dX20_taken_66 rfl
theorem u220_66 : ev d 220 66 lo st h = evI d 220 66 67 lo st h .iaload := ev_u n220_66 rfl
theorem n220_67 : mx_ins 220 67 = some ((.goto 5), 3) := mx_ins_of mi220 dX20_taken_67 rfl
theorem u220_67 : ev d 220 67 lo st h = ev d 220 72 lo st h := ev_goto n220_67 rfl
theorem n220_70 : mx_ins 220 70 = some ((.bipush (-13)), 2) := mx_ins_of mi220 dX20_taken_70 rfl
theorem u220_70 : ev d 220 70 lo st h = ev d 220 72 lo (.int (-13) :: st) h := (ev_s (f := mx_push (.int (-13))) n220_70 rfl rfl).trans es_push
theorem n220_72 : mx_ins 220 72 = some (.ireturn, 1) := mx_ins_of mi220 dX20_taken_72 rfl
theorem u220_72 : ev d 220 72 lo st h = evI d 220 72 73 lo st h .ireturn := ev_u n220_72 rfl
theorem n220_73 : mx_ins 220 73 = some ((.iload_n 2), 1) := mx_ins_of mi220 dX20_taken_73 rfl
theorem u220_73 : ev d 220 73 lo st h = evS (mx_ldI 2) d 220 74 lo st h := ev_s n220_73 rfl rfl
theorem n220_74 : mx_ins 220 74 = some ((.bipush 10), 2) := mx_ins_of mi220 dX20_taken_74 rfl
theorem u220_74 : ev d 220 74 lo st h = ev d 220 76 lo (.int 10 :: st) h := (ev_s (f := mx_push (.int 10)) n220_74 rfl rfl).trans es_push
theorem n220_76 : mx_ins 220 76 = some ((.if_icmp .ge 20), 3) := mx_ins_of mi220 dX20_taken_76 rfl
theorem u220_76 : ev d 220 76 lo st h = evK .ge d 220 96 79 lo st h := ev_ic n220_76 rfl rfl
theorem n220_79 : mx_ins 220 79 = some ((.iload_n 3), 1) := mx_ins_of mi220 dX20_taken_79 rfl
theorem u220_79 : ev d 220 79 lo st h = evS (mx_ldI 3) d 220 80 lo st h := ev_s n220_79 rfl rfl
theorem n220_80 : mx_ins 220 80 = some ((.iload_n 2), 1) := mx_ins_of mi220 dX20_taken_80 rfl
theorem u220_80 : ev d 220 80 lo st h = evS (mx_ldI 2) d 220 81 lo st h := ev_s n220_80 rfl rfl
theorem n220_81 : mx_ins 220 81 = some ((.invokestatic 347), 3) := mx_ins_of mi220 dX20_taken_81 rfl
theorem u220_81 : ev d 220 81 lo st h = evIn d 220 81 84 20 347 2 true lo st h := ev_inv n220_81 rfl rfl ow220 ia20_347
theorem n220_84 : mx_ins 220 84 = some ((.ifCond .eq 12), 3) := mx_ins_of mi220 dX20_taken_84 rfl
theorem u220_84 : ev d 220 84 lo st h = evJ .eq d 220 96 87 lo st h := ev_if n220_84 rfl rfl
theorem n220_87 : mx_ins 220 87 = some ((.aload_n 0), 1) := mx_ins_of mi220 dX20_taken_87 rfl
theorem u220_87 : ev d 220 87 lo st h = evS (mx_ldA 0) d 220 88 lo st h := ev_s n220_87 rfl rfl
theorem n220_88 : mx_ins 220 88 = some ((.getfield 85), 3) := mx_ins_of mi220 dX20_taken_88 rfl
theorem u220_88 : ev d 220 88 lo st h = evS (mx_gf 20 85) d 220 91 lo st h := ev_s n220_88 rfl rfl
theorem n220_91 : mx_ins 220 91 = some ((.iload_n 1), 1) := mx_ins_of mi220 dX20_taken_91 rfl
theorem u220_91 : ev d 220 91 lo st h = evS (mx_ldI 1) d 220 92 lo st h := ev_s n220_91 rfl rfl
theorem n220_92 : mx_ins 220 92 = some (.iaload, 1) := mx_ins_of mi220 dX20_taken_92 rfl
theorem u220_92 : ev d 220 92 lo st h = evI d 220 92 93 lo st h .iaload := ev_u n220_92 rfl
theorem n220_93 : mx_ins 220 93 = some ((.goto 5), 3) := mx_ins_of mi220 dX20_taken_93 rfl
theorem u220_93 : ev d 220 93 lo st h = ev d 220 98 lo st h := ev_goto n220_93 rfl
theorem n220_96 : mx_ins 220 96 = some ((.bipush (-13)), 2) := mx_ins_of mi220 dX20_taken_96 rfl
theorem u220_96 : ev d 220 96 lo st h = ev d 220 98 lo (.int (-13) :: st) h := (ev_s (f := mx_push (.int (-13))) n220_96 rfl rfl).trans es_push
theorem n220_98 : mx_ins 220 98 = some (.ireturn, 1) := mx_ins_of mi220 dX20_taken_98 rfl
theorem u220_98 : ev d 220 98 lo st h = evI d 220 98 99 lo st h .ireturn := ev_u n220_98 rfl
theorem mi221 : mx_mi 221 = some (yX20_kindOn, cX20_kindOn, 2, (Option.some Jvm.ClassFile.FieldType.int), 20, 2, []) := rfl
theorem ow221 : mx_own 221 = 20 := mx_mi_own mi221
theorem mm221 : mx_max 221 = 2 := mx_mi_max mi221
theorem rt221 : mx_ret 221 = (Option.some Jvm.ClassFile.FieldType.int) := mx_mi_ret mi221
theorem hn221 : mx_hnd 221 = [] := mx_mi_hnd mi221
theorem n221_0 : mx_ins 221 0 = some ((.aload_n 0), 1) := mx_ins_of mi221 dX20_kindOn_0 rfl
theorem u221_0 : ev d 221 0 lo st h = evS (mx_ldA 0) d 221 1 lo st h := ev_s n221_0 rfl rfl
theorem n221_1 : mx_ins 221 1 = some ((.getfield 82), 3) := mx_ins_of mi221 dX20_kindOn_1 rfl
theorem u221_1 : ev d 221 1 lo st h = evS (mx_gf 20 82) d 221 4 lo st h := ev_s n221_1 rfl rfl
theorem n221_4 : mx_ins 221 4 = some ((.iload_n 1), 1) := mx_ins_of mi221 dX20_kindOn_4 rfl
theorem u221_4 : ev d 221 4 lo st h = evS (mx_ldI 1) d 221 5 lo st h := ev_s n221_4 rfl rfl
theorem n221_5 : mx_ins 221 5 = some (.iaload, 1) := mx_ins_of mi221 dX20_kindOn_5 rfl
theorem u221_5 : ev d 221 5 lo st h = evI d 221 5 6 lo st h .iaload := ev_u n221_5 rfl
theorem n221_6 : mx_ins 221 6 = some ((.ifCond .eq 19), 3) := mx_ins_of mi221 dX20_kindOn_6 rfl
theorem u221_6 : ev d 221 6 lo st h = evJ .eq d 221 25 9 lo st h := ev_if n221_6 rfl rfl
theorem n221_9 : mx_ins 221 9 = some ((.aload_n 0), 1) := mx_ins_of mi221 dX20_kindOn_9 rfl
theorem u221_9 : ev d 221 9 lo st h = evS (mx_ldA 0) d 221 10 lo st h := ev_s n221_9 rfl rfl
theorem n221_10 : mx_ins 221 10 = some ((.getfield 82), 3) := mx_ins_of mi221 dX20_kindOn_10 rfl
theorem u221_10 : ev d 221 10 lo st h = evS (mx_gf 20 82) d 221 13 lo st h := ev_s n221_10 rfl rfl
theorem n221_13 : mx_ins 221 13 = some ((.iload_n 1), 1) := mx_ins_of mi221 dX20_kindOn_13 rfl
theorem u221_13 : ev d 221 13 lo st h = evS (mx_ldI 1) d 221 14 lo st h := ev_s n221_13 rfl rfl
theorem n221_14 : mx_ins 221 14 = some (.iaload, 1) := mx_ins_of mi221 dX20_kindOn_14 rfl
theorem u221_14 : ev d 221 14 lo st h = evI d 221 14 15 lo st h .iaload := ev_u n221_14 rfl
theorem n221_15 : mx_ins 221 15 = some ((.ifCond .ge 7), 3) := mx_ins_of mi221 dX20_kindOn_15 rfl
theorem u221_15 : ev d 221 15 lo st h = evJ .ge d 221 22 18 lo st h := ev_if n221_15 rfl rfl
theorem n221_18 : mx_ins 221 18 = some ((.iconst (-1)), 1) := mx_ins_of mi221 dX20_kindOn_18 rfl
theorem u221_18 : ev d 221 18 lo st h = ev d 221 19 lo (.int (-1) :: st) h := (ev_s (f := mx_push (.int (-1))) n221_18 rfl rfl).trans es_push
theorem n221_19 : mx_ins 221 19 = some ((.goto 5), 3) := mx_ins_of mi221 dX20_kindOn_19 rfl
theorem u221_19 : ev d 221 19 lo st h = ev d 221 24 lo st h := ev_goto n221_19 rfl
theorem n221_22 : mx_ins 221 22 = some ((.bipush 9), 2) := mx_ins_of mi221 dX20_kindOn_22 rfl
theorem u221_22 : ev d 221 22 lo st h = ev d 221 24 lo (.int 9 :: st) h := (ev_s (f := mx_push (.int 9)) n221_22 rfl rfl).trans es_push
theorem n221_24 : mx_ins 221 24 = some (.ireturn, 1) := mx_ins_of mi221 dX20_kindOn_24 rfl
theorem u221_24 : ev d 221 24 lo st h = evI d 221 24 25 lo st h .ireturn := ev_u n221_24 rfl
theorem n221_25 : mx_ins 221 25 = some ((.aload_n 0), 1) := mx_ins_of mi221 dX20_kindOn_25 rfl
theorem u221_25 : ev d 221 25 lo st h = evS (mx_ldA 0) d 221 26 lo st h := ev_s n221_25 rfl rfl
theorem n221_26 : mx_ins 221 26 = some ((.aload_n 0), 1) := mx_ins_of mi221 dX20_kindOn_26 rfl
theorem u221_26 : ev d 221 26 lo st h = evS (mx_ldA 0) d 221 27 lo st h := ev_s n221_26 rfl rfl
theorem n221_27 : mx_ins 221 27 = some ((.getfield 85), 3) := mx_ins_of mi221 dX20_kindOn_27 rfl
theorem u221_27 : ev d 221 27 lo st h = evS (mx_gf 20 85) d 221 30 lo st h := ev_s n221_27 rfl rfl
theorem n221_30 : mx_ins 221 30 = some ((.iload_n 1), 1) := mx_ins_of mi221 dX20_kindOn_30 rfl
theorem u221_30 : ev d 221 30 lo st h = evS (mx_ldI 1) d 221 31 lo st h := ev_s n221_30 rfl rfl
theorem n221_31 : mx_ins 221 31 = some (.iaload, 1) := mx_ins_of mi221 dX20_kindOn_31 rfl
theorem u221_31 : ev d 221 31 lo st h = evI d 221 31 32 lo st h .iaload := ev_u n221_31 rfl
theorem n221_32 : mx_ins 221 32 = some ((.aload_n 0), 1) := mx_ins_of mi221 dX20_kindOn_32 rfl
theorem u221_32 : ev d 221 32 lo st h = evS (mx_ldA 0) d 221 33 lo st h := ev_s n221_32 rfl rfl
theorem n221_33 : mx_ins 221 33 = some ((.getfield 7), 3) := mx_ins_of mi221 dX20_kindOn_33 rfl
theorem u221_33 : ev d 221 33 lo st h = evS (mx_gf 20 7) d 221 36 lo st h := ev_s n221_33 rfl rfl
theorem n221_36 : mx_ins 221 36 = some ((.iconst 5), 1) := mx_ins_of mi221 dX20_kindOn_36 rfl
theorem u221_36 : ev d 221 36 lo st h = ev d 221 37 lo (.int 5 :: st) h := (ev_s (f := mx_push (.int 5)) n221_36 rfl rfl).trans es_push
theorem n221_37 : mx_ins 221 37 = some (.iaload, 1) := mx_ins_of mi221 dX20_kindOn_37 rfl
theorem u221_37 : ev d 221 37 lo st h = evI d 221 37 38 lo st h .iaload := ev_u n221_37 rfl
theorem n221_38 : mx_ins 221 38 = some ((.invokevirtual 249), 3) := mx_ins_of mi221 dX20_kindOn_38 rfl
theorem u221_38 : ev d 221 38 lo st h = evIn d 221 38 41 20 249 3 false lo st h := ev_inv n221_38 rfl rfl ow221 ia20_249
theorem n221_41 : mx_ins 221 41 = some (.ireturn, 1) := mx_ins_of mi221 dX20_kindOn_41 rfl
theorem u221_41 : ev d 221 41 lo st h = evI d 221 41 42 lo st h .ireturn := ev_u n221_41 rfl
theorem mi222 : mx_mi 222 = some (yX20_isUnder, cX20_isUnder, 2, (Option.some Jvm.ClassFile.FieldType.boolean), 20, 2, []) := rfl
theorem ow222 : mx_own 222 = 20 := mx_mi_own mi222
theorem mm222 : mx_max 222 = 2 := mx_mi_max mi222
theorem rt222 : mx_ret 222 = (Option.some Jvm.ClassFile.FieldType.boolean) := mx_mi_ret mi222
theorem hn222 : mx_hnd 222 = [] := mx_mi_hnd mi222
theorem n222_0 : mx_ins 222 0 = some ((.iload_n 1), 1) := mx_ins_of mi222 dX20_isUnder_0 rfl
theorem u222_0 : ev d 222 0 lo st h = evS (mx_ldI 1) d 222 1 lo st h := ev_s n222_0 rfl rfl
theorem n222_1 : mx_ins 222 1 = some ((.ifCond .eq 28), 3) := mx_ins_of mi222 dX20_isUnder_1 rfl
theorem u222_1 : ev d 222 1 lo st h = evJ .eq d 222 29 4 lo st h := ev_if n222_1 rfl rfl
theorem n222_4 : mx_ins 222 4 = some ((.iload_n 1), 1) := mx_ins_of mi222 dX20_isUnder_4 rfl
theorem u222_4 : ev d 222 4 lo st h = evS (mx_ldI 1) d 222 5 lo st h := ev_s n222_4 rfl rfl
theorem n222_5 : mx_ins 222 5 = some ((.iload_n 0), 1) := mx_ins_of mi222 dX20_isUnder_5 rfl
theorem u222_5 : ev d 222 5 lo st h = evS (mx_ldI 0) d 222 6 lo st h := ev_s n222_5 rfl rfl
theorem n222_6 : mx_ins 222 6 = some ((.if_icmp .eq 23), 3) := mx_ins_of mi222 dX20_isUnder_6 rfl
theorem u222_6 : ev d 222 6 lo st h = evK .eq d 222 29 9 lo st h := ev_ic n222_6 rfl rfl
theorem n222_9 : mx_ins 222 9 = some ((.iload_n 1), 1) := mx_ins_of mi222 dX20_isUnder_9 rfl
theorem u222_9 : ev d 222 9 lo st h = evS (mx_ldI 1) d 222 10 lo st h := ev_s n222_9 rfl rfl
theorem n222_10 : mx_ins 222 10 = some ((.iconst 2), 1) := mx_ins_of mi222 dX20_isUnder_10 rfl
theorem u222_10 : ev d 222 10 lo st h = ev d 222 11 lo (.int 2 :: st) h := (ev_s (f := mx_push (.int 2)) n222_10 rfl rfl).trans es_push
theorem n222_11 : mx_ins 222 11 = some ((.if_icmp .ne 8), 3) := mx_ins_of mi222 dX20_isUnder_11 rfl
theorem u222_11 : ev d 222 11 lo st h = evK .ne d 222 19 14 lo st h := ev_ic n222_11 rfl rfl
theorem n222_14 : mx_ins 222 14 = some ((.iload_n 0), 1) := mx_ins_of mi222 dX20_isUnder_14 rfl
theorem u222_14 : ev d 222 14 lo st h = evS (mx_ldI 0) d 222 15 lo st h := ev_s n222_14 rfl rfl
theorem n222_15 : mx_ins 222 15 = some ((.iconst 3), 1) := mx_ins_of mi222 dX20_isUnder_15 rfl
theorem u222_15 : ev d 222 15 lo st h = ev d 222 16 lo (.int 3 :: st) h := (ev_s (f := mx_push (.int 3)) n222_15 rfl rfl).trans es_push
theorem n222_16 : mx_ins 222 16 = some ((.if_icmp .eq 13), 3) := mx_ins_of mi222 dX20_isUnder_16 rfl
theorem u222_16 : ev d 222 16 lo st h = evK .eq d 222 29 19 lo st h := ev_ic n222_16 rfl rfl
theorem n222_19 : mx_ins 222 19 = some ((.iload_n 1), 1) := mx_ins_of mi222 dX20_isUnder_19 rfl
theorem u222_19 : ev d 222 19 lo st h = evS (mx_ldI 1) d 222 20 lo st h := ev_s n222_19 rfl rfl
theorem n222_20 : mx_ins 222 20 = some ((.iconst 1), 1) := mx_ins_of mi222 dX20_isUnder_20 rfl
theorem u222_20 : ev d 222 20 lo st h = ev d 222 21 lo (.int 1 :: st) h := (ev_s (f := mx_push (.int 1)) n222_20 rfl rfl).trans es_push
theorem n222_21 : mx_ins 222 21 = some ((.if_icmp .ne 12), 3) := mx_ins_of mi222 dX20_isUnder_21 rfl
theorem u222_21 : ev d 222 21 lo st h = evK .ne d 222 33 24 lo st h := ev_ic n222_21 rfl rfl
theorem n222_24 : mx_ins 222 24 = some ((.iload_n 0), 1) := mx_ins_of mi222 dX20_isUnder_24 rfl
theorem u222_24 : ev d 222 24 lo st h = evS (mx_ldI 0) d 222 25 lo st h := ev_s n222_24 rfl rfl
theorem n222_25 : mx_ins 222 25 = some ((.iconst 4), 1) := mx_ins_of mi222 dX20_isUnder_25 rfl
theorem u222_25 : ev d 222 25 lo st h = ev d 222 26 lo (.int 4 :: st) h := (ev_s (f := mx_push (.int 4)) n222_25 rfl rfl).trans es_push
theorem n222_26 : mx_ins 222 26 = some ((.if_icmp .ne 7), 3) := mx_ins_of mi222 dX20_isUnder_26 rfl
theorem u222_26 : ev d 222 26 lo st h = evK .ne d 222 33 29 lo st h := ev_ic n222_26 rfl rfl
theorem n222_29 : mx_ins 222 29 = some ((.iconst 1), 1) := mx_ins_of mi222 dX20_isUnder_29 rfl
theorem u222_29 : ev d 222 29 lo st h = ev d 222 30 lo (.int 1 :: st) h := (ev_s (f := mx_push (.int 1)) n222_29 rfl rfl).trans es_push
theorem n222_30 : mx_ins 222 30 = some ((.goto 4), 3) := mx_ins_of mi222 dX20_isUnder_30 rfl
theorem u222_30 : ev d 222 30 lo st h = ev d 222 34 lo st h := ev_goto n222_30 rfl
theorem n222_33 : mx_ins 222 33 = some ((.iconst 0), 1) := mx_ins_of mi222 dX20_isUnder_33 rfl
theorem u222_33 : ev d 222 33 lo st h = ev d 222 34 lo (.int 0 :: st) h := (ev_s (f := mx_push (.int 0)) n222_33 rfl rfl).trans es_push
theorem n222_34 : mx_ins 222 34 = some (.ireturn, 1) := mx_ins_of mi222 dX20_isUnder_34 rfl
theorem u222_34 : ev d 222 34 lo st h = evI d 222 34 35 lo st h .ireturn := ev_u n222_34 rfl
theorem mi223 : mx_mi 223 = some (yX20_act, cX20_act, 6, (Option.some Jvm.ClassFile.FieldType.int), 20, 4, []) := rfl
theorem ow223 : mx_own 223 = 20 := mx_mi_own mi223
theorem mm223 : mx_max 223 = 6 := mx_mi_max mi223
theorem rt223 : mx_ret 223 = (Option.some Jvm.ClassFile.FieldType.int) := mx_mi_ret mi223
theorem hn223 : mx_hnd 223 = [] := mx_mi_hnd mi223
theorem n223_0 : mx_ins 223 0 = some ((.aload_n 0), 1) := mx_ins_of mi223 dX20_act_0 rfl
theorem u223_0 : ev d 223 0 lo st h = evS (mx_ldA 0) d 223 1 lo st h := ev_s n223_0 rfl rfl
theorem n223_1 : mx_ins 223 1 = some ((.iconst 0), 1) := mx_ins_of mi223 dX20_act_1 rfl
theorem u223_1 : ev d 223 1 lo st h = ev d 223 2 lo (.int 0 :: st) h := (ev_s (f := mx_push (.int 0)) n223_1 rfl rfl).trans es_push
theorem n223_2 : mx_ins 223 2 = some ((.putfield 350), 3) := mx_ins_of mi223 dX20_act_2 rfl
theorem u223_2 : ev d 223 2 lo st h = evS (mx_pf 20 350 false) d 223 5 lo st h := ev_s n223_2 rfl rfl
theorem n223_5 : mx_ins 223 5 = some ((.iload_n 1), 1) := mx_ins_of mi223 dX20_act_5 rfl
theorem u223_5 : ev d 223 5 lo st h = evS (mx_ldI 1) d 223 6 lo st h := ev_s n223_5 rfl rfl
theorem n223_6 : mx_ins 223 6 = some ((.invokestatic 331), 3) := mx_ins_of mi223 dX20_act_6 rfl
theorem u223_6 : ev d 223 6 lo st h = evIn d 223 6 9 20 331 1 true lo st h := ev_inv n223_6 rfl rfl ow223 ia20_331
theorem n223_9 : mx_ins 223 9 = some ((.ifCond .eq 11), 3) := mx_ins_of mi223 dX20_act_9 rfl
theorem u223_9 : ev d 223 9 lo st h = evJ .eq d 223 20 12 lo st h := ev_if n223_9 rfl rfl
theorem n223_12 : mx_ins 223 12 = some ((.aload_n 0), 1) := mx_ins_of mi223 dX20_act_12 rfl
theorem u223_12 : ev d 223 12 lo st h = evS (mx_ldA 0) d 223 13 lo st h := ev_s n223_12 rfl rfl
theorem n223_13 : mx_ins 223 13 = some ((.iload_n 1), 1) := mx_ins_of mi223 dX20_act_13 rfl
theorem u223_13 : ev d 223 13 lo st h = evS (mx_ldI 1) d 223 14 lo st h := ev_s n223_13 rfl rfl
theorem n223_14 : mx_ins 223 14 = some ((.invokevirtual 344), 3) := mx_ins_of mi223 dX20_act_14 rfl
theorem u223_14 : ev d 223 14 lo st h = evIn d 223 14 17 20 344 2 false lo st h := ev_inv n223_14 rfl rfl ow223 ia20_344
theorem n223_17 : mx_ins 223 17 = some ((.goto 4), 3) := mx_ins_of mi223 dX20_act_17 rfl
theorem u223_17 : ev d 223 17 lo st h = ev d 223 21 lo st h := ev_goto n223_17 rfl
theorem n223_20 : mx_ins 223 20 = some ((.iconst (-1)), 1) := mx_ins_of mi223 dX20_act_20 rfl
theorem u223_20 : ev d 223 20 lo st h = ev d 223 21 lo (.int (-1) :: st) h := (ev_s (f := mx_push (.int (-1))) n223_20 rfl rfl).trans es_push
theorem n223_21 : mx_ins 223 21 = some ((.istore 4), 2) := mx_ins_of mi223 dX20_act_21 rfl
theorem u223_21 : ev d 223 21 lo st h = evS (mx_stI 4) d 223 23 lo st h := ev_s n223_21 rfl rfl
theorem n223_23 : mx_ins 223 23 = some ((.iload_n 2), 1) := mx_ins_of mi223 dX20_act_23 rfl
theorem u223_23 : ev d 223 23 lo st h = evS (mx_ldI 2) d 223 24 lo st h := ev_s n223_23 rfl rfl
theorem n223_24 : mx_ins 223 24 = some ((.iconst 0), 1) := mx_ins_of mi223 dX20_act_24 rfl
theorem u223_24 : ev d 223 24 lo st h = ev d 223 25 lo (.int 0 :: st) h := (ev_s (f := mx_push (.int 0)) n223_24 rfl rfl).trans es_push
theorem n223_25 : mx_ins 223 25 = some ((.iconst 3), 1) := mx_ins_of mi223 dX20_act_25 rfl
theorem u223_25 : ev d 223 25 lo st h = ev d 223 26 lo (.int 3 :: st) h := (ev_s (f := mx_push (.int 3)) n223_25 rfl rfl).trans es_push
theorem n223_26 : mx_ins 223 26 = some ((.invokestatic 100), 3) := mx_ins_of mi223 dX20_act_26 rfl
theorem u223_26 : ev d 223 26 lo st h = evIn d 223 26 29 20 100 3 true lo st h := ev_inv n223_26 rfl rfl ow223 ia20_100
theorem n223_29 : mx_ins 223 29 = some ((.ifCond .eq 13), 3) := mx_ins_of mi223 dX20_act_29 rfl
theorem u223_29 : ev d 223 29 lo st h = evJ .eq d 223 42 32 lo st h := ev_if n223_29 rfl rfl
theorem n223_32 : mx_ins 223 32 = some ((.iload 4), 2) := mx_ins_of mi223 dX20_act_32 rfl
theorem u223_32 : ev d 223 32 lo st h = evS (mx_ldI 4) d 223 34 lo st h := ev_s n223_32 rfl rfl
theorem n223_34 : mx_ins 223 34 = some ((.iconst 0), 1) := mx_ins_of mi223 dX20_act_34 rfl
theorem u223_34 : ev d 223 34 lo st h = ev d 223 35 lo (.int 0 :: st) h := (ev_s (f := mx_push (.int 0)) n223_34 rfl rfl).trans es_push
theorem n223_35 : mx_ins 223 35 = some ((.iconst 5), 1) := mx_ins_of mi223 dX20_act_35 rfl
theorem u223_35 : ev d 223 35 lo st h = ev d 223 36 lo (.int 5 :: st) h := (ev_s (f := mx_push (.int 5)) n223_35 rfl rfl).trans es_push
theorem n223_36 : mx_ins 223 36 = some ((.invokestatic 100), 3) := mx_ins_of mi223 dX20_act_36 rfl
theorem u223_36 : ev d 223 36 lo st h = evIn d 223 36 39 20 100 3 true lo st h := ev_inv n223_36 rfl rfl ow223 ia20_100
theorem n223_39 : mx_ins 223 39 = some ((.ifCond .ne 5), 3) := mx_ins_of mi223 dX20_act_39 rfl
theorem u223_39 : ev d 223 39 lo st h = evJ .ne d 223 44 42 lo st h := ev_if n223_39 rfl rfl
theorem n223_42 : mx_ins 223 42 = some ((.iconst 0), 1) := mx_ins_of mi223 dX20_act_42 rfl
theorem u223_42 : ev d 223 42 lo st h = ev d 223 43 lo (.int 0 :: st) h := (ev_s (f := mx_push (.int 0)) n223_42 rfl rfl).trans es_push
theorem n223_43 : mx_ins 223 43 = some (.ireturn, 1) := mx_ins_of mi223 dX20_act_43 rfl
theorem u223_43 : ev d 223 43 lo st h = evI d 223 43 44 lo st h .ireturn := ev_u n223_43 rfl
theorem n223_44 : mx_ins 223 44 = some ((.aload_n 0), 1) := mx_ins_of mi223 dX20_act_44 rfl
theorem u223_44 : ev d 223 44 lo st h = evS (mx_ldA 0) d 223 45 lo st h := ev_s n223_44 rfl rfl
theorem n223_45 : mx_ins 223 45 = some ((.iload 4), 2) := mx_ins_of mi223 dX20_act_45 rfl
theorem u223_45 : ev d 223 45 lo st h = evS (mx_ldI 4) d 223 47 lo st h := ev_s n223_45 rfl rfl
theorem n223_47 : mx_ins 223 47 = some ((.putfield 362), 3) := mx_ins_of mi223 dX20_act_47 rfl
theorem u223_47 : ev d 223 47 lo st h = evS (mx_pf 20 362 false) d 223 50 lo st h := ev_s n223_47 rfl rfl
theorem n223_50 : mx_ins 223 50 = some ((.aload_n 0), 1) := mx_ins_of mi223 dX20_act_50 rfl
theorem u223_50 : ev d 223 50 lo st h = evS (mx_ldA 0) d 223 51 lo st h := ev_s n223_50 rfl rfl
theorem n223_51 : mx_ins 223 51 = some ((.aload_n 0), 1) := mx_ins_of mi223 dX20_act_51 rfl
theorem u223_51 : ev d 223 51 lo st h = evS (mx_ldA 0) d 223 52 lo st h := ev_s n223_51 rfl rfl
theorem n223_52 : mx_ins 223 52 = some ((.getfield 85), 3) := mx_ins_of mi223 dX20_act_52 rfl
theorem u223_52 : ev d 223 52 lo st h = evS (mx_gf 20 85) d 223 55 lo st h := ev_s n223_52 rfl rfl
theorem n223_55 : mx_ins 223 55 = some ((.iload_n 1), 1) := mx_ins_of mi223 dX20_act_55 rfl
theorem u223_55 : ev d 223 55 lo st h = evS (mx_ldI 1) d 223 56 lo st h := ev_s n223_55 rfl rfl
theorem n223_56 : mx_ins 223 56 = some (.iaload, 1) := mx_ins_of mi223 dX20_act_56 rfl
theorem u223_56 : ev d 223 56 lo st h = evI d 223 56 57 lo st h .iaload := ev_u n223_56 rfl
theorem n223_57 : mx_ins 223 57 = some ((.putfield 356), 3) := mx_ins_of mi223 dX20_act_57 rfl
theorem u223_57 : ev d 223 57 lo st h = evS (mx_pf 20 356 false) d 223 60 lo st h := ev_s n223_57 rfl rfl
theorem n223_60 : mx_ins 223 60 = some ((.aload_n 0), 1) := mx_ins_of mi223 dX20_act_60 rfl
theorem u223_60 : ev d 223 60 lo st h = evS (mx_ldA 0) d 223 61 lo st h := ev_s n223_60 rfl rfl
theorem n223_61 : mx_ins 223 61 = some ((.aload_n 0), 1) := mx_ins_of mi223 dX20_act_61 rfl
theorem u223_61 : ev d 223 61 lo st h = evS (mx_ldA 0) d 223 62 lo st h := ev_s n223_61 rfl rfl
theorem n223_62 : mx_ins 223 62 = some ((.getfield 22), 3) := mx_ins_of mi223 dX20_act_62 rfl
theorem u223_62 : ev d 223 62 lo st h = evS (mx_gf 20 22) d 223 65 lo st h := ev_s n223_62 rfl rfl
theorem n223_65 : mx_ins 223 65 = some ((.aload_n 0), 1) := mx_ins_of mi223 dX20_act_65 rfl
theorem u223_65 : ev d 223 65 lo st h = evS (mx_ldA 0) d 223 66 lo st h := ev_s n223_65 rfl rfl
theorem n223_66 : mx_ins 223 66 = some ((.getfield 356), 3) := mx_ins_of mi223 dX20_act_66 rfl
theorem u223_66 : ev d 223 66 lo st h = evS (mx_gf 20 356) d 223 69 lo st h := ev_s n223_66 rfl rfl
theorem n223_69 : mx_ins 223 69 = some (.iaload, 1) := mx_ins_of mi223 dX20_act_69 rfl
theorem u223_69 : ev d 223 69 lo st h = evI d 223 69 70 lo st h .iaload := ev_u n223_69 rfl
theorem n223_70 : mx_ins 223 70 = some ((.putfield 374), 3) := mx_ins_of mi223 dX20_act_70 rfl
theorem u223_70 : ev d 223 70 lo st h = evS (mx_pf 20 374 false) d 223 73 lo st h := ev_s n223_70 rfl rfl
theorem n223_73 : mx_ins 223 73 = some ((.aload_n 0), 1) := mx_ins_of mi223 dX20_act_73 rfl
theorem u223_73 : ev d 223 73 lo st h = evS (mx_ldA 0) d 223 74 lo st h := ev_s n223_73 rfl rfl
theorem n223_74 : mx_ins 223 74 = some ((.iconst 0), 1) := mx_ins_of mi223 dX20_act_74 rfl
theorem u223_74 : ev d 223 74 lo st h = ev d 223 75 lo (.int 0 :: st) h := (ev_s (f := mx_push (.int 0)) n223_74 rfl rfl).trans es_push
theorem n223_75 : mx_ins 223 75 = some ((.putfield 377), 3) := mx_ins_of mi223 dX20_act_75 rfl
theorem u223_75 : ev d 223 75 lo st h = evS (mx_pf 20 377 false) d 223 78 lo st h := ev_s n223_75 rfl rfl
theorem n223_78 : mx_ins 223 78 = some ((.iload_n 2), 1) := mx_ins_of mi223 dX20_act_78 rfl
theorem u223_78 : ev d 223 78 lo st h = evS (mx_ldI 2) d 223 79 lo st h := ev_s n223_78 rfl rfl
theorem n223_79 : mx_ins 223 79 = some ((.ifCond .ne 11), 3) := mx_ins_of mi223 dX20_act_79 rfl
theorem u223_79 : ev d 223 79 lo st h = evJ .ne d 223 90 82 lo st h := ev_if n223_79 rfl rfl
theorem n223_82 : mx_ins 223 82 = some ((.aload_n 0), 1) := mx_ins_of mi223 dX20_act_82 rfl
theorem u223_82 : ev d 223 82 lo st h = evS (mx_ldA 0) d 223 83 lo st h := ev_s n223_82 rfl rfl
theorem n223_83 : mx_ins 223 83 = some ((.iload_n 3), 1) := mx_ins_of mi223 dX20_act_83 rfl
theorem u223_83 : ev d 223 83 lo st h = evS (mx_ldI 3) d 223 84 lo st h := ev_s n223_83 rfl rfl
theorem n223_84 : mx_ins 223 84 = some ((.invokevirtual 368), 3) := mx_ins_of mi223 dX20_act_84 rfl
theorem u223_84 : ev d 223 84 lo st h = evIn d 223 84 87 20 368 2 false lo st h := ev_inv n223_84 rfl rfl ow223 ia20_368
theorem n223_87 : mx_ins 223 87 = some ((.goto 34), 3) := mx_ins_of mi223 dX20_act_87 rfl
theorem u223_87 : ev d 223 87 lo st h = ev d 223 121 lo st h := ev_goto n223_87 rfl
theorem n223_90 : mx_ins 223 90 = some ((.iload_n 2), 1) := mx_ins_of mi223 dX20_act_90 rfl
theorem u223_90 : ev d 223 90 lo st h = evS (mx_ldI 2) d 223 91 lo st h := ev_s n223_90 rfl rfl
theorem n223_91 : mx_ins 223 91 = some ((.iconst 1), 1) := mx_ins_of mi223 dX20_act_91 rfl
theorem u223_91 : ev d 223 91 lo st h = ev d 223 92 lo (.int 1 :: st) h := (ev_s (f := mx_push (.int 1)) n223_91 rfl rfl).trans es_push
theorem n223_92 : mx_ins 223 92 = some ((.if_icmp .ne 11), 3) := mx_ins_of mi223 dX20_act_92 rfl
theorem u223_92 : ev d 223 92 lo st h = evK .ne d 223 103 95 lo st h := ev_ic n223_92 rfl rfl
theorem n223_95 : mx_ins 223 95 = some ((.aload_n 0), 1) := mx_ins_of mi223 dX20_act_95 rfl
theorem u223_95 : ev d 223 95 lo st h = evS (mx_ldA 0) d 223 96 lo st h := ev_s n223_95 rfl rfl
theorem n223_96 : mx_ins 223 96 = some ((.iload_n 3), 1) := mx_ins_of mi223 dX20_act_96 rfl
theorem u223_96 : ev d 223 96 lo st h = evS (mx_ldI 3) d 223 97 lo st h := ev_s n223_96 rfl rfl
theorem n223_97 : mx_ins 223 97 = some ((.invokevirtual 383), 3) := mx_ins_of mi223 dX20_act_97 rfl
theorem u223_97 : ev d 223 97 lo st h = evIn d 223 97 100 20 383 2 false lo st h := ev_inv n223_97 rfl rfl ow223 ia20_383
theorem n223_100 : mx_ins 223 100 = some ((.goto 21), 3) := mx_ins_of mi223 dX20_act_100 rfl
theorem u223_100 : ev d 223 100 lo st h = ev d 223 121 lo st h := ev_goto n223_100 rfl
theorem n223_103 : mx_ins 223 103 = some ((.iload_n 2), 1) := mx_ins_of mi223 dX20_act_103 rfl
theorem u223_103 : ev d 223 103 lo st h = evS (mx_ldI 2) d 223 104 lo st h := ev_s n223_103 rfl rfl
theorem n223_104 : mx_ins 223 104 = some ((.iconst 2), 1) := mx_ins_of mi223 dX20_act_104 rfl
theorem u223_104 : ev d 223 104 lo st h = ev d 223 105 lo (.int 2 :: st) h := (ev_s (f := mx_push (.int 2)) n223_104 rfl rfl).trans es_push
theorem n223_105 : mx_ins 223 105 = some ((.if_icmp .ne 11), 3) := mx_ins_of mi223 dX20_act_105 rfl
theorem u223_105 : ev d 223 105 lo st h = evK .ne d 223 116 108 lo st h := ev_ic n223_105 rfl rfl
theorem n223_108 : mx_ins 223 108 = some ((.aload_n 0), 1) := mx_ins_of mi223 dX20_act_108 rfl
theorem u223_108 : ev d 223 108 lo st h = evS (mx_ldA 0) d 223 109 lo st h := ev_s n223_108 rfl rfl
theorem n223_109 : mx_ins 223 109 = some ((.iload_n 3), 1) := mx_ins_of mi223 dX20_act_109 rfl
theorem u223_109 : ev d 223 109 lo st h = evS (mx_ldI 3) d 223 110 lo st h := ev_s n223_109 rfl rfl
theorem n223_110 : mx_ins 223 110 = some ((.invokevirtual 389), 3) := mx_ins_of mi223 dX20_act_110 rfl
theorem u223_110 : ev d 223 110 lo st h = evIn d 223 110 113 20 389 2 false lo st h := ev_inv n223_110 rfl rfl ow223 ia20_389
theorem n223_113 : mx_ins 223 113 = some ((.goto 8), 3) := mx_ins_of mi223 dX20_act_113 rfl
theorem u223_113 : ev d 223 113 lo st h = ev d 223 121 lo st h := ev_goto n223_113 rfl
theorem n223_116 : mx_ins 223 116 = some ((.aload_n 0), 1) := mx_ins_of mi223 dX20_act_116 rfl
theorem u223_116 : ev d 223 116 lo st h = evS (mx_ldA 0) d 223 117 lo st h := ev_s n223_116 rfl rfl
theorem n223_117 : mx_ins 223 117 = some ((.iload_n 3), 1) := mx_ins_of mi223 dX20_act_117 rfl
theorem u223_117 : ev d 223 117 lo st h = evS (mx_ldI 3) d 223 118 lo st h := ev_s n223_117 rfl rfl
theorem n223_118 : mx_ins 223 118 = some ((.invokevirtual 392), 3) := mx_ins_of mi223 dX20_act_118 rfl
theorem u223_118 : ev d 223 118 lo st h = evIn d 223 118 121 20 392 2 false lo st h := ev_inv n223_118 rfl rfl ow223 ia20_392
theorem n223_121 : mx_ins 223 121 = some ((.istore 5), 2) := mx_ins_of mi223 dX20_act_121 rfl
theorem u223_121 : ev d 223 121 lo st h = evS (mx_stI 5) d 223 123 lo st h := ev_s n223_121 rfl rfl
theorem n223_123 : mx_ins 223 123 = some ((.aload_n 0), 1) := mx_ins_of mi223 dX20_act_123 rfl
theorem u223_123 : ev d 223 123 lo st h = evS (mx_ldA 0) d 223 124 lo st h := ev_s n223_123 rfl rfl
theorem n223_124 : mx_ins 223 124 = some ((.getfield 377), 3) := mx_ins_of mi223 dX20_act_124 rfl
theorem u223_124 : ev d 223 124 lo st h = evS (mx_gf 20 377) d 223 127 lo st h := ev_s n223_124 rfl rfl
theorem n223_127 : mx_ins 223 127 = some ((.ifCond .eq 8), 3) := mx_ins_of mi223 dX20_act_127 rfl
theorem u223_127 : ev d 223 127 lo st h = evJ .eq d 223 135 130 lo st h := ev_if n223_127 rfl rfl
theorem n223_130 : mx_ins 223 130 = some ((.bipush (-15)), 2) := mx_ins_of mi223 dX20_act_130 rfl
theorem u223_130 : ev d 223 130 lo st h = ev d 223 132 lo (.int (-15) :: st) h := (ev_s (f := mx_push (.int (-15))) n223_130 rfl rfl).trans es_push
theorem n223_132 : mx_ins 223 132 = some ((.goto 5), 3) := mx_ins_of mi223 dX20_act_132 rfl
theorem u223_132 : ev d 223 132 lo st h = ev d 223 137 lo st h := ev_goto n223_132 rfl
theorem n223_135 : mx_ins 223 135 = some ((.iload 5), 2) := mx_ins_of mi223 dX20_act_135 rfl
theorem u223_135 : ev d 223 135 lo st h = evS (mx_ldI 5) d 223 137 lo st h := ev_s n223_135 rfl rfl
theorem n223_137 : mx_ins 223 137 = some (.ireturn, 1) := mx_ins_of mi223 dX20_act_137 rfl
theorem u223_137 : ev d 223 137 lo st h = evI d 223 137 138 lo st h .ireturn := ev_u n223_137 rfl
theorem mi224 : mx_mi 224 = some (yX20_spendsIt, cX20_spendsIt, 2, (Option.some Jvm.ClassFile.FieldType.int), 20, 2, []) := rfl
theorem ow224 : mx_own 224 = 20 := mx_mi_own mi224
theorem mm224 : mx_max 224 = 2 := mx_mi_max mi224
theorem rt224 : mx_ret 224 = (Option.some Jvm.ClassFile.FieldType.int) := mx_mi_ret mi224
theorem hn224 : mx_hnd 224 = [] := mx_mi_hnd mi224
theorem n224_0 : mx_ins 224 0 = some ((.aload_n 0), 1) := mx_ins_of mi224 dX20_spendsIt_0 rfl
theorem u224_0 : ev d 224 0 lo st h = evS (mx_ldA 0) d 224 1 lo st h := ev_s n224_0 rfl rfl
theorem n224_1 : mx_ins 224 1 = some ((.getfield 362), 3) := mx_ins_of mi224 dX20_spendsIt_1 rfl
theorem u224_1 : ev d 224 1 lo st h = evS (mx_gf 20 362) d 224 4 lo st h := ev_s n224_1 rfl rfl
theorem n224_4 : mx_ins 224 4 = some ((.tableswitch 65 2 4 #[28, 34, 48]), 28) := mx_ins_of mi224 dX20_spendsIt_4 rfl
theorem u224_4 : ev d 224 4 lo st h = evTS d 224 [(2, 32), (3, 38), (4, 52)] 69 lo st h := ev_ts n224_4 rfl rfl
theorem n224_32 : mx_ins 224 32 = some ((.aload_n 0), 1) := mx_ins_of mi224 dX20_spendsIt_32 rfl
theorem u224_32 : ev d 224 32 lo st h = evS (mx_ldA 0) d 224 33 lo st h := ev_s n224_32 rfl rfl
theorem n224_33 : mx_ins 224 33 = some ((.iload_n 1), 1) := mx_ins_of mi224 dX20_spendsIt_33 rfl
theorem u224_33 : ev d 224 33 lo st h = evS (mx_ldI 1) d 224 34 lo st h := ev_s n224_33 rfl rfl
theorem n224_34 : mx_ins 224 34 = some ((.invokevirtual 365), 3) := mx_ins_of mi224 dX20_spendsIt_34 rfl
theorem u224_34 : ev d 224 34 lo st h = evIn d 224 34 37 20 365 2 false lo st h := ev_inv n224_34 rfl rfl ow224 ia20_365
theorem n224_37 : mx_ins 224 37 = some (.ireturn, 1) := mx_ins_of mi224 dX20_spendsIt_37 rfl
theorem u224_37 : ev d 224 37 lo st h = evI d 224 37 38 lo st h .ireturn := ev_u n224_37 rfl
theorem n224_38 : mx_ins 224 38 = some ((.aload_n 0), 1) := mx_ins_of mi224 dX20_spendsIt_38 rfl
theorem u224_38 : ev d 224 38 lo st h = evS (mx_ldA 0) d 224 39 lo st h := ev_s n224_38 rfl rfl
theorem n224_39 : mx_ins 224 39 = some ((.bipush 40), 2) := mx_ins_of mi224 dX20_spendsIt_39 rfl
theorem u224_39 : ev d 224 39 lo st h = ev d 224 41 lo (.int 40 :: st) h := (ev_s (f := mx_push (.int 40)) n224_39 rfl rfl).trans es_push
theorem n224_41 : mx_ins 224 41 = some ((.invokevirtual 353), 3) := mx_ins_of mi224 dX20_spendsIt_41 rfl
theorem u224_41 : ev d 224 41 lo st h = evIn d 224 41 44 20 353 2 false lo st h := ev_inv n224_41 rfl rfl ow224 ia20_353
theorem n224_44 : mx_ins 224 44 = some ((.iconst 0), 1) := mx_ins_of mi224 dX20_spendsIt_44 rfl
theorem u224_44 : ev d 224 44 lo st h = ev d 224 45 lo (.int 0 :: st) h := (ev_s (f := mx_push (.int 0)) n224_44 rfl rfl).trans es_push
theorem n224_45 : mx_ins 224 45 = some ((.aload_n 0), 1) := mx_ins_of mi224 dX20_spendsIt_45 rfl
theorem u224_45 : ev d 224 45 lo st h = evS (mx_ldA 0) d 224 46 lo st h := ev_s n224_45 rfl rfl
theorem n224_46 : mx_ins 224 46 = some ((.iload_n 1), 1) := mx_ins_of mi224 dX20_spendsIt_46 rfl
theorem u224_46 : ev d 224 46 lo st h = evS (mx_ldI 1) d 224 47 lo st h := ev_s n224_46 rfl rfl
theorem n224_47 : mx_ins 224 47 = some ((.invokevirtual 365), 3) := mx_ins_of mi224 dX20_spendsIt_47 rfl
theorem u224_47 : ev d 224 47 lo st h = evIn d 224 47 50 20 365 2 false lo st h := ev_inv n224_47 rfl rfl ow224 ia20_365
theorem n224_50 : mx_ins 224 50 = some (.isub, 1) := mx_ins_of mi224 dX20_spendsIt_50 rfl
theorem u224_50 : ev d 224 50 lo st h = evI d 224 50 51 lo st h .isub := ev_u n224_50 rfl
theorem n224_51 : mx_ins 224 51 = some (.ireturn, 1) := mx_ins_of mi224 dX20_spendsIt_51 rfl
theorem u224_51 : ev d 224 51 lo st h = evI d 224 51 52 lo st h .ireturn := ev_u n224_51 rfl
theorem n224_52 : mx_ins 224 52 = some ((.aload_n 0), 1) := mx_ins_of mi224 dX20_spendsIt_52 rfl
theorem u224_52 : ev d 224 52 lo st h = evS (mx_ldA 0) d 224 53 lo st h := ev_s n224_52 rfl rfl
theorem n224_53 : mx_ins 224 53 = some ((.bipush 51), 2) := mx_ins_of mi224 dX20_spendsIt_53 rfl
theorem u224_53 : ev d 224 53 lo st h = ev d 224 55 lo (.int 51 :: st) h := (ev_s (f := mx_push (.int 51)) n224_53 rfl rfl).trans es_push
theorem n224_55 : mx_ins 224 55 = some ((.invokevirtual 353), 3) := mx_ins_of mi224 dX20_spendsIt_55 rfl
theorem u224_55 : ev d 224 55 lo st h = evIn d 224 55 58 20 353 2 false lo st h := ev_inv n224_55 rfl rfl ow224 ia20_353
theorem n224_58 : mx_ins 224 58 = some ((.aload_n 0), 1) := mx_ins_of mi224 dX20_spendsIt_58 rfl
theorem u224_58 : ev d 224 58 lo st h = evS (mx_ldA 0) d 224 59 lo st h := ev_s n224_58 rfl rfl
theorem n224_59 : mx_ins 224 59 = some ((.iload_n 1), 1) := mx_ins_of mi224 dX20_spendsIt_59 rfl
theorem u224_59 : ev d 224 59 lo st h = evS (mx_ldI 1) d 224 60 lo st h := ev_s n224_59 rfl rfl
theorem n224_60 : mx_ins 224 60 = some ((.invokevirtual 359), 3) := mx_ins_of mi224 dX20_spendsIt_60 rfl
theorem u224_60 : ev d 224 60 lo st h = evIn d 224 60 63 20 359 2 false lo st h := ev_inv n224_60 rfl rfl ow224 ia20_359
theorem n224_63 : mx_ins 224 63 = some ((.aload_n 0), 1) := mx_ins_of mi224 dX20_spendsIt_63 rfl
theorem u224_63 : ev d 224 63 lo st h = evS (mx_ldA 0) d 224 64 lo st h := ev_s n224_63 rfl rfl
theorem n224_64 : mx_ins 224 64 = some ((.getfield 356), 3) := mx_ins_of mi224 dX20_spendsIt_64 rfl
theorem u224_64 : ev d 224 64 lo st h = evS (mx_gf 20 356) d 224 67 lo st h := ev_s n224_64 rfl rfl
theorem n224_67 : mx_ins 224 67 = some (.isub, 1) := mx_ins_of mi224 dX20_spendsIt_67 rfl
theorem u224_67 : ev d 224 67 lo st h = evI d 224 67 68 lo st h .isub := ev_u n224_67 rfl
theorem n224_68 : mx_ins 224 68 = some (.ireturn, 1) := mx_ins_of mi224 dX20_spendsIt_68 rfl
theorem u224_68 : ev d 224 68 lo st h = evI d 224 68 69 lo st h .ireturn := ev_u n224_68 rfl
theorem n224_69 : mx_ins 224 69 = some ((.aload_n 0), 1) := mx_ins_of mi224 dX20_spendsIt_69 rfl
theorem u224_69 : ev d 224 69 lo st h = evS (mx_ldA 0) d 224 70 lo st h := ev_s n224_69 rfl rfl
theorem n224_70 : mx_ins 224 70 = some ((.iload_n 1), 1) := mx_ins_of mi224 dX20_spendsIt_70 rfl
theorem u224_70 : ev d 224 70 lo st h = evS (mx_ldI 1) d 224 71 lo st h := ev_s n224_70 rfl rfl
theorem n224_71 : mx_ins 224 71 = some ((.invokevirtual 359), 3) := mx_ins_of mi224 dX20_spendsIt_71 rfl
theorem u224_71 : ev d 224 71 lo st h = evIn d 224 71 74 20 359 2 false lo st h := ev_inv n224_71 rfl rfl ow224 ia20_359
theorem n224_74 : mx_ins 224 74 = some (.ireturn, 1) := mx_ins_of mi224 dX20_spendsIt_74 rfl
theorem u224_74 : ev d 224 74 lo st h = evI d 224 74 75 lo st h .ireturn := ev_u n224_74 rfl
theorem mi225 : mx_mi 225 = some (yX20_mildSpends, cX20_mildSpends, 2, (Option.some Jvm.ClassFile.FieldType.int), 20, 2, []) := rfl
theorem ow225 : mx_own 225 = 20 := mx_mi_own mi225
theorem mm225 : mx_max 225 = 2 := mx_mi_max mi225
theorem rt225 : mx_ret 225 = (Option.some Jvm.ClassFile.FieldType.int) := mx_mi_ret mi225
theorem hn225 : mx_hnd 225 = [] := mx_mi_hnd mi225
theorem n225_0 : mx_ins 225 0 = some ((.aload_n 0), 1) := mx_ins_of mi225 dX20_mildSpends_0 rfl
theorem u225_0 : ev d 225 0 lo st h = evS (mx_ldA 0) d 225 1 lo st h := ev_s n225_0 rfl rfl
theorem n225_1 : mx_ins 225 1 = some ((.bipush 30), 2) := mx_ins_of mi225 dX20_mildSpends_1 rfl
theorem u225_1 : ev d 225 1 lo st h = ev d 225 3 lo (.int 30 :: st) h := (ev_s (f := mx_push (.int 30)) n225_1 rfl rfl).trans es_push
theorem n225_3 : mx_ins 225 3 = some ((.invokevirtual 353), 3) := mx_ins_of mi225 dX20_mildSpends_3 rfl
theorem u225_3 : ev d 225 3 lo st h = evIn d 225 3 6 20 353 2 false lo st h := ev_inv n225_3 rfl rfl ow225 ia20_353
theorem n225_6 : mx_ins 225 6 = some ((.aload_n 0), 1) := mx_ins_of mi225 dX20_mildSpends_6 rfl
theorem u225_6 : ev d 225 6 lo st h = evS (mx_ldA 0) d 225 7 lo st h := ev_s n225_6 rfl rfl
theorem n225_7 : mx_ins 225 7 = some ((.iload_n 1), 1) := mx_ins_of mi225 dX20_mildSpends_7 rfl
theorem u225_7 : ev d 225 7 lo st h = evS (mx_ldI 1) d 225 8 lo st h := ev_s n225_7 rfl rfl
theorem n225_8 : mx_ins 225 8 = some ((.invokevirtual 359), 3) := mx_ins_of mi225 dX20_mildSpends_8 rfl
theorem u225_8 : ev d 225 8 lo st h = evIn d 225 8 11 20 359 2 false lo st h := ev_inv n225_8 rfl rfl ow225 ia20_359
theorem n225_11 : mx_ins 225 11 = some ((.iconst 3), 1) := mx_ins_of mi225 dX20_mildSpends_11 rfl
theorem u225_11 : ev d 225 11 lo st h = ev d 225 12 lo (.int 3 :: st) h := (ev_s (f := mx_push (.int 3)) n225_11 rfl rfl).trans es_push
theorem n225_12 : mx_ins 225 12 = some (.imul, 1) := mx_ins_of mi225 dX20_mildSpends_12 rfl
theorem u225_12 : ev d 225 12 lo st h = evI d 225 12 13 lo st h .imul := ev_u n225_12 rfl
theorem n225_13 : mx_ins 225 13 = some (.ireturn, 1) := mx_ins_of mi225 dX20_mildSpends_13 rfl
theorem u225_13 : ev d 225 13 lo st h = evI d 225 13 14 lo st h .ireturn := ev_u n225_13 rfl
theorem mi226 : mx_mi 226 = some (yX20_ran, cX20_ran, 2, (none : Option FieldType), 20, 2, []) := rfl
theorem ow226 : mx_own 226 = 20 := mx_mi_own mi226
theorem mm226 : mx_max 226 = 2 := mx_mi_max mi226
theorem rt226 : mx_ret 226 = (none : Option FieldType) := mx_mi_ret mi226
theorem hn226 : mx_hnd 226 = [] := mx_mi_hnd mi226
theorem n226_0 : mx_ins 226 0 = some ((.aload_n 0), 1) := mx_ins_of mi226 dX20_ran_0 rfl
theorem u226_0 : ev d 226 0 lo st h = evS (mx_ldA 0) d 226 1 lo st h := ev_s n226_0 rfl rfl
theorem n226_1 : mx_ins 226 1 = some ((.getfield 350), 3) := mx_ins_of mi226 dX20_ran_1 rfl
theorem u226_1 : ev d 226 1 lo st h = evS (mx_gf 20 350) d 226 4 lo st h := ev_s n226_1 rfl rfl
theorem n226_4 : mx_ins 226 4 = some ((.bipush 30), 2) := mx_ins_of mi226 dX20_ran_4 rfl
theorem u226_4 : ev d 226 4 lo st h = ev d 226 6 lo (.int 30 :: st) h := (ev_s (f := mx_push (.int 30)) n226_4 rfl rfl).trans es_push
theorem n226_6 : mx_ins 226 6 = some ((.if_icmp .ge 23), 3) := mx_ins_of mi226 dX20_ran_6 rfl
theorem u226_6 : ev d 226 6 lo st h = evK .ge d 226 29 9 lo st h := ev_ic n226_6 rfl rfl
theorem n226_9 : mx_ins 226 9 = some ((.aload_n 0), 1) := mx_ins_of mi226 dX20_ran_9 rfl
theorem u226_9 : ev d 226 9 lo st h = evS (mx_ldA 0) d 226 10 lo st h := ev_s n226_9 rfl rfl
theorem n226_10 : mx_ins 226 10 = some ((.getfield 91), 3) := mx_ins_of mi226 dX20_ran_10 rfl
theorem u226_10 : ev d 226 10 lo st h = evS (mx_gf 20 91) d 226 13 lo st h := ev_s n226_10 rfl rfl
theorem n226_13 : mx_ins 226 13 = some ((.aload_n 0), 1) := mx_ins_of mi226 dX20_ran_13 rfl
theorem u226_13 : ev d 226 13 lo st h = evS (mx_ldA 0) d 226 14 lo st h := ev_s n226_13 rfl rfl
theorem n226_14 : mx_ins 226 14 = some ((.getfield 350), 3) := mx_ins_of mi226 dX20_ran_14 rfl
theorem u226_14 : ev d 226 14 lo st h = evS (mx_gf 20 350) d 226 17 lo st h := ev_s n226_14 rfl rfl
theorem n226_17 : mx_ins 226 17 = some ((.iload_n 1), 1) := mx_ins_of mi226 dX20_ran_17 rfl
theorem u226_17 : ev d 226 17 lo st h = evS (mx_ldI 1) d 226 18 lo st h := ev_s n226_17 rfl rfl
theorem n226_18 : mx_ins 226 18 = some (.iastore, 1) := mx_ins_of mi226 dX20_ran_18 rfl
theorem u226_18 : ev d 226 18 lo st h = evI d 226 18 19 lo st h .iastore := ev_u n226_18 rfl
theorem n226_19 : mx_ins 226 19 = some ((.aload_n 0), 1) := mx_ins_of mi226 dX20_ran_19 rfl
theorem u226_19 : ev d 226 19 lo st h = evS (mx_ldA 0) d 226 20 lo st h := ev_s n226_19 rfl rfl
theorem n226_20 : mx_ins 226 20 = some (.dup, 1) := mx_ins_of mi226 dX20_ran_20 rfl
theorem u226_20 : ev d 226 20 lo st h = evI d 226 20 21 lo st h .dup := ev_u n226_20 rfl
theorem n226_21 : mx_ins 226 21 = some ((.getfield 350), 3) := mx_ins_of mi226 dX20_ran_21 rfl
theorem u226_21 : ev d 226 21 lo st h = evS (mx_gf 20 350) d 226 24 lo st h := ev_s n226_21 rfl rfl
theorem n226_24 : mx_ins 226 24 = some ((.iconst 1), 1) := mx_ins_of mi226 dX20_ran_24 rfl
theorem u226_24 : ev d 226 24 lo st h = ev d 226 25 lo (.int 1 :: st) h := (ev_s (f := mx_push (.int 1)) n226_24 rfl rfl).trans es_push
theorem n226_25 : mx_ins 226 25 = some (.iadd, 1) := mx_ins_of mi226 dX20_ran_25 rfl
theorem u226_25 : ev d 226 25 lo st h = evI d 226 25 26 lo st h .iadd := ev_u n226_25 rfl
theorem n226_26 : mx_ins 226 26 = some ((.putfield 350), 3) := mx_ins_of mi226 dX20_ran_26 rfl
theorem u226_26 : ev d 226 26 lo st h = evS (mx_pf 20 350 false) d 226 29 lo st h := ev_s n226_26 rfl rfl
theorem n226_29 : mx_ins 226 29 = some (.return_, 1) := mx_ins_of mi226 dX20_ran_29 rfl
theorem u226_29 : ev d 226 29 lo st h = evI d 226 29 30 lo st h .return_ := ev_u n226_29 rfl
theorem mi227 : mx_mi 227 = some (yX20_plainSpends, cX20_plainSpends, 2, (Option.some Jvm.ClassFile.FieldType.int), 20, 2, []) := rfl
theorem ow227 : mx_own 227 = 20 := mx_mi_own mi227
theorem mm227 : mx_max 227 = 2 := mx_mi_max mi227
theorem rt227 : mx_ret 227 = (Option.some Jvm.ClassFile.FieldType.int) := mx_mi_ret mi227
theorem hn227 : mx_hnd 227 = [] := mx_mi_hnd mi227
theorem n227_0 : mx_ins 227 0 = some ((.aload_n 0), 1) := mx_ins_of mi227 dX20_plainSpends_0 rfl
theorem u227_0 : ev d 227 0 lo st h = evS (mx_ldA 0) d 227 1 lo st h := ev_s n227_0 rfl rfl
theorem n227_1 : mx_ins 227 1 = some ((.bipush 10), 2) := mx_ins_of mi227 dX20_plainSpends_1 rfl
theorem u227_1 : ev d 227 1 lo st h = ev d 227 3 lo (.int 10 :: st) h := (ev_s (f := mx_push (.int 10)) n227_1 rfl rfl).trans es_push
theorem n227_3 : mx_ins 227 3 = some ((.invokevirtual 353), 3) := mx_ins_of mi227 dX20_plainSpends_3 rfl
theorem u227_3 : ev d 227 3 lo st h = evIn d 227 3 6 20 353 2 false lo st h := ev_inv n227_3 rfl rfl ow227 ia20_353
theorem n227_6 : mx_ins 227 6 = some ((.iload_n 1), 1) := mx_ins_of mi227 dX20_plainSpends_6 rfl
theorem u227_6 : ev d 227 6 lo st h = evS (mx_ldI 1) d 227 7 lo st h := ev_s n227_6 rfl rfl
theorem n227_7 : mx_ins 227 7 = some ((.aload_n 0), 1) := mx_ins_of mi227 dX20_plainSpends_7 rfl
theorem u227_7 : ev d 227 7 lo st h = evS (mx_ldA 0) d 227 8 lo st h := ev_s n227_7 rfl rfl
theorem n227_8 : mx_ins 227 8 = some ((.getfield 356), 3) := mx_ins_of mi227 dX20_plainSpends_8 rfl
theorem u227_8 : ev d 227 8 lo st h = evS (mx_gf 20 356) d 227 11 lo st h := ev_s n227_8 rfl rfl
theorem n227_11 : mx_ins 227 11 = some (.iadd, 1) := mx_ins_of mi227 dX20_plainSpends_11 rfl
theorem u227_11 : ev d 227 11 lo st h = evI d 227 11 12 lo st h .iadd := ev_u n227_11 rfl
theorem n227_12 : mx_ins 227 12 = some (.ireturn, 1) := mx_ins_of mi227 dX20_plainSpends_12 rfl
theorem u227_12 : ev d 227 12 lo st h = evI d 227 12 13 lo st h .ireturn := ev_u n227_12 rfl
theorem mi228 : mx_mi 228 = some (yX20_parchesIt, cX20_parchesIt, 3, (Option.some Jvm.ClassFile.FieldType.int), 20, 2, []) := rfl
theorem ow228 : mx_own 228 = 20 := mx_mi_own mi228
theorem mm228 : mx_max 228 = 3 := mx_mi_max mi228
theorem rt228 : mx_ret 228 = (Option.some Jvm.ClassFile.FieldType.int) := mx_mi_ret mi228
theorem hn228 : mx_hnd 228 = [] := mx_mi_hnd mi228
theorem n228_0 : mx_ins 228 0 = some ((.aload_n 0), 1) := mx_ins_of mi228 dX20_parchesIt_0 rfl
theorem u228_0 : ev d 228 0 lo st h = evS (mx_ldA 0) d 228 1 lo st h := ev_s n228_0 rfl rfl
theorem n228_1 : mx_ins 228 1 = some ((.getfield 362), 3) := mx_ins_of mi228 dX20_parchesIt_1 rfl
theorem u228_1 : ev d 228 1 lo st h = evS (mx_gf 20 362) d 228 4 lo st h := ev_s n228_1 rfl rfl
theorem n228_4 : mx_ins 228 4 = some ((.iconst 1), 1) := mx_ins_of mi228 dX20_parchesIt_4 rfl
theorem u228_4 : ev d 228 4 lo st h = ev d 228 5 lo (.int 1 :: st) h := (ev_s (f := mx_push (.int 1)) n228_4 rfl rfl).trans es_push
theorem n228_5 : mx_ins 228 5 = some ((.if_icmp .eq 11), 3) := mx_ins_of mi228 dX20_parchesIt_5 rfl
theorem u228_5 : ev d 228 5 lo st h = evK .eq d 228 16 8 lo st h := ev_ic n228_5 rfl rfl
theorem n228_8 : mx_ins 228 8 = some ((.aload_n 0), 1) := mx_ins_of mi228 dX20_parchesIt_8 rfl
theorem u228_8 : ev d 228 8 lo st h = evS (mx_ldA 0) d 228 9 lo st h := ev_s n228_8 rfl rfl
theorem n228_9 : mx_ins 228 9 = some ((.getfield 362), 3) := mx_ins_of mi228 dX20_parchesIt_9 rfl
theorem u228_9 : ev d 228 9 lo st h = evS (mx_gf 20 362) d 228 12 lo st h := ev_s n228_9 rfl rfl
theorem n228_12 : mx_ins 228 12 = some ((.iconst 4), 1) := mx_ins_of mi228 dX20_parchesIt_12 rfl
theorem u228_12 : ev d 228 12 lo st h = ev d 228 13 lo (.int 4 :: st) h := (ev_s (f := mx_push (.int 4)) n228_12 rfl rfl).trans es_push
theorem n228_13 : mx_ins 228 13 = some ((.if_icmp .ne 20), 3) := mx_ins_of mi228 dX20_parchesIt_13 rfl
theorem u228_13 : ev d 228 13 lo st h = evK .ne d 228 33 16 lo st h := ev_ic n228_13 rfl rfl
theorem n228_16 : mx_ins 228 16 = some ((.aload_n 0), 1) := mx_ins_of mi228 dX20_parchesIt_16 rfl
theorem u228_16 : ev d 228 16 lo st h = evS (mx_ldA 0) d 228 17 lo st h := ev_s n228_16 rfl rfl
theorem n228_17 : mx_ins 228 17 = some ((.bipush 20), 2) := mx_ins_of mi228 dX20_parchesIt_17 rfl
theorem u228_17 : ev d 228 17 lo st h = ev d 228 19 lo (.int 20 :: st) h := (ev_s (f := mx_push (.int 20)) n228_17 rfl rfl).trans es_push
theorem n228_19 : mx_ins 228 19 = some ((.invokevirtual 353), 3) := mx_ins_of mi228 dX20_parchesIt_19 rfl
theorem u228_19 : ev d 228 19 lo st h = evIn d 228 19 22 20 353 2 false lo st h := ev_inv n228_19 rfl rfl ow228 ia20_353
theorem n228_22 : mx_ins 228 22 = some ((.aload_n 0), 1) := mx_ins_of mi228 dX20_parchesIt_22 rfl
theorem u228_22 : ev d 228 22 lo st h = evS (mx_ldA 0) d 228 23 lo st h := ev_s n228_22 rfl rfl
theorem n228_23 : mx_ins 228 23 = some ((.iload_n 1), 1) := mx_ins_of mi228 dX20_parchesIt_23 rfl
theorem u228_23 : ev d 228 23 lo st h = evS (mx_ldI 1) d 228 24 lo st h := ev_s n228_23 rfl rfl
theorem n228_24 : mx_ins 228 24 = some ((.invokevirtual 371), 3) := mx_ins_of mi228 dX20_parchesIt_24 rfl
theorem u228_24 : ev d 228 24 lo st h = evIn d 228 24 27 20 371 2 false lo st h := ev_inv n228_24 rfl rfl ow228 ia20_371
theorem n228_27 : mx_ins 228 27 = some ((.aload_n 0), 1) := mx_ins_of mi228 dX20_parchesIt_27 rfl
theorem u228_27 : ev d 228 27 lo st h = evS (mx_ldA 0) d 228 28 lo st h := ev_s n228_27 rfl rfl
theorem n228_28 : mx_ins 228 28 = some ((.getfield 374), 3) := mx_ins_of mi228 dX20_parchesIt_28 rfl
theorem u228_28 : ev d 228 28 lo st h = evS (mx_gf 20 374) d 228 31 lo st h := ev_s n228_28 rfl rfl
theorem n228_31 : mx_ins 228 31 = some (.isub, 1) := mx_ins_of mi228 dX20_parchesIt_31 rfl
theorem u228_31 : ev d 228 31 lo st h = evI d 228 31 32 lo st h .isub := ev_u n228_31 rfl
theorem n228_32 : mx_ins 228 32 = some (.ireturn, 1) := mx_ins_of mi228 dX20_parchesIt_32 rfl
theorem u228_32 : ev d 228 32 lo st h = evI d 228 32 33 lo st h .ireturn := ev_u n228_32 rfl
theorem n228_33 : mx_ins 228 33 = some ((.aload_n 0), 1) := mx_ins_of mi228 dX20_parchesIt_33 rfl
theorem u228_33 : ev d 228 33 lo st h = evS (mx_ldA 0) d 228 34 lo st h := ev_s n228_33 rfl rfl
theorem n228_34 : mx_ins 228 34 = some ((.getfield 362), 3) := mx_ins_of mi228 dX20_parchesIt_34 rfl
theorem u228_34 : ev d 228 34 lo st h = evS (mx_gf 20 362) d 228 37 lo st h := ev_s n228_34 rfl rfl
theorem n228_37 : mx_ins 228 37 = some ((.iconst 3), 1) := mx_ins_of mi228 dX20_parchesIt_37 rfl
theorem u228_37 : ev d 228 37 lo st h = ev d 228 38 lo (.int 3 :: st) h := (ev_s (f := mx_push (.int 3)) n228_37 rfl rfl).trans es_push
theorem n228_38 : mx_ins 228 38 = some ((.if_icmp .ne 26), 3) := mx_ins_of mi228 dX20_parchesIt_38 rfl
theorem u228_38 : ev d 228 38 lo st h = evK .ne d 228 64 41 lo st h := ev_ic n228_38 rfl rfl
theorem n228_41 : mx_ins 228 41 = some ((.aload_n 0), 1) := mx_ins_of mi228 dX20_parchesIt_41 rfl
theorem u228_41 : ev d 228 41 lo st h = evS (mx_ldA 0) d 228 42 lo st h := ev_s n228_41 rfl rfl
theorem n228_42 : mx_ins 228 42 = some ((.bipush 41), 2) := mx_ins_of mi228 dX20_parchesIt_42 rfl
theorem u228_42 : ev d 228 42 lo st h = ev d 228 44 lo (.int 41 :: st) h := (ev_s (f := mx_push (.int 41)) n228_42 rfl rfl).trans es_push
theorem n228_44 : mx_ins 228 44 = some ((.invokevirtual 353), 3) := mx_ins_of mi228 dX20_parchesIt_44 rfl
theorem u228_44 : ev d 228 44 lo st h = evIn d 228 44 47 20 353 2 false lo st h := ev_inv n228_44 rfl rfl ow228 ia20_353
theorem n228_47 : mx_ins 228 47 = some ((.aload_n 0), 1) := mx_ins_of mi228 dX20_parchesIt_47 rfl
theorem u228_47 : ev d 228 47 lo st h = evS (mx_ldA 0) d 228 48 lo st h := ev_s n228_47 rfl rfl
theorem n228_48 : mx_ins 228 48 = some ((.iload_n 1), 1) := mx_ins_of mi228 dX20_parchesIt_48 rfl
theorem u228_48 : ev d 228 48 lo st h = evS (mx_ldI 1) d 228 49 lo st h := ev_s n228_48 rfl rfl
theorem n228_49 : mx_ins 228 49 = some ((.invokevirtual 371), 3) := mx_ins_of mi228 dX20_parchesIt_49 rfl
theorem u228_49 : ev d 228 49 lo st h = evIn d 228 49 52 20 371 2 false lo st h := ev_inv n228_49 rfl rfl ow228 ia20_371
theorem n228_52 : mx_ins 228 52 = some ((.istore_n 2), 1) := mx_ins_of mi228 dX20_parchesIt_52 rfl
theorem u228_52 : ev d 228 52 lo st h = evS (mx_stI 2) d 228 53 lo st h := ev_s n228_52 rfl rfl
theorem n228_53 : mx_ins 228 53 = some ((.iload_n 2), 1) := mx_ins_of mi228 dX20_parchesIt_53 rfl
theorem u228_53 : ev d 228 53 lo st h = evS (mx_ldI 2) d 228 54 lo st h := ev_s n228_53 rfl rfl
theorem n228_54 : mx_ins 228 54 = some ((.aload_n 0), 1) := mx_ins_of mi228 dX20_parchesIt_54 rfl
theorem u228_54 : ev d 228 54 lo st h = evS (mx_ldA 0) d 228 55 lo st h := ev_s n228_54 rfl rfl
theorem n228_55 : mx_ins 228 55 = some ((.aload_n 0), 1) := mx_ins_of mi228 dX20_parchesIt_55 rfl
theorem u228_55 : ev d 228 55 lo st h = evS (mx_ldA 0) d 228 56 lo st h := ev_s n228_55 rfl rfl
theorem n228_56 : mx_ins 228 56 = some ((.getfield 356), 3) := mx_ins_of mi228 dX20_parchesIt_56 rfl
theorem u228_56 : ev d 228 56 lo st h = evS (mx_gf 20 356) d 228 59 lo st h := ev_s n228_56 rfl rfl
theorem n228_59 : mx_ins 228 59 = some ((.invokevirtual 368), 3) := mx_ins_of mi228 dX20_parchesIt_59 rfl
theorem u228_59 : ev d 228 59 lo st h = evIn d 228 59 62 20 368 2 false lo st h := ev_inv n228_59 rfl rfl ow228 ia20_368
theorem n228_62 : mx_ins 228 62 = some (.iadd, 1) := mx_ins_of mi228 dX20_parchesIt_62 rfl
theorem u228_62 : ev d 228 62 lo st h = evI d 228 62 63 lo st h .iadd := ev_u n228_62 rfl
theorem n228_63 : mx_ins 228 63 = some (.ireturn, 1) := mx_ins_of mi228 dX20_parchesIt_63 rfl
theorem u228_63 : ev d 228 63 lo st h = evI d 228 63 64 lo st h .ireturn := ev_u n228_63 rfl
theorem n228_64 : mx_ins 228 64 = some ((.aload_n 0), 1) := mx_ins_of mi228 dX20_parchesIt_64 rfl
theorem u228_64 : ev d 228 64 lo st h = evS (mx_ldA 0) d 228 65 lo st h := ev_s n228_64 rfl rfl
theorem n228_65 : mx_ins 228 65 = some ((.iload_n 1), 1) := mx_ins_of mi228 dX20_parchesIt_65 rfl
theorem u228_65 : ev d 228 65 lo st h = evS (mx_ldI 1) d 228 66 lo st h := ev_s n228_65 rfl rfl
theorem n228_66 : mx_ins 228 66 = some ((.invokevirtual 371), 3) := mx_ins_of mi228 dX20_parchesIt_66 rfl
theorem u228_66 : ev d 228 66 lo st h = evIn d 228 66 69 20 371 2 false lo st h := ev_inv n228_66 rfl rfl ow228 ia20_371
theorem n228_69 : mx_ins 228 69 = some (.ireturn, 1) := mx_ins_of mi228 dX20_parchesIt_69 rfl
theorem u228_69 : ev d 228 69 lo st h = evI d 228 69 70 lo st h .ireturn := ev_u n228_69 rfl
theorem mi229 : mx_mi 229 = some (yX20_plainParches, cX20_plainParches, 2, (Option.some Jvm.ClassFile.FieldType.int), 20, 2, []) := rfl
theorem ow229 : mx_own 229 = 20 := mx_mi_own mi229
theorem mm229 : mx_max 229 = 2 := mx_mi_max mi229
theorem rt229 : mx_ret 229 = (Option.some Jvm.ClassFile.FieldType.int) := mx_mi_ret mi229
theorem hn229 : mx_hnd 229 = [] := mx_mi_hnd mi229
theorem n229_0 : mx_ins 229 0 = some ((.aload_n 0), 1) := mx_ins_of mi229 dX20_plainParches_0 rfl
theorem u229_0 : ev d 229 0 lo st h = evS (mx_ldA 0) d 229 1 lo st h := ev_s n229_0 rfl rfl
theorem n229_1 : mx_ins 229 1 = some ((.bipush 11), 2) := mx_ins_of mi229 dX20_plainParches_1 rfl
theorem u229_1 : ev d 229 1 lo st h = ev d 229 3 lo (.int 11 :: st) h := (ev_s (f := mx_push (.int 11)) n229_1 rfl rfl).trans es_push
theorem n229_3 : mx_ins 229 3 = some ((.invokevirtual 353), 3) := mx_ins_of mi229 dX20_plainParches_3 rfl
theorem u229_3 : ev d 229 3 lo st h = evIn d 229 3 6 20 353 2 false lo st h := ev_inv n229_3 rfl rfl ow229 ia20_353
theorem n229_6 : mx_ins 229 6 = some ((.aload_n 0), 1) := mx_ins_of mi229 dX20_plainParches_6 rfl
theorem u229_6 : ev d 229 6 lo st h = evS (mx_ldA 0) d 229 7 lo st h := ev_s n229_6 rfl rfl
theorem n229_7 : mx_ins 229 7 = some ((.iload_n 1), 1) := mx_ins_of mi229 dX20_plainParches_7 rfl
theorem u229_7 : ev d 229 7 lo st h = evS (mx_ldI 1) d 229 8 lo st h := ev_s n229_7 rfl rfl
theorem n229_8 : mx_ins 229 8 = some ((.invokevirtual 368), 3) := mx_ins_of mi229 dX20_plainParches_8 rfl
theorem u229_8 : ev d 229 8 lo st h = evIn d 229 8 11 20 368 2 false lo st h := ev_inv n229_8 rfl rfl ow229 ia20_368
theorem n229_11 : mx_ins 229 11 = some ((.iconst 2), 1) := mx_ins_of mi229 dX20_plainParches_11 rfl
theorem u229_11 : ev d 229 11 lo st h = ev d 229 12 lo (.int 2 :: st) h := (ev_s (f := mx_push (.int 2)) n229_11 rfl rfl).trans es_push
theorem n229_12 : mx_ins 229 12 = some (.imul, 1) := mx_ins_of mi229 dX20_plainParches_12 rfl
theorem u229_12 : ev d 229 12 lo st h = evI d 229 12 13 lo st h .imul := ev_u n229_12 rfl
theorem n229_13 : mx_ins 229 13 = some (.ireturn, 1) := mx_ins_of mi229 dX20_plainParches_13 rfl
theorem u229_13 : ev d 229 13 lo st h = evI d 229 13 14 lo st h .ireturn := ev_u n229_13 rfl
theorem mi230 : mx_mi 230 = some (yX20_sharesIt, cX20_sharesIt, 3, (Option.some Jvm.ClassFile.FieldType.int), 20, 2, []) := rfl
theorem ow230 : mx_own 230 = 20 := mx_mi_own mi230
theorem mm230 : mx_max 230 = 3 := mx_mi_max mi230
theorem rt230 : mx_ret 230 = (Option.some Jvm.ClassFile.FieldType.int) := mx_mi_ret mi230
theorem hn230 : mx_hnd 230 = [] := mx_mi_hnd mi230
theorem n230_0 : mx_ins 230 0 = some ((.aload_n 0), 1) := mx_ins_of mi230 dX20_sharesIt_0 rfl
theorem u230_0 : ev d 230 0 lo st h = evS (mx_ldA 0) d 230 1 lo st h := ev_s n230_0 rfl rfl
theorem n230_1 : mx_ins 230 1 = some ((.getfield 362), 3) := mx_ins_of mi230 dX20_sharesIt_1 rfl
theorem u230_1 : ev d 230 1 lo st h = evS (mx_gf 20 362) d 230 4 lo st h := ev_s n230_1 rfl rfl
theorem n230_4 : mx_ins 230 4 = some ((.iconst 4), 1) := mx_ins_of mi230 dX20_sharesIt_4 rfl
theorem u230_4 : ev d 230 4 lo st h = ev d 230 5 lo (.int 4 :: st) h := (ev_s (f := mx_push (.int 4)) n230_4 rfl rfl).trans es_push
theorem n230_5 : mx_ins 230 5 = some ((.if_icmp .ne 19), 3) := mx_ins_of mi230 dX20_sharesIt_5 rfl
theorem u230_5 : ev d 230 5 lo st h = evK .ne d 230 24 8 lo st h := ev_ic n230_5 rfl rfl
theorem n230_8 : mx_ins 230 8 = some ((.aload_n 0), 1) := mx_ins_of mi230 dX20_sharesIt_8 rfl
theorem u230_8 : ev d 230 8 lo st h = evS (mx_ldA 0) d 230 9 lo st h := ev_s n230_8 rfl rfl
theorem n230_9 : mx_ins 230 9 = some ((.bipush 50), 2) := mx_ins_of mi230 dX20_sharesIt_9 rfl
theorem u230_9 : ev d 230 9 lo st h = ev d 230 11 lo (.int 50 :: st) h := (ev_s (f := mx_push (.int 50)) n230_9 rfl rfl).trans es_push
theorem n230_11 : mx_ins 230 11 = some ((.invokevirtual 353), 3) := mx_ins_of mi230 dX20_sharesIt_11 rfl
theorem u230_11 : ev d 230 11 lo st h = evIn d 230 11 14 20 353 2 false lo st h := ev_inv n230_11 rfl rfl ow230 ia20_353
theorem n230_14 : mx_ins 230 14 = some ((.aload_n 0), 1) := mx_ins_of mi230 dX20_sharesIt_14 rfl
theorem u230_14 : ev d 230 14 lo st h = evS (mx_ldA 0) d 230 15 lo st h := ev_s n230_14 rfl rfl
theorem n230_15 : mx_ins 230 15 = some ((.iload_n 1), 1) := mx_ins_of mi230 dX20_sharesIt_15 rfl
theorem u230_15 : ev d 230 15 lo st h = evS (mx_ldI 1) d 230 16 lo st h := ev_s n230_15 rfl rfl
theorem n230_16 : mx_ins 230 16 = some ((.iconst 2), 1) := mx_ins_of mi230 dX20_sharesIt_16 rfl
theorem u230_16 : ev d 230 16 lo st h = ev d 230 17 lo (.int 2 :: st) h := (ev_s (f := mx_push (.int 2)) n230_16 rfl rfl).trans es_push
theorem n230_17 : mx_ins 230 17 = some (.iadd, 1) := mx_ins_of mi230 dX20_sharesIt_17 rfl
theorem u230_17 : ev d 230 17 lo st h = evI d 230 17 18 lo st h .iadd := ev_u n230_17 rfl
theorem n230_18 : mx_ins 230 18 = some ((.invokevirtual 380), 3) := mx_ins_of mi230 dX20_sharesIt_18 rfl
theorem u230_18 : ev d 230 18 lo st h = evIn d 230 18 21 20 380 2 false lo st h := ev_inv n230_18 rfl rfl ow230 ia20_380
theorem n230_21 : mx_ins 230 21 = some ((.iconst 1), 1) := mx_ins_of mi230 dX20_sharesIt_21 rfl
theorem u230_21 : ev d 230 21 lo st h = ev d 230 22 lo (.int 1 :: st) h := (ev_s (f := mx_push (.int 1)) n230_21 rfl rfl).trans es_push
theorem n230_22 : mx_ins 230 22 = some (.ixor, 1) := mx_ins_of mi230 dX20_sharesIt_22 rfl
theorem u230_22 : ev d 230 22 lo st h = evI d 230 22 23 lo st h .ixor := ev_u n230_22 rfl
theorem n230_23 : mx_ins 230 23 = some (.ireturn, 1) := mx_ins_of mi230 dX20_sharesIt_23 rfl
theorem u230_23 : ev d 230 23 lo st h = evI d 230 23 24 lo st h .ireturn := ev_u n230_23 rfl
theorem n230_24 : mx_ins 230 24 = some ((.aload_n 0), 1) := mx_ins_of mi230 dX20_sharesIt_24 rfl
theorem u230_24 : ev d 230 24 lo st h = evS (mx_ldA 0) d 230 25 lo st h := ev_s n230_24 rfl rfl
theorem n230_25 : mx_ins 230 25 = some ((.getfield 362), 3) := mx_ins_of mi230 dX20_sharesIt_25 rfl
theorem u230_25 : ev d 230 25 lo st h = evS (mx_gf 20 362) d 230 28 lo st h := ev_s n230_25 rfl rfl
theorem n230_28 : mx_ins 230 28 = some ((.iconst 5), 1) := mx_ins_of mi230 dX20_sharesIt_28 rfl
theorem u230_28 : ev d 230 28 lo st h = ev d 230 29 lo (.int 5 :: st) h := (ev_s (f := mx_push (.int 5)) n230_28 rfl rfl).trans es_push
theorem n230_29 : mx_ins 230 29 = some ((.if_icmp .ne 37), 3) := mx_ins_of mi230 dX20_sharesIt_29 rfl
theorem u230_29 : ev d 230 29 lo st h = evK .ne d 230 66 32 lo st h := ev_ic n230_29 rfl rfl
theorem n230_32 : mx_ins 230 32 = some ((.aload_n 0), 1) := mx_ins_of mi230 dX20_sharesIt_32 rfl
theorem u230_32 : ev d 230 32 lo st h = evS (mx_ldA 0) d 230 33 lo st h := ev_s n230_32 rfl rfl
theorem n230_33 : mx_ins 230 33 = some ((.bipush 61), 2) := mx_ins_of mi230 dX20_sharesIt_33 rfl
theorem u230_33 : ev d 230 33 lo st h = ev d 230 35 lo (.int 61 :: st) h := (ev_s (f := mx_push (.int 61)) n230_33 rfl rfl).trans es_push
theorem n230_35 : mx_ins 230 35 = some ((.invokevirtual 353), 3) := mx_ins_of mi230 dX20_sharesIt_35 rfl
theorem u230_35 : ev d 230 35 lo st h = evIn d 230 35 38 20 353 2 false lo st h := ev_inv n230_35 rfl rfl ow230 ia20_353
theorem n230_38 : mx_ins 230 38 = some ((.aload_n 0), 1) := mx_ins_of mi230 dX20_sharesIt_38 rfl
theorem u230_38 : ev d 230 38 lo st h = evS (mx_ldA 0) d 230 39 lo st h := ev_s n230_38 rfl rfl
theorem n230_39 : mx_ins 230 39 = some ((.iload_n 1), 1) := mx_ins_of mi230 dX20_sharesIt_39 rfl
theorem u230_39 : ev d 230 39 lo st h = evS (mx_ldI 1) d 230 40 lo st h := ev_s n230_39 rfl rfl
theorem n230_40 : mx_ins 230 40 = some ((.invokevirtual 380), 3) := mx_ins_of mi230 dX20_sharesIt_40 rfl
theorem u230_40 : ev d 230 40 lo st h = evIn d 230 40 43 20 380 2 false lo st h := ev_inv n230_40 rfl rfl ow230 ia20_380
theorem n230_43 : mx_ins 230 43 = some ((.istore_n 2), 1) := mx_ins_of mi230 dX20_sharesIt_43 rfl
theorem u230_43 : ev d 230 43 lo st h = evS (mx_stI 2) d 230 44 lo st h := ev_s n230_43 rfl rfl
theorem n230_44 : mx_ins 230 44 = some ((.aload_n 0), 1) := mx_ins_of mi230 dX20_sharesIt_44 rfl
theorem u230_44 : ev d 230 44 lo st h = evS (mx_ldA 0) d 230 45 lo st h := ev_s n230_44 rfl rfl
theorem n230_45 : mx_ins 230 45 = some ((.getfield 377), 3) := mx_ins_of mi230 dX20_sharesIt_45 rfl
theorem u230_45 : ev d 230 45 lo st h = evS (mx_gf 20 377) d 230 48 lo st h := ev_s n230_45 rfl rfl
theorem n230_48 : mx_ins 230 48 = some ((.ifCond .eq 7), 3) := mx_ins_of mi230 dX20_sharesIt_48 rfl
theorem u230_48 : ev d 230 48 lo st h = evJ .eq d 230 55 51 lo st h := ev_if n230_48 rfl rfl
theorem n230_51 : mx_ins 230 51 = some ((.iconst 0), 1) := mx_ins_of mi230 dX20_sharesIt_51 rfl
theorem u230_51 : ev d 230 51 lo st h = ev d 230 52 lo (.int 0 :: st) h := (ev_s (f := mx_push (.int 0)) n230_51 rfl rfl).trans es_push
theorem n230_52 : mx_ins 230 52 = some ((.goto 13), 3) := mx_ins_of mi230 dX20_sharesIt_52 rfl
theorem u230_52 : ev d 230 52 lo st h = ev d 230 65 lo st h := ev_goto n230_52 rfl
theorem n230_55 : mx_ins 230 55 = some ((.iload_n 2), 1) := mx_ins_of mi230 dX20_sharesIt_55 rfl
theorem u230_55 : ev d 230 55 lo st h = evS (mx_ldI 2) d 230 56 lo st h := ev_s n230_55 rfl rfl
theorem n230_56 : mx_ins 230 56 = some ((.aload_n 0), 1) := mx_ins_of mi230 dX20_sharesIt_56 rfl
theorem u230_56 : ev d 230 56 lo st h = evS (mx_ldA 0) d 230 57 lo st h := ev_s n230_56 rfl rfl
theorem n230_57 : mx_ins 230 57 = some ((.aload_n 0), 1) := mx_ins_of mi230 dX20_sharesIt_57 rfl
theorem u230_57 : ev d 230 57 lo st h = evS (mx_ldA 0) d 230 58 lo st h := ev_s n230_57 rfl rfl
theorem n230_58 : mx_ins 230 58 = some ((.getfield 374), 3) := mx_ins_of mi230 dX20_sharesIt_58 rfl
theorem u230_58 : ev d 230 58 lo st h = evS (mx_gf 20 374) d 230 61 lo st h := ev_s n230_58 rfl rfl
theorem n230_61 : mx_ins 230 61 = some ((.invokevirtual 368), 3) := mx_ins_of mi230 dX20_sharesIt_61 rfl
theorem u230_61 : ev d 230 61 lo st h = evIn d 230 61 64 20 368 2 false lo st h := ev_inv n230_61 rfl rfl ow230 ia20_368
theorem n230_64 : mx_ins 230 64 = some (.iadd, 1) := mx_ins_of mi230 dX20_sharesIt_64 rfl
theorem u230_64 : ev d 230 64 lo st h = evI d 230 64 65 lo st h .iadd := ev_u n230_64 rfl
theorem n230_65 : mx_ins 230 65 = some (.ireturn, 1) := mx_ins_of mi230 dX20_sharesIt_65 rfl
theorem u230_65 : ev d 230 65 lo st h = evI d 230 65 66 lo st h .ireturn := ev_u n230_65 rfl
theorem n230_66 : mx_ins 230 66 = some ((.aload_n 0), 1) := mx_ins_of mi230 dX20_sharesIt_66 rfl
theorem u230_66 : ev d 230 66 lo st h = evS (mx_ldA 0) d 230 67 lo st h := ev_s n230_66 rfl rfl
theorem n230_67 : mx_ins 230 67 = some ((.iload_n 1), 1) := mx_ins_of mi230 dX20_sharesIt_67 rfl
theorem u230_67 : ev d 230 67 lo st h = evS (mx_ldI 1) d 230 68 lo st h := ev_s n230_67 rfl rfl
theorem n230_68 : mx_ins 230 68 = some ((.invokevirtual 380), 3) := mx_ins_of mi230 dX20_sharesIt_68 rfl
theorem u230_68 : ev d 230 68 lo st h = evIn d 230 68 71 20 380 2 false lo st h := ev_inv n230_68 rfl rfl ow230 ia20_380
theorem n230_71 : mx_ins 230 71 = some (.ireturn, 1) := mx_ins_of mi230 dX20_sharesIt_71 rfl
theorem u230_71 : ev d 230 71 lo st h = evI d 230 71 72 lo st h .ireturn := ev_u n230_71 rfl
theorem mi231 : mx_mi 231 = some (yX20_plainShares, cX20_plainShares, 2, (Option.some Jvm.ClassFile.FieldType.int), 20, 2, []) := rfl
theorem ow231 : mx_own 231 = 20 := mx_mi_own mi231
theorem mm231 : mx_max 231 = 2 := mx_mi_max mi231
theorem rt231 : mx_ret 231 = (Option.some Jvm.ClassFile.FieldType.int) := mx_mi_ret mi231
theorem hn231 : mx_hnd 231 = [] := mx_mi_hnd mi231
theorem n231_0 : mx_ins 231 0 = some ((.aload_n 0), 1) := mx_ins_of mi231 dX20_plainShares_0 rfl
theorem u231_0 : ev d 231 0 lo st h = evS (mx_ldA 0) d 231 1 lo st h := ev_s n231_0 rfl rfl
theorem n231_1 : mx_ins 231 1 = some ((.bipush 12), 2) := mx_ins_of mi231 dX20_plainShares_1 rfl
theorem u231_1 : ev d 231 1 lo st h = ev d 231 3 lo (.int 12 :: st) h := (ev_s (f := mx_push (.int 12)) n231_1 rfl rfl).trans es_push
theorem n231_3 : mx_ins 231 3 = some ((.invokevirtual 353), 3) := mx_ins_of mi231 dX20_plainShares_3 rfl
theorem u231_3 : ev d 231 3 lo st h = evIn d 231 3 6 20 353 2 false lo st h := ev_inv n231_3 rfl rfl ow231 ia20_353
theorem n231_6 : mx_ins 231 6 = some ((.aload_n 0), 1) := mx_ins_of mi231 dX20_plainShares_6 rfl
theorem u231_6 : ev d 231 6 lo st h = evS (mx_ldA 0) d 231 7 lo st h := ev_s n231_6 rfl rfl
theorem n231_7 : mx_ins 231 7 = some ((.getfield 374), 3) := mx_ins_of mi231 dX20_plainShares_7 rfl
theorem u231_7 : ev d 231 7 lo st h = evS (mx_gf 20 374) d 231 10 lo st h := ev_s n231_7 rfl rfl
theorem n231_10 : mx_ins 231 10 = some ((.aload_n 0), 1) := mx_ins_of mi231 dX20_plainShares_10 rfl
theorem u231_10 : ev d 231 10 lo st h = evS (mx_ldA 0) d 231 11 lo st h := ev_s n231_10 rfl rfl
theorem n231_11 : mx_ins 231 11 = some ((.getfield 356), 3) := mx_ins_of mi231 dX20_plainShares_11 rfl
theorem u231_11 : ev d 231 11 lo st h = evS (mx_gf 20 356) d 231 14 lo st h := ev_s n231_11 rfl rfl
theorem n231_14 : mx_ins 231 14 = some ((.if_icmp .ne 10), 3) := mx_ins_of mi231 dX20_plainShares_14 rfl
theorem u231_14 : ev d 231 14 lo st h = evK .ne d 231 24 17 lo st h := ev_ic n231_14 rfl rfl
theorem n231_17 : mx_ins 231 17 = some ((.aload_n 0), 1) := mx_ins_of mi231 dX20_plainShares_17 rfl
theorem u231_17 : ev d 231 17 lo st h = evS (mx_ldA 0) d 231 18 lo st h := ev_s n231_17 rfl rfl
theorem n231_18 : mx_ins 231 18 = some ((.iconst 1), 1) := mx_ins_of mi231 dX20_plainShares_18 rfl
theorem u231_18 : ev d 231 18 lo st h = ev d 231 19 lo (.int 1 :: st) h := (ev_s (f := mx_push (.int 1)) n231_18 rfl rfl).trans es_push
theorem n231_19 : mx_ins 231 19 = some ((.putfield 377), 3) := mx_ins_of mi231 dX20_plainShares_19 rfl
theorem u231_19 : ev d 231 19 lo st h = evS (mx_pf 20 377 false) d 231 22 lo st h := ev_s n231_19 rfl rfl
theorem n231_22 : mx_ins 231 22 = some ((.iconst 0), 1) := mx_ins_of mi231 dX20_plainShares_22 rfl
theorem u231_22 : ev d 231 22 lo st h = ev d 231 23 lo (.int 0 :: st) h := (ev_s (f := mx_push (.int 0)) n231_22 rfl rfl).trans es_push
theorem n231_23 : mx_ins 231 23 = some (.ireturn, 1) := mx_ins_of mi231 dX20_plainShares_23 rfl
theorem u231_23 : ev d 231 23 lo st h = evI d 231 23 24 lo st h .ireturn := ev_u n231_23 rfl
theorem n231_24 : mx_ins 231 24 = some ((.iload_n 1), 1) := mx_ins_of mi231 dX20_plainShares_24 rfl
theorem u231_24 : ev d 231 24 lo st h = evS (mx_ldI 1) d 231 25 lo st h := ev_s n231_24 rfl rfl
theorem n231_25 : mx_ins 231 25 = some ((.aload_n 0), 1) := mx_ins_of mi231 dX20_plainShares_25 rfl
theorem u231_25 : ev d 231 25 lo st h = evS (mx_ldA 0) d 231 26 lo st h := ev_s n231_25 rfl rfl
theorem n231_26 : mx_ins 231 26 = some ((.getfield 374), 3) := mx_ins_of mi231 dX20_plainShares_26 rfl
theorem u231_26 : ev d 231 26 lo st h = evS (mx_gf 20 374) d 231 29 lo st h := ev_s n231_26 rfl rfl
theorem n231_29 : mx_ins 231 29 = some ((.aload_n 0), 1) := mx_ins_of mi231 dX20_plainShares_29 rfl
theorem u231_29 : ev d 231 29 lo st h = evS (mx_ldA 0) d 231 30 lo st h := ev_s n231_29 rfl rfl
theorem n231_30 : mx_ins 231 30 = some ((.getfield 356), 3) := mx_ins_of mi231 dX20_plainShares_30 rfl
theorem u231_30 : ev d 231 30 lo st h = evS (mx_gf 20 356) d 231 33 lo st h := ev_s n231_30 rfl rfl
theorem n231_33 : mx_ins 231 33 = some (.isub, 1) := mx_ins_of mi231 dX20_plainShares_33 rfl
theorem u231_33 : ev d 231 33 lo st h = evI d 231 33 34 lo st h .isub := ev_u n231_33 rfl
theorem n231_34 : mx_ins 231 34 = some (.idiv, 1) := mx_ins_of mi231 dX20_plainShares_34 rfl
theorem u231_34 : ev d 231 34 lo st h = evI d 231 34 35 lo st h .idiv := ev_u n231_34 rfl
theorem n231_35 : mx_ins 231 35 = some (.ireturn, 1) := mx_ins_of mi231 dX20_plainShares_35 rfl
theorem u231_35 : ev d 231 35 lo st h = evI d 231 35 36 lo st h .ireturn := ev_u n231_35 rfl
theorem mi232 : mx_mi 232 = some (yX20_tellsIt, cX20_tellsIt, 3, (Option.some Jvm.ClassFile.FieldType.int), 20, 2, []) := rfl
theorem ow232 : mx_own 232 = 20 := mx_mi_own mi232
theorem mm232 : mx_max 232 = 3 := mx_mi_max mi232
theorem rt232 : mx_ret 232 = (Option.some Jvm.ClassFile.FieldType.int) := mx_mi_ret mi232
theorem hn232 : mx_hnd 232 = [] := mx_mi_hnd mi232
theorem n232_0 : mx_ins 232 0 = some ((.aload_n 0), 1) := mx_ins_of mi232 dX20_tellsIt_0 rfl
theorem u232_0 : ev d 232 0 lo st h = evS (mx_ldA 0) d 232 1 lo st h := ev_s n232_0 rfl rfl
theorem n232_1 : mx_ins 232 1 = some ((.getfield 362), 3) := mx_ins_of mi232 dX20_tellsIt_1 rfl
theorem u232_1 : ev d 232 1 lo st h = evS (mx_gf 20 362) d 232 4 lo st h := ev_s n232_1 rfl rfl
theorem n232_4 : mx_ins 232 4 = some ((.iconst 2), 1) := mx_ins_of mi232 dX20_tellsIt_4 rfl
theorem u232_4 : ev d 232 4 lo st h = ev d 232 5 lo (.int 2 :: st) h := (ev_s (f := mx_push (.int 2)) n232_4 rfl rfl).trans es_push
theorem n232_5 : mx_ins 232 5 = some ((.if_icmp .eq 11), 3) := mx_ins_of mi232 dX20_tellsIt_5 rfl
theorem u232_5 : ev d 232 5 lo st h = evK .eq d 232 16 8 lo st h := ev_ic n232_5 rfl rfl
theorem n232_8 : mx_ins 232 8 = some ((.aload_n 0), 1) := mx_ins_of mi232 dX20_tellsIt_8 rfl
theorem u232_8 : ev d 232 8 lo st h = evS (mx_ldA 0) d 232 9 lo st h := ev_s n232_8 rfl rfl
theorem n232_9 : mx_ins 232 9 = some ((.getfield 362), 3) := mx_ins_of mi232 dX20_tellsIt_9 rfl
theorem u232_9 : ev d 232 9 lo st h = evS (mx_gf 20 362) d 232 12 lo st h := ev_s n232_9 rfl rfl
theorem n232_12 : mx_ins 232 12 = some ((.iconst 3), 1) := mx_ins_of mi232 dX20_tellsIt_12 rfl
theorem u232_12 : ev d 232 12 lo st h = ev d 232 13 lo (.int 3 :: st) h := (ev_s (f := mx_push (.int 3)) n232_12 rfl rfl).trans es_push
theorem n232_13 : mx_ins 232 13 = some ((.if_icmp .ne 26), 3) := mx_ins_of mi232 dX20_tellsIt_13 rfl
theorem u232_13 : ev d 232 13 lo st h = evK .ne d 232 39 16 lo st h := ev_ic n232_13 rfl rfl
theorem n232_16 : mx_ins 232 16 = some ((.aload_n 0), 1) := mx_ins_of mi232 dX20_tellsIt_16 rfl
theorem u232_16 : ev d 232 16 lo st h = evS (mx_ldA 0) d 232 17 lo st h := ev_s n232_16 rfl rfl
theorem n232_17 : mx_ins 232 17 = some ((.bipush 31), 2) := mx_ins_of mi232 dX20_tellsIt_17 rfl
theorem u232_17 : ev d 232 17 lo st h = ev d 232 19 lo (.int 31 :: st) h := (ev_s (f := mx_push (.int 31)) n232_17 rfl rfl).trans es_push
theorem n232_19 : mx_ins 232 19 = some ((.invokevirtual 353), 3) := mx_ins_of mi232 dX20_tellsIt_19 rfl
theorem u232_19 : ev d 232 19 lo st h = evIn d 232 19 22 20 353 2 false lo st h := ev_inv n232_19 rfl rfl ow232 ia20_353
theorem n232_22 : mx_ins 232 22 = some ((.aload_n 0), 1) := mx_ins_of mi232 dX20_tellsIt_22 rfl
theorem u232_22 : ev d 232 22 lo st h = evS (mx_ldA 0) d 232 23 lo st h := ev_s n232_22 rfl rfl
theorem n232_23 : mx_ins 232 23 = some ((.iload_n 1), 1) := mx_ins_of mi232 dX20_tellsIt_23 rfl
theorem u232_23 : ev d 232 23 lo st h = evS (mx_ldI 1) d 232 24 lo st h := ev_s n232_23 rfl rfl
theorem n232_24 : mx_ins 232 24 = some ((.invokevirtual 386), 3) := mx_ins_of mi232 dX20_tellsIt_24 rfl
theorem u232_24 : ev d 232 24 lo st h = evIn d 232 24 27 20 386 2 false lo st h := ev_inv n232_24 rfl rfl ow232 ia20_386
theorem n232_27 : mx_ins 232 27 = some ((.istore_n 2), 1) := mx_ins_of mi232 dX20_tellsIt_27 rfl
theorem u232_27 : ev d 232 27 lo st h = evS (mx_stI 2) d 232 28 lo st h := ev_s n232_27 rfl rfl
theorem n232_28 : mx_ins 232 28 = some ((.iload_n 2), 1) := mx_ins_of mi232 dX20_tellsIt_28 rfl
theorem u232_28 : ev d 232 28 lo st h = evS (mx_ldI 2) d 232 29 lo st h := ev_s n232_28 rfl rfl
theorem n232_29 : mx_ins 232 29 = some ((.aload_n 0), 1) := mx_ins_of mi232 dX20_tellsIt_29 rfl
theorem u232_29 : ev d 232 29 lo st h = evS (mx_ldA 0) d 232 30 lo st h := ev_s n232_29 rfl rfl
theorem n232_30 : mx_ins 232 30 = some ((.aload_n 0), 1) := mx_ins_of mi232 dX20_tellsIt_30 rfl
theorem u232_30 : ev d 232 30 lo st h = evS (mx_ldA 0) d 232 31 lo st h := ev_s n232_30 rfl rfl
theorem n232_31 : mx_ins 232 31 = some ((.getfield 356), 3) := mx_ins_of mi232 dX20_tellsIt_31 rfl
theorem u232_31 : ev d 232 31 lo st h = evS (mx_gf 20 356) d 232 34 lo st h := ev_s n232_31 rfl rfl
theorem n232_34 : mx_ins 232 34 = some ((.invokevirtual 389), 3) := mx_ins_of mi232 dX20_tellsIt_34 rfl
theorem u232_34 : ev d 232 34 lo st h = evIn d 232 34 37 20 389 2 false lo st h := ev_inv n232_34 rfl rfl ow232 ia20_389
theorem n232_37 : mx_ins 232 37 = some (.iadd, 1) := mx_ins_of mi232 dX20_tellsIt_37 rfl
theorem u232_37 : ev d 232 37 lo st h = evI d 232 37 38 lo st h .iadd := ev_u n232_37 rfl
theorem n232_38 : mx_ins 232 38 = some (.ireturn, 1) := mx_ins_of mi232 dX20_tellsIt_38 rfl
theorem u232_38 : ev d 232 38 lo st h = evI d 232 38 39 lo st h .ireturn := ev_u n232_38 rfl
theorem n232_39 : mx_ins 232 39 = some ((.aload_n 0), 1) := mx_ins_of mi232 dX20_tellsIt_39 rfl
theorem u232_39 : ev d 232 39 lo st h = evS (mx_ldA 0) d 232 40 lo st h := ev_s n232_39 rfl rfl
theorem n232_40 : mx_ins 232 40 = some ((.getfield 362), 3) := mx_ins_of mi232 dX20_tellsIt_40 rfl
theorem u232_40 : ev d 232 40 lo st h = evS (mx_gf 20 362) d 232 43 lo st h := ev_s n232_40 rfl rfl
theorem n232_43 : mx_ins 232 43 = some ((.iconst 5), 1) := mx_ins_of mi232 dX20_tellsIt_43 rfl
theorem u232_43 : ev d 232 43 lo st h = ev d 232 44 lo (.int 5 :: st) h := (ev_s (f := mx_push (.int 5)) n232_43 rfl rfl).trans es_push
theorem n232_44 : mx_ins 232 44 = some ((.if_icmp .ne 17), 3) := mx_ins_of mi232 dX20_tellsIt_44 rfl
theorem u232_44 : ev d 232 44 lo st h = evK .ne d 232 61 47 lo st h := ev_ic n232_44 rfl rfl
theorem n232_47 : mx_ins 232 47 = some ((.aload_n 0), 1) := mx_ins_of mi232 dX20_tellsIt_47 rfl
theorem u232_47 : ev d 232 47 lo st h = evS (mx_ldA 0) d 232 48 lo st h := ev_s n232_47 rfl rfl
theorem n232_48 : mx_ins 232 48 = some ((.bipush 60), 2) := mx_ins_of mi232 dX20_tellsIt_48 rfl
theorem u232_48 : ev d 232 48 lo st h = ev d 232 50 lo (.int 60 :: st) h := (ev_s (f := mx_push (.int 60)) n232_48 rfl rfl).trans es_push
theorem n232_50 : mx_ins 232 50 = some ((.invokevirtual 353), 3) := mx_ins_of mi232 dX20_tellsIt_50 rfl
theorem u232_50 : ev d 232 50 lo st h = evIn d 232 50 53 20 353 2 false lo st h := ev_inv n232_50 rfl rfl ow232 ia20_353
theorem n232_53 : mx_ins 232 53 = some ((.aload_n 0), 1) := mx_ins_of mi232 dX20_tellsIt_53 rfl
theorem u232_53 : ev d 232 53 lo st h = evS (mx_ldA 0) d 232 54 lo st h := ev_s n232_53 rfl rfl
theorem n232_54 : mx_ins 232 54 = some ((.iload_n 1), 1) := mx_ins_of mi232 dX20_tellsIt_54 rfl
theorem u232_54 : ev d 232 54 lo st h = evS (mx_ldI 1) d 232 55 lo st h := ev_s n232_54 rfl rfl
theorem n232_55 : mx_ins 232 55 = some ((.invokevirtual 386), 3) := mx_ins_of mi232 dX20_tellsIt_55 rfl
theorem u232_55 : ev d 232 55 lo st h = evIn d 232 55 58 20 386 2 false lo st h := ev_inv n232_55 rfl rfl ow232 ia20_386
theorem n232_58 : mx_ins 232 58 = some ((.iconst 2), 1) := mx_ins_of mi232 dX20_tellsIt_58 rfl
theorem u232_58 : ev d 232 58 lo st h = ev d 232 59 lo (.int 2 :: st) h := (ev_s (f := mx_push (.int 2)) n232_58 rfl rfl).trans es_push
theorem n232_59 : mx_ins 232 59 = some (.imul, 1) := mx_ins_of mi232 dX20_tellsIt_59 rfl
theorem u232_59 : ev d 232 59 lo st h = evI d 232 59 60 lo st h .imul := ev_u n232_59 rfl
theorem n232_60 : mx_ins 232 60 = some (.ireturn, 1) := mx_ins_of mi232 dX20_tellsIt_60 rfl
theorem u232_60 : ev d 232 60 lo st h = evI d 232 60 61 lo st h .ireturn := ev_u n232_60 rfl
theorem n232_61 : mx_ins 232 61 = some ((.aload_n 0), 1) := mx_ins_of mi232 dX20_tellsIt_61 rfl
theorem u232_61 : ev d 232 61 lo st h = evS (mx_ldA 0) d 232 62 lo st h := ev_s n232_61 rfl rfl
theorem n232_62 : mx_ins 232 62 = some ((.iload_n 1), 1) := mx_ins_of mi232 dX20_tellsIt_62 rfl
theorem u232_62 : ev d 232 62 lo st h = evS (mx_ldI 1) d 232 63 lo st h := ev_s n232_62 rfl rfl
theorem n232_63 : mx_ins 232 63 = some ((.invokevirtual 386), 3) := mx_ins_of mi232 dX20_tellsIt_63 rfl
theorem u232_63 : ev d 232 63 lo st h = evIn d 232 63 66 20 386 2 false lo st h := ev_inv n232_63 rfl rfl ow232 ia20_386
theorem n232_66 : mx_ins 232 66 = some (.ireturn, 1) := mx_ins_of mi232 dX20_tellsIt_66 rfl
theorem u232_66 : ev d 232 66 lo st h = evI d 232 66 67 lo st h .ireturn := ev_u n232_66 rfl
theorem mi233 : mx_mi 233 = some (yX20_plainTells, cX20_plainTells, 2, (Option.some Jvm.ClassFile.FieldType.int), 20, 2, []) := rfl
theorem ow233 : mx_own 233 = 20 := mx_mi_own mi233
theorem mm233 : mx_max 233 = 2 := mx_mi_max mi233
theorem rt233 : mx_ret 233 = (Option.some Jvm.ClassFile.FieldType.int) := mx_mi_ret mi233
theorem hn233 : mx_hnd 233 = [] := mx_mi_hnd mi233
theorem n233_0 : mx_ins 233 0 = some ((.aload_n 0), 1) := mx_ins_of mi233 dX20_plainTells_0 rfl
theorem u233_0 : ev d 233 0 lo st h = evS (mx_ldA 0) d 233 1 lo st h := ev_s n233_0 rfl rfl
theorem n233_1 : mx_ins 233 1 = some ((.bipush 13), 2) := mx_ins_of mi233 dX20_plainTells_1 rfl
theorem u233_1 : ev d 233 1 lo st h = ev d 233 3 lo (.int 13 :: st) h := (ev_s (f := mx_push (.int 13)) n233_1 rfl rfl).trans es_push
theorem n233_3 : mx_ins 233 3 = some ((.invokevirtual 353), 3) := mx_ins_of mi233 dX20_plainTells_3 rfl
theorem u233_3 : ev d 233 3 lo st h = evIn d 233 3 6 20 353 2 false lo st h := ev_inv n233_3 rfl rfl ow233 ia20_353
theorem n233_6 : mx_ins 233 6 = some ((.aload_n 0), 1) := mx_ins_of mi233 dX20_plainTells_6 rfl
theorem u233_6 : ev d 233 6 lo st h = evS (mx_ldA 0) d 233 7 lo st h := ev_s n233_6 rfl rfl
theorem n233_7 : mx_ins 233 7 = some ((.iload_n 1), 1) := mx_ins_of mi233 dX20_plainTells_7 rfl
theorem u233_7 : ev d 233 7 lo st h = evS (mx_ldI 1) d 233 8 lo st h := ev_s n233_7 rfl rfl
theorem n233_8 : mx_ins 233 8 = some ((.invokevirtual 383), 3) := mx_ins_of mi233 dX20_plainTells_8 rfl
theorem u233_8 : ev d 233 8 lo st h = evIn d 233 8 11 20 383 2 false lo st h := ev_inv n233_8 rfl rfl ow233 ia20_383
theorem n233_11 : mx_ins 233 11 = some ((.aload_n 0), 1) := mx_ins_of mi233 dX20_plainTells_11 rfl
theorem u233_11 : ev d 233 11 lo st h = evS (mx_ldA 0) d 233 12 lo st h := ev_s n233_11 rfl rfl
theorem n233_12 : mx_ins 233 12 = some ((.getfield 374), 3) := mx_ins_of mi233 dX20_plainTells_12 rfl
theorem u233_12 : ev d 233 12 lo st h = evS (mx_gf 20 374) d 233 15 lo st h := ev_s n233_12 rfl rfl
theorem n233_15 : mx_ins 233 15 = some (.ixor, 1) := mx_ins_of mi233 dX20_plainTells_15 rfl
theorem u233_15 : ev d 233 15 lo st h = evI d 233 15 16 lo st h .ixor := ev_u n233_15 rfl
theorem n233_16 : mx_ins 233 16 = some (.ireturn, 1) := mx_ins_of mi233 dX20_plainTells_16 rfl
theorem u233_16 : ev d 233 16 lo st h = evI d 233 16 17 lo st h .ireturn := ev_u n233_16 rfl
theorem mi234 : mx_mi 234 = some (yX20_trace, cX20_trace, 2, (Option.some Jvm.ClassFile.FieldType.int), 20, 2, []) := rfl
theorem ow234 : mx_own 234 = 20 := mx_mi_own mi234
theorem mm234 : mx_max 234 = 2 := mx_mi_max mi234
theorem rt234 : mx_ret 234 = (Option.some Jvm.ClassFile.FieldType.int) := mx_mi_ret mi234
theorem hn234 : mx_hnd 234 = [] := mx_mi_hnd mi234
theorem n234_0 : mx_ins 234 0 = some ((.iload_n 1), 1) := mx_ins_of mi234 dX20_trace_0 rfl
theorem u234_0 : ev d 234 0 lo st h = evS (mx_ldI 1) d 234 1 lo st h := ev_s n234_0 rfl rfl
theorem n234_1 : mx_ins 234 1 = some ((.iconst 0), 1) := mx_ins_of mi234 dX20_trace_1 rfl
theorem u234_1 : ev d 234 1 lo st h = ev d 234 2 lo (.int 0 :: st) h := (ev_s (f := mx_push (.int 0)) n234_1 rfl rfl).trans es_push
theorem n234_2 : mx_ins 234 2 = some ((.aload_n 0), 1) := mx_ins_of mi234 dX20_trace_2 rfl
theorem u234_2 : ev d 234 2 lo st h = evS (mx_ldA 0) d 234 3 lo st h := ev_s n234_2 rfl rfl
theorem n234_3 : mx_ins 234 3 = some ((.getfield 350), 3) := mx_ins_of mi234 dX20_trace_3 rfl
theorem u234_3 : ev d 234 3 lo st h = evS (mx_gf 20 350) d 234 6 lo st h := ev_s n234_3 rfl rfl
theorem n234_6 : mx_ins 234 6 = some ((.iconst 1), 1) := mx_ins_of mi234 dX20_trace_6 rfl
theorem u234_6 : ev d 234 6 lo st h = ev d 234 7 lo (.int 1 :: st) h := (ev_s (f := mx_push (.int 1)) n234_6 rfl rfl).trans es_push
theorem n234_7 : mx_ins 234 7 = some (.isub, 1) := mx_ins_of mi234 dX20_trace_7 rfl
theorem u234_7 : ev d 234 7 lo st h = evI d 234 7 8 lo st h .isub := ev_u n234_7 rfl
theorem n234_8 : mx_ins 234 8 = some ((.invokestatic 100), 3) := mx_ins_of mi234 dX20_trace_8 rfl
theorem u234_8 : ev d 234 8 lo st h = evIn d 234 8 11 20 100 3 true lo st h := ev_inv n234_8 rfl rfl ow234 ia20_100
theorem n234_11 : mx_ins 234 11 = some ((.ifCond .eq 12), 3) := mx_ins_of mi234 dX20_trace_11 rfl
theorem u234_11 : ev d 234 11 lo st h = evJ .eq d 234 23 14 lo st h := ev_if n234_11 rfl rfl
theorem n234_14 : mx_ins 234 14 = some ((.aload_n 0), 1) := mx_ins_of mi234 dX20_trace_14 rfl
theorem u234_14 : ev d 234 14 lo st h = evS (mx_ldA 0) d 234 15 lo st h := ev_s n234_14 rfl rfl
theorem n234_15 : mx_ins 234 15 = some ((.getfield 91), 3) := mx_ins_of mi234 dX20_trace_15 rfl
theorem u234_15 : ev d 234 15 lo st h = evS (mx_gf 20 91) d 234 18 lo st h := ev_s n234_15 rfl rfl
theorem n234_18 : mx_ins 234 18 = some ((.iload_n 1), 1) := mx_ins_of mi234 dX20_trace_18 rfl
theorem u234_18 : ev d 234 18 lo st h = evS (mx_ldI 1) d 234 19 lo st h := ev_s n234_18 rfl rfl
theorem n234_19 : mx_ins 234 19 = some (.iaload, 1) := mx_ins_of mi234 dX20_trace_19 rfl
theorem u234_19 : ev d 234 19 lo st h = evI d 234 19 20 lo st h .iaload := ev_u n234_19 rfl
theorem n234_20 : mx_ins 234 20 = some ((.goto 5), 3) := mx_ins_of mi234 dX20_trace_20 rfl
theorem u234_20 : ev d 234 20 lo st h = ev d 234 25 lo st h := ev_goto n234_20 rfl
theorem n234_23 : mx_ins 234 23 = some ((.bipush (-3)), 2) := mx_ins_of mi234 dX20_trace_23 rfl
theorem u234_23 : ev d 234 23 lo st h = ev d 234 25 lo (.int (-3) :: st) h := (ev_s (f := mx_push (.int (-3))) n234_23 rfl rfl).trans es_push
theorem n234_25 : mx_ins 234 25 = some (.ireturn, 1) := mx_ins_of mi234 dX20_trace_25 rfl
theorem u234_25 : ev d 234 25 lo st h = evI d 234 25 26 lo st h .ireturn := ev_u n234_25 rfl
theorem mi235 : mx_mi 235 = some (yX20_many, cX20_many, 2, (Option.some Jvm.ClassFile.FieldType.int), 20, 2, []) := rfl
theorem ow235 : mx_own 235 = 20 := mx_mi_own mi235
theorem mm235 : mx_max 235 = 2 := mx_mi_max mi235
theorem rt235 : mx_ret 235 = (Option.some Jvm.ClassFile.FieldType.int) := mx_mi_ret mi235
theorem hn235 : mx_hnd 235 = [] := mx_mi_hnd mi235
theorem n235_0 : mx_ins 235 0 = some ((.iload_n 1), 1) := mx_ins_of mi235 dX20_many_0 rfl
theorem u235_0 : ev d 235 0 lo st h = evS (mx_ldI 1) d 235 1 lo st h := ev_s n235_0 rfl rfl
theorem n235_1 : mx_ins 235 1 = some ((.tableswitch 60 0 4 #[35, 40, 45, 50, 55]), 35) := mx_ins_of mi235 dX20_many_1 rfl
theorem u235_1 : ev d 235 1 lo st h = evTS d 235 [(0, 36), (1, 41), (2, 46), (3, 51), (4, 56)] 61 lo st h := ev_ts n235_1 rfl rfl
theorem n235_36 : mx_ins 235 36 = some ((.aload_n 0), 1) := mx_ins_of mi235 dX20_many_36 rfl
theorem u235_36 : ev d 235 36 lo st h = evS (mx_ldA 0) d 235 37 lo st h := ev_s n235_36 rfl rfl
theorem n235_37 : mx_ins 235 37 = some ((.getfield 235), 3) := mx_ins_of mi235 dX20_many_37 rfl
theorem u235_37 : ev d 235 37 lo st h = evS (mx_gf 20 235) d 235 40 lo st h := ev_s n235_37 rfl rfl
theorem n235_40 : mx_ins 235 40 = some (.ireturn, 1) := mx_ins_of mi235 dX20_many_40 rfl
theorem u235_40 : ev d 235 40 lo st h = evI d 235 40 41 lo st h .ireturn := ev_u n235_40 rfl
theorem n235_41 : mx_ins 235 41 = some ((.aload_n 0), 1) := mx_ins_of mi235 dX20_many_41 rfl
theorem u235_41 : ev d 235 41 lo st h = evS (mx_ldA 0) d 235 42 lo st h := ev_s n235_41 rfl rfl
theorem n235_42 : mx_ins 235 42 = some ((.getfield 315), 3) := mx_ins_of mi235 dX20_many_42 rfl
theorem u235_42 : ev d 235 42 lo st h = evS (mx_gf 20 315) d 235 45 lo st h := ev_s n235_42 rfl rfl
theorem n235_45 : mx_ins 235 45 = some (.ireturn, 1) := mx_ins_of mi235 dX20_many_45 rfl
theorem u235_45 : ev d 235 45 lo st h = evI d 235 45 46 lo st h .ireturn := ev_u n235_45 rfl
theorem n235_46 : mx_ins 235 46 = some ((.aload_n 0), 1) := mx_ins_of mi235 dX20_many_46 rfl
theorem u235_46 : ev d 235 46 lo st h = evS (mx_ldA 0) d 235 47 lo st h := ev_s n235_46 rfl rfl
theorem n235_47 : mx_ins 235 47 = some ((.getfield 324), 3) := mx_ins_of mi235 dX20_many_47 rfl
theorem u235_47 : ev d 235 47 lo st h = evS (mx_gf 20 324) d 235 50 lo st h := ev_s n235_47 rfl rfl
theorem n235_50 : mx_ins 235 50 = some (.ireturn, 1) := mx_ins_of mi235 dX20_many_50 rfl
theorem u235_50 : ev d 235 50 lo st h = evI d 235 50 51 lo st h .ireturn := ev_u n235_50 rfl
theorem n235_51 : mx_ins 235 51 = some ((.aload_n 0), 1) := mx_ins_of mi235 dX20_many_51 rfl
theorem u235_51 : ev d 235 51 lo st h = evS (mx_ldA 0) d 235 52 lo st h := ev_s n235_51 rfl rfl
theorem n235_52 : mx_ins 235 52 = some ((.getfield 107), 3) := mx_ins_of mi235 dX20_many_52 rfl
theorem u235_52 : ev d 235 52 lo st h = evS (mx_gf 20 107) d 235 55 lo st h := ev_s n235_52 rfl rfl
theorem n235_55 : mx_ins 235 55 = some (.ireturn, 1) := mx_ins_of mi235 dX20_many_55 rfl
theorem u235_55 : ev d 235 55 lo st h = evI d 235 55 56 lo st h .ireturn := ev_u n235_55 rfl
theorem n235_56 : mx_ins 235 56 = some ((.aload_n 0), 1) := mx_ins_of mi235 dX20_many_56 rfl
theorem u235_56 : ev d 235 56 lo st h = evS (mx_ldA 0) d 235 57 lo st h := ev_s n235_56 rfl rfl
theorem n235_57 : mx_ins 235 57 = some ((.getfield 350), 3) := mx_ins_of mi235 dX20_many_57 rfl
theorem u235_57 : ev d 235 57 lo st h = evS (mx_gf 20 350) d 235 60 lo st h := ev_s n235_57 rfl rfl
theorem n235_60 : mx_ins 235 60 = some (.ireturn, 1) := mx_ins_of mi235 dX20_many_60 rfl
theorem u235_60 : ev d 235 60 lo st h = evI d 235 60 61 lo st h .ireturn := ev_u n235_60 rfl
theorem n235_61 : mx_ins 235 61 = some ((.iconst (-1)), 1) := mx_ins_of mi235 dX20_many_61 rfl
theorem u235_61 : ev d 235 61 lo st h = ev d 235 62 lo (.int (-1) :: st) h := (ev_s (f := mx_push (.int (-1))) n235_61 rfl rfl).trans es_push
theorem n235_62 : mx_ins 235 62 = some (.ireturn, 1) := mx_ins_of mi235 dX20_many_62 rfl
theorem u235_62 : ev d 235 62 lo st h = evI d 235 62 63 lo st h .ireturn := ev_u n235_62 rfl
theorem mi236 : mx_mi 236 = some (yX20_keep, cX20_keep, 1, (Option.some Jvm.ClassFile.FieldType.int), 20, 1, []) := rfl
theorem ow236 : mx_own 236 = 20 := mx_mi_own mi236
theorem mm236 : mx_max 236 = 1 := mx_mi_max mi236
theorem rt236 : mx_ret 236 = (Option.some Jvm.ClassFile.FieldType.int) := mx_mi_ret mi236
theorem hn236 : mx_hnd 236 = [] := mx_mi_hnd mi236
theorem n236_0 : mx_ins 236 0 = some ((.aload_n 0), 1) := mx_ins_of mi236 dX20_keep_0 rfl
theorem u236_0 : ev d 236 0 lo st h = evS (mx_ldA 0) d 236 1 lo st h := ev_s n236_0 rfl rfl
theorem n236_1 : mx_ins 236 1 = some ((.iconst 1), 1) := mx_ins_of mi236 dX20_keep_1 rfl
theorem u236_1 : ev d 236 1 lo st h = ev d 236 2 lo (.int 1 :: st) h := (ev_s (f := mx_push (.int 1)) n236_1 rfl rfl).trans es_push
theorem n236_2 : mx_ins 236 2 = some ((.invokevirtual 402), 3) := mx_ins_of mi236 dX20_keep_2 rfl
theorem u236_2 : ev d 236 2 lo st h = evIn d 236 2 5 20 402 2 false lo st h := ev_inv n236_2 rfl rfl ow236 ia20_402
theorem n236_5 : mx_ins 236 5 = some ((.aload_n 0), 1) := mx_ins_of mi236 dX20_keep_5 rfl
theorem u236_5 : ev d 236 5 lo st h = evS (mx_ldA 0) d 236 6 lo st h := ev_s n236_5 rfl rfl
theorem n236_6 : mx_ins 236 6 = some ((.iconst 1), 1) := mx_ins_of mi236 dX20_keep_6 rfl
theorem u236_6 : ev d 236 6 lo st h = ev d 236 7 lo (.int 1 :: st) h := (ev_s (f := mx_push (.int 1)) n236_6 rfl rfl).trans es_push
theorem n236_7 : mx_ins 236 7 = some ((.putfield 406), 3) := mx_ins_of mi236 dX20_keep_7 rfl
theorem u236_7 : ev d 236 7 lo st h = evS (mx_pf 20 406 false) d 236 10 lo st h := ev_s n236_7 rfl rfl
theorem n236_10 : mx_ins 236 10 = some ((.iconst 1), 1) := mx_ins_of mi236 dX20_keep_10 rfl
theorem u236_10 : ev d 236 10 lo st h = ev d 236 11 lo (.int 1 :: st) h := (ev_s (f := mx_push (.int 1)) n236_10 rfl rfl).trans es_push
theorem n236_11 : mx_ins 236 11 = some (.ireturn, 1) := mx_ins_of mi236 dX20_keep_11 rfl
theorem u236_11 : ev d 236 11 lo st h = evI d 236 11 12 lo st h .ireturn := ev_u n236_11 rfl
theorem mi237 : mx_mi 237 = some (yX20_moveAll, cX20_moveAll, 2, (none : Option FieldType), 20, 2, []) := rfl
theorem ow237 : mx_own 237 = 20 := mx_mi_own mi237
theorem mm237 : mx_max 237 = 2 := mx_mi_max mi237
theorem rt237 : mx_ret 237 = (none : Option FieldType) := mx_mi_ret mi237
theorem hn237 : mx_hnd 237 = [] := mx_mi_hnd mi237
theorem n237_0 : mx_ins 237 0 = some ((.aload_n 0), 1) := mx_ins_of mi237 dX20_moveAll_0 rfl
theorem u237_0 : ev d 237 0 lo st h = evS (mx_ldA 0) d 237 1 lo st h := ev_s n237_0 rfl rfl
theorem n237_1 : mx_ins 237 1 = some ((.iconst 0), 1) := mx_ins_of mi237 dX20_moveAll_1 rfl
theorem u237_1 : ev d 237 1 lo st h = ev d 237 2 lo (.int 0 :: st) h := (ev_s (f := mx_push (.int 0)) n237_1 rfl rfl).trans es_push
theorem n237_2 : mx_ins 237 2 = some ((.putfield 395), 3) := mx_ins_of mi237 dX20_moveAll_2 rfl
theorem u237_2 : ev d 237 2 lo st h = evS (mx_pf 20 395 false) d 237 5 lo st h := ev_s n237_2 rfl rfl
theorem n237_5 : mx_ins 237 5 = some ((.aload_n 0), 1) := mx_ins_of mi237 dX20_moveAll_5 rfl
theorem u237_5 : ev d 237 5 lo st h = evS (mx_ldA 0) d 237 6 lo st h := ev_s n237_5 rfl rfl
theorem n237_6 : mx_ins 237 6 = some ((.getfield 97), 3) := mx_ins_of mi237 dX20_moveAll_6 rfl
theorem u237_6 : ev d 237 6 lo st h = evS (mx_gf 20 97) d 237 9 lo st h := ev_s n237_6 rfl rfl
theorem n237_9 : mx_ins 237 9 = some ((.iconst 0), 1) := mx_ins_of mi237 dX20_moveAll_9 rfl
theorem u237_9 : ev d 237 9 lo st h = ev d 237 10 lo (.int 0 :: st) h := (ev_s (f := mx_push (.int 0)) n237_9 rfl rfl).trans es_push
theorem n237_10 : mx_ins 237 10 = some ((.aload_n 0), 1) := mx_ins_of mi237 dX20_moveAll_10 rfl
theorem u237_10 : ev d 237 10 lo st h = evS (mx_ldA 0) d 237 11 lo st h := ev_s n237_10 rfl rfl
theorem n237_11 : mx_ins 237 11 = some ((.getfield 315), 3) := mx_ins_of mi237 dX20_moveAll_11 rfl
theorem u237_11 : ev d 237 11 lo st h = evS (mx_gf 20 315) d 237 14 lo st h := ev_s n237_11 rfl rfl
theorem n237_14 : mx_ins 237 14 = some (.iastore, 1) := mx_ins_of mi237 dX20_moveAll_14 rfl
theorem u237_14 : ev d 237 14 lo st h = evI d 237 14 15 lo st h .iastore := ev_u n237_14 rfl
theorem n237_15 : mx_ins 237 15 = some ((.aload_n 0), 1) := mx_ins_of mi237 dX20_moveAll_15 rfl
theorem u237_15 : ev d 237 15 lo st h = evS (mx_ldA 0) d 237 16 lo st h := ev_s n237_15 rfl rfl
theorem n237_16 : mx_ins 237 16 = some ((.getfield 97), 3) := mx_ins_of mi237 dX20_moveAll_16 rfl
theorem u237_16 : ev d 237 16 lo st h = evS (mx_gf 20 97) d 237 19 lo st h := ev_s n237_16 rfl rfl
theorem n237_19 : mx_ins 237 19 = some ((.iconst 1), 1) := mx_ins_of mi237 dX20_moveAll_19 rfl
theorem u237_19 : ev d 237 19 lo st h = ev d 237 20 lo (.int 1 :: st) h := (ev_s (f := mx_push (.int 1)) n237_19 rfl rfl).trans es_push
theorem n237_20 : mx_ins 237 20 = some ((.aload_n 0), 1) := mx_ins_of mi237 dX20_moveAll_20 rfl
theorem u237_20 : ev d 237 20 lo st h = evS (mx_ldA 0) d 237 21 lo st h := ev_s n237_20 rfl rfl
theorem n237_21 : mx_ins 237 21 = some ((.getfield 235), 3) := mx_ins_of mi237 dX20_moveAll_21 rfl
theorem u237_21 : ev d 237 21 lo st h = evS (mx_gf 20 235) d 237 24 lo st h := ev_s n237_21 rfl rfl
theorem n237_24 : mx_ins 237 24 = some (.iastore, 1) := mx_ins_of mi237 dX20_moveAll_24 rfl
theorem u237_24 : ev d 237 24 lo st h = evI d 237 24 25 lo st h .iastore := ev_u n237_24 rfl
theorem n237_25 : mx_ins 237 25 = some ((.aload_n 0), 1) := mx_ins_of mi237 dX20_moveAll_25 rfl
theorem u237_25 : ev d 237 25 lo st h = evS (mx_ldA 0) d 237 26 lo st h := ev_s n237_25 rfl rfl
theorem n237_26 : mx_ins 237 26 = some ((.getfield 97), 3) := mx_ins_of mi237 dX20_moveAll_26 rfl
theorem u237_26 : ev d 237 26 lo st h = evS (mx_gf 20 97) d 237 29 lo st h := ev_s n237_26 rfl rfl
theorem n237_29 : mx_ins 237 29 = some ((.iconst 2), 1) := mx_ins_of mi237 dX20_moveAll_29 rfl
theorem u237_29 : ev d 237 29 lo st h = ev d 237 30 lo (.int 2 :: st) h := (ev_s (f := mx_push (.int 2)) n237_29 rfl rfl).trans es_push
theorem n237_30 : mx_ins 237 30 = some ((.aload_n 0), 1) := mx_ins_of mi237 dX20_moveAll_30 rfl
theorem u237_30 : ev d 237 30 lo st h = evS (mx_ldA 0) d 237 31 lo st h := ev_s n237_30 rfl rfl
theorem n237_31 : mx_ins 237 31 = some ((.getfield 43), 3) := mx_ins_of mi237 dX20_moveAll_31 rfl
theorem u237_31 : ev d 237 31 lo st h = evS (mx_gf 20 43) d 237 34 lo st h := ev_s n237_31 rfl rfl
theorem n237_34 : mx_ins 237 34 = some (.iastore, 1) := mx_ins_of mi237 dX20_moveAll_34 rfl
theorem u237_34 : ev d 237 34 lo st h = evI d 237 34 35 lo st h .iastore := ev_u n237_34 rfl
theorem n237_35 : mx_ins 237 35 = some ((.aload_n 0), 1) := mx_ins_of mi237 dX20_moveAll_35 rfl
theorem u237_35 : ev d 237 35 lo st h = evS (mx_ldA 0) d 237 36 lo st h := ev_s n237_35 rfl rfl
theorem n237_36 : mx_ins 237 36 = some ((.aload_n 0), 1) := mx_ins_of mi237 dX20_moveAll_36 rfl
theorem u237_36 : ev d 237 36 lo st h = evS (mx_ldA 0) d 237 37 lo st h := ev_s n237_36 rfl rfl
theorem n237_37 : mx_ins 237 37 = some ((.getfield 97), 3) := mx_ins_of mi237 dX20_moveAll_37 rfl
theorem u237_37 : ev d 237 37 lo st h = evS (mx_gf 20 97) d 237 40 lo st h := ev_s n237_37 rfl rfl
theorem n237_40 : mx_ins 237 40 = some ((.iconst 3), 1) := mx_ins_of mi237 dX20_moveAll_40 rfl
theorem u237_40 : ev d 237 40 lo st h = ev d 237 41 lo (.int 3 :: st) h := (ev_s (f := mx_push (.int 3)) n237_40 rfl rfl).trans es_push
theorem n237_41 : mx_ins 237 41 = some ((.iload_n 1), 1) := mx_ins_of mi237 dX20_moveAll_41 rfl
theorem u237_41 : ev d 237 41 lo st h = evS (mx_ldI 1) d 237 42 lo st h := ev_s n237_41 rfl rfl
theorem n237_42 : mx_ins 237 42 = some ((.invokevirtual 398), 3) := mx_ins_of mi237 dX20_moveAll_42 rfl
theorem u237_42 : ev d 237 42 lo st h = evIn d 237 42 45 20 398 4 false lo st h := ev_inv n237_42 rfl rfl ow237 ia20_398
theorem n237_45 : mx_ins 237 45 = some ((.aload_n 0), 1) := mx_ins_of mi237 dX20_moveAll_45 rfl
theorem u237_45 : ev d 237 45 lo st h = evS (mx_ldA 0) d 237 46 lo st h := ev_s n237_45 rfl rfl
theorem n237_46 : mx_ins 237 46 = some ((.aload_n 0), 1) := mx_ins_of mi237 dX20_moveAll_46 rfl
theorem u237_46 : ev d 237 46 lo st h = evS (mx_ldA 0) d 237 47 lo st h := ev_s n237_46 rfl rfl
theorem n237_47 : mx_ins 237 47 = some ((.getfield 7), 3) := mx_ins_of mi237 dX20_moveAll_47 rfl
theorem u237_47 : ev d 237 47 lo st h = evS (mx_gf 20 7) d 237 50 lo st h := ev_s n237_47 rfl rfl
theorem n237_50 : mx_ins 237 50 = some ((.bipush 7), 2) := mx_ins_of mi237 dX20_moveAll_50 rfl
theorem u237_50 : ev d 237 50 lo st h = ev d 237 52 lo (.int 7 :: st) h := (ev_s (f := mx_push (.int 7)) n237_50 rfl rfl).trans es_push
theorem n237_52 : mx_ins 237 52 = some ((.iload_n 1), 1) := mx_ins_of mi237 dX20_moveAll_52 rfl
theorem u237_52 : ev d 237 52 lo st h = evS (mx_ldI 1) d 237 53 lo st h := ev_s n237_52 rfl rfl
theorem n237_53 : mx_ins 237 53 = some ((.invokevirtual 398), 3) := mx_ins_of mi237 dX20_moveAll_53 rfl
theorem u237_53 : ev d 237 53 lo st h = evIn d 237 53 56 20 398 4 false lo st h := ev_inv n237_53 rfl rfl ow237 ia20_398
theorem n237_56 : mx_ins 237 56 = some ((.aload_n 0), 1) := mx_ins_of mi237 dX20_moveAll_56 rfl
theorem u237_56 : ev d 237 56 lo st h = evS (mx_ldA 0) d 237 57 lo st h := ev_s n237_56 rfl rfl
theorem n237_57 : mx_ins 237 57 = some ((.aload_n 0), 1) := mx_ins_of mi237 dX20_moveAll_57 rfl
theorem u237_57 : ev d 237 57 lo st h = evS (mx_ldA 0) d 237 58 lo st h := ev_s n237_57 rfl rfl
theorem n237_58 : mx_ins 237 58 = some ((.getfield 19), 3) := mx_ins_of mi237 dX20_moveAll_58 rfl
theorem u237_58 : ev d 237 58 lo st h = evS (mx_gf 20 19) d 237 61 lo st h := ev_s n237_58 rfl rfl
theorem n237_61 : mx_ins 237 61 = some ((.bipush 24), 2) := mx_ins_of mi237 dX20_moveAll_61 rfl
theorem u237_61 : ev d 237 61 lo st h = ev d 237 63 lo (.int 24 :: st) h := (ev_s (f := mx_push (.int 24)) n237_61 rfl rfl).trans es_push
theorem n237_63 : mx_ins 237 63 = some ((.iload_n 1), 1) := mx_ins_of mi237 dX20_moveAll_63 rfl
theorem u237_63 : ev d 237 63 lo st h = evS (mx_ldI 1) d 237 64 lo st h := ev_s n237_63 rfl rfl
theorem n237_64 : mx_ins 237 64 = some ((.invokevirtual 398), 3) := mx_ins_of mi237 dX20_moveAll_64 rfl
theorem u237_64 : ev d 237 64 lo st h = evIn d 237 64 67 20 398 4 false lo st h := ev_inv n237_64 rfl rfl ow237 ia20_398
theorem n237_67 : mx_ins 237 67 = some ((.aload_n 0), 1) := mx_ins_of mi237 dX20_moveAll_67 rfl
theorem u237_67 : ev d 237 67 lo st h = evS (mx_ldA 0) d 237 68 lo st h := ev_s n237_67 rfl rfl
theorem n237_68 : mx_ins 237 68 = some ((.aload_n 0), 1) := mx_ins_of mi237 dX20_moveAll_68 rfl
theorem u237_68 : ev d 237 68 lo st h = evS (mx_ldA 0) d 237 69 lo st h := ev_s n237_68 rfl rfl
theorem n237_69 : mx_ins 237 69 = some ((.getfield 22), 3) := mx_ins_of mi237 dX20_moveAll_69 rfl
theorem u237_69 : ev d 237 69 lo st h = evS (mx_gf 20 22) d 237 72 lo st h := ev_s n237_69 rfl rfl
theorem n237_72 : mx_ins 237 72 = some ((.bipush 24), 2) := mx_ins_of mi237 dX20_moveAll_72 rfl
theorem u237_72 : ev d 237 72 lo st h = ev d 237 74 lo (.int 24 :: st) h := (ev_s (f := mx_push (.int 24)) n237_72 rfl rfl).trans es_push
theorem n237_74 : mx_ins 237 74 = some ((.iload_n 1), 1) := mx_ins_of mi237 dX20_moveAll_74 rfl
theorem u237_74 : ev d 237 74 lo st h = evS (mx_ldI 1) d 237 75 lo st h := ev_s n237_74 rfl rfl
theorem n237_75 : mx_ins 237 75 = some ((.invokevirtual 398), 3) := mx_ins_of mi237 dX20_moveAll_75 rfl
theorem u237_75 : ev d 237 75 lo st h = evIn d 237 75 78 20 398 4 false lo st h := ev_inv n237_75 rfl rfl ow237 ia20_398
theorem n237_78 : mx_ins 237 78 = some ((.aload_n 0), 1) := mx_ins_of mi237 dX20_moveAll_78 rfl
theorem u237_78 : ev d 237 78 lo st h = evS (mx_ldA 0) d 237 79 lo st h := ev_s n237_78 rfl rfl
theorem n237_79 : mx_ins 237 79 = some ((.aload_n 0), 1) := mx_ins_of mi237 dX20_moveAll_79 rfl
theorem u237_79 : ev d 237 79 lo st h = evS (mx_ldA 0) d 237 80 lo st h := ev_s n237_79 rfl rfl
theorem n237_80 : mx_ins 237 80 = some ((.getfield 25), 3) := mx_ins_of mi237 dX20_moveAll_80 rfl
theorem u237_80 : ev d 237 80 lo st h = evS (mx_gf 20 25) d 237 83 lo st h := ev_s n237_80 rfl rfl
theorem n237_83 : mx_ins 237 83 = some ((.iconst 5), 1) := mx_ins_of mi237 dX20_moveAll_83 rfl
theorem u237_83 : ev d 237 83 lo st h = ev d 237 84 lo (.int 5 :: st) h := (ev_s (f := mx_push (.int 5)) n237_83 rfl rfl).trans es_push
theorem n237_84 : mx_ins 237 84 = some ((.iload_n 1), 1) := mx_ins_of mi237 dX20_moveAll_84 rfl
theorem u237_84 : ev d 237 84 lo st h = evS (mx_ldI 1) d 237 85 lo st h := ev_s n237_84 rfl rfl
theorem n237_85 : mx_ins 237 85 = some ((.invokevirtual 398), 3) := mx_ins_of mi237 dX20_moveAll_85 rfl
theorem u237_85 : ev d 237 85 lo st h = evIn d 237 85 88 20 398 4 false lo st h := ev_inv n237_85 rfl rfl ow237 ia20_398
theorem n237_88 : mx_ins 237 88 = some ((.aload_n 0), 1) := mx_ins_of mi237 dX20_moveAll_88 rfl
theorem u237_88 : ev d 237 88 lo st h = evS (mx_ldA 0) d 237 89 lo st h := ev_s n237_88 rfl rfl
theorem n237_89 : mx_ins 237 89 = some ((.aload_n 0), 1) := mx_ins_of mi237 dX20_moveAll_89 rfl
theorem u237_89 : ev d 237 89 lo st h = evS (mx_ldA 0) d 237 90 lo st h := ev_s n237_89 rfl rfl
theorem n237_90 : mx_ins 237 90 = some ((.getfield 34), 3) := mx_ins_of mi237 dX20_moveAll_90 rfl
theorem u237_90 : ev d 237 90 lo st h = evS (mx_gf 20 34) d 237 93 lo st h := ev_s n237_90 rfl rfl
theorem n237_93 : mx_ins 237 93 = some ((.bipush 20), 2) := mx_ins_of mi237 dX20_moveAll_93 rfl
theorem u237_93 : ev d 237 93 lo st h = ev d 237 95 lo (.int 20 :: st) h := (ev_s (f := mx_push (.int 20)) n237_93 rfl rfl).trans es_push
theorem n237_95 : mx_ins 237 95 = some ((.iload_n 1), 1) := mx_ins_of mi237 dX20_moveAll_95 rfl
theorem u237_95 : ev d 237 95 lo st h = evS (mx_ldI 1) d 237 96 lo st h := ev_s n237_95 rfl rfl
theorem n237_96 : mx_ins 237 96 = some ((.invokevirtual 398), 3) := mx_ins_of mi237 dX20_moveAll_96 rfl
theorem u237_96 : ev d 237 96 lo st h = evIn d 237 96 99 20 398 4 false lo st h := ev_inv n237_96 rfl rfl ow237 ia20_398
theorem n237_99 : mx_ins 237 99 = some ((.aload_n 0), 1) := mx_ins_of mi237 dX20_moveAll_99 rfl
theorem u237_99 : ev d 237 99 lo st h = evS (mx_ldA 0) d 237 100 lo st h := ev_s n237_99 rfl rfl
theorem n237_100 : mx_ins 237 100 = some ((.aload_n 0), 1) := mx_ins_of mi237 dX20_moveAll_100 rfl
theorem u237_100 : ev d 237 100 lo st h = evS (mx_ldA 0) d 237 101 lo st h := ev_s n237_100 rfl rfl
theorem n237_101 : mx_ins 237 101 = some ((.getfield 37), 3) := mx_ins_of mi237 dX20_moveAll_101 rfl
theorem u237_101 : ev d 237 101 lo st h = evS (mx_gf 20 37) d 237 104 lo st h := ev_s n237_101 rfl rfl
theorem n237_104 : mx_ins 237 104 = some ((.bipush 24), 2) := mx_ins_of mi237 dX20_moveAll_104 rfl
theorem u237_104 : ev d 237 104 lo st h = ev d 237 106 lo (.int 24 :: st) h := (ev_s (f := mx_push (.int 24)) n237_104 rfl rfl).trans es_push
theorem n237_106 : mx_ins 237 106 = some ((.iload_n 1), 1) := mx_ins_of mi237 dX20_moveAll_106 rfl
theorem u237_106 : ev d 237 106 lo st h = evS (mx_ldI 1) d 237 107 lo st h := ev_s n237_106 rfl rfl
theorem n237_107 : mx_ins 237 107 = some ((.invokevirtual 398), 3) := mx_ins_of mi237 dX20_moveAll_107 rfl
theorem u237_107 : ev d 237 107 lo st h = evIn d 237 107 110 20 398 4 false lo st h := ev_inv n237_107 rfl rfl ow237 ia20_398
theorem n237_110 : mx_ins 237 110 = some ((.aload_n 0), 1) := mx_ins_of mi237 dX20_moveAll_110 rfl
theorem u237_110 : ev d 237 110 lo st h = evS (mx_ldA 0) d 237 111 lo st h := ev_s n237_110 rfl rfl
theorem n237_111 : mx_ins 237 111 = some ((.aload_n 0), 1) := mx_ins_of mi237 dX20_moveAll_111 rfl
theorem u237_111 : ev d 237 111 lo st h = evS (mx_ldA 0) d 237 112 lo st h := ev_s n237_111 rfl rfl
theorem n237_112 : mx_ins 237 112 = some ((.getfield 40), 3) := mx_ins_of mi237 dX20_moveAll_112 rfl
theorem u237_112 : ev d 237 112 lo st h = evS (mx_gf 20 40) d 237 115 lo st h := ev_s n237_112 rfl rfl
theorem n237_115 : mx_ins 237 115 = some ((.sipush 200), 3) := mx_ins_of mi237 dX20_moveAll_115 rfl
theorem u237_115 : ev d 237 115 lo st h = ev d 237 118 lo (.int 200 :: st) h := (ev_s (f := mx_push (.int 200)) n237_115 rfl rfl).trans es_push
theorem n237_118 : mx_ins 237 118 = some ((.iload_n 1), 1) := mx_ins_of mi237 dX20_moveAll_118 rfl
theorem u237_118 : ev d 237 118 lo st h = evS (mx_ldI 1) d 237 119 lo st h := ev_s n237_118 rfl rfl
theorem n237_119 : mx_ins 237 119 = some ((.invokevirtual 398), 3) := mx_ins_of mi237 dX20_moveAll_119 rfl
theorem u237_119 : ev d 237 119 lo st h = evIn d 237 119 122 20 398 4 false lo st h := ev_inv n237_119 rfl rfl ow237 ia20_398
theorem n237_122 : mx_ins 237 122 = some (.return_, 1) := mx_ins_of mi237 dX20_moveAll_122 rfl
theorem u237_122 : ev d 237 122 lo st h = evI d 237 122 123 lo st h .return_ := ev_u n237_122 rfl
theorem mi238 : mx_mi 238 = some (yX20_moveRow, cX20_moveRow, 5, (none : Option FieldType), 20, 4, []) := rfl
theorem ow238 : mx_own 238 = 20 := mx_mi_own mi238
theorem mm238 : mx_max 238 = 5 := mx_mi_max mi238
theorem rt238 : mx_ret 238 = (none : Option FieldType) := mx_mi_ret mi238
theorem hn238 : mx_hnd 238 = [] := mx_mi_hnd mi238
theorem n238_0 : mx_ins 238 0 = some ((.iconst 0), 1) := mx_ins_of mi238 dX20_moveRow_0 rfl
theorem u238_0 : ev d 238 0 lo st h = ev d 238 1 lo (.int 0 :: st) h := (ev_s (f := mx_push (.int 0)) n238_0 rfl rfl).trans es_push
theorem n238_1 : mx_ins 238 1 = some ((.istore 4), 2) := mx_ins_of mi238 dX20_moveRow_1 rfl
theorem u238_1 : ev d 238 1 lo st h = evS (mx_stI 4) d 238 3 lo st h := ev_s n238_1 rfl rfl
theorem n238_3 : mx_ins 238 3 = some ((.iload 4), 2) := mx_ins_of mi238 dX20_moveRow_3 rfl
theorem u238_3 : ev d 238 3 lo st h = evS (mx_ldI 4) d 238 5 lo st h := ev_s n238_3 rfl rfl
theorem n238_5 : mx_ins 238 5 = some ((.iload_n 2), 1) := mx_ins_of mi238 dX20_moveRow_5 rfl
theorem u238_5 : ev d 238 5 lo st h = evS (mx_ldI 2) d 238 6 lo st h := ev_s n238_5 rfl rfl
theorem n238_6 : mx_ins 238 6 = some ((.if_icmp .ge 52), 3) := mx_ins_of mi238 dX20_moveRow_6 rfl
theorem u238_6 : ev d 238 6 lo st h = evK .ge d 238 58 9 lo st h := ev_ic n238_6 rfl rfl
theorem n238_9 : mx_ins 238 9 = some ((.iload_n 3), 1) := mx_ins_of mi238 dX20_moveRow_9 rfl
theorem u238_9 : ev d 238 9 lo st h = evS (mx_ldI 3) d 238 10 lo st h := ev_s n238_9 rfl rfl
theorem n238_10 : mx_ins 238 10 = some ((.ifCond .eq 19), 3) := mx_ins_of mi238 dX20_moveRow_10 rfl
theorem u238_10 : ev d 238 10 lo st h = evJ .eq d 238 29 13 lo st h := ev_if n238_10 rfl rfl
theorem n238_13 : mx_ins 238 13 = some ((.aload_n 0), 1) := mx_ins_of mi238 dX20_moveRow_13 rfl
theorem u238_13 : ev d 238 13 lo st h = evS (mx_ldA 0) d 238 14 lo st h := ev_s n238_13 rfl rfl
theorem n238_14 : mx_ins 238 14 = some ((.getfield 94), 3) := mx_ins_of mi238 dX20_moveRow_14 rfl
theorem u238_14 : ev d 238 14 lo st h = evS (mx_gf 20 94) d 238 17 lo st h := ev_s n238_14 rfl rfl
theorem n238_17 : mx_ins 238 17 = some ((.aload_n 0), 1) := mx_ins_of mi238 dX20_moveRow_17 rfl
theorem u238_17 : ev d 238 17 lo st h = evS (mx_ldA 0) d 238 18 lo st h := ev_s n238_17 rfl rfl
theorem n238_18 : mx_ins 238 18 = some ((.getfield 395), 3) := mx_ins_of mi238 dX20_moveRow_18 rfl
theorem u238_18 : ev d 238 18 lo st h = evS (mx_gf 20 395) d 238 21 lo st h := ev_s n238_18 rfl rfl
theorem n238_21 : mx_ins 238 21 = some ((.aload_n 1), 1) := mx_ins_of mi238 dX20_moveRow_21 rfl
theorem u238_21 : ev d 238 21 lo st h = evS (mx_ldA 1) d 238 22 lo st h := ev_s n238_21 rfl rfl
theorem n238_22 : mx_ins 238 22 = some ((.iload 4), 2) := mx_ins_of mi238 dX20_moveRow_22 rfl
theorem u238_22 : ev d 238 22 lo st h = evS (mx_ldI 4) d 238 24 lo st h := ev_s n238_22 rfl rfl
theorem n238_24 : mx_ins 238 24 = some (.iaload, 1) := mx_ins_of mi238 dX20_moveRow_24 rfl
theorem u238_24 : ev d 238 24 lo st h = evI d 238 24 25 lo st h .iaload := ev_u n238_24 rfl
theorem n238_25 : mx_ins 238 25 = some (.iastore, 1) := mx_ins_of mi238 dX20_moveRow_25 rfl
theorem u238_25 : ev d 238 25 lo st h = evI d 238 25 26 lo st h .iastore := ev_u n238_25 rfl
theorem n238_26 : mx_ins 238 26 = some ((.goto 16), 3) := mx_ins_of mi238 dX20_moveRow_26 rfl
theorem u238_26 : ev d 238 26 lo st h = ev d 238 42 lo st h := ev_goto n238_26 rfl
theorem n238_29 : mx_ins 238 29 = some ((.aload_n 1), 1) := mx_ins_of mi238 dX20_moveRow_29 rfl
theorem u238_29 : ev d 238 29 lo st h = evS (mx_ldA 1) d 238 30 lo st h := ev_s n238_29 rfl rfl
theorem n238_30 : mx_ins 238 30 = some ((.iload 4), 2) := mx_ins_of mi238 dX20_moveRow_30 rfl
theorem u238_30 : ev d 238 30 lo st h = evS (mx_ldI 4) d 238 32 lo st h := ev_s n238_30 rfl rfl
theorem n238_32 : mx_ins 238 32 = some ((.aload_n 0), 1) := mx_ins_of mi238 dX20_moveRow_32 rfl
theorem u238_32 : ev d 238 32 lo st h = evS (mx_ldA 0) d 238 33 lo st h := ev_s n238_32 rfl rfl
theorem n238_33 : mx_ins 238 33 = some ((.getfield 94), 3) := mx_ins_of mi238 dX20_moveRow_33 rfl
theorem u238_33 : ev d 238 33 lo st h = evS (mx_gf 20 94) d 238 36 lo st h := ev_s n238_33 rfl rfl
theorem n238_36 : mx_ins 238 36 = some ((.aload_n 0), 1) := mx_ins_of mi238 dX20_moveRow_36 rfl
theorem u238_36 : ev d 238 36 lo st h = evS (mx_ldA 0) d 238 37 lo st h := ev_s n238_36 rfl rfl
theorem n238_37 : mx_ins 238 37 = some ((.getfield 395), 3) := mx_ins_of mi238 dX20_moveRow_37 rfl
theorem u238_37 : ev d 238 37 lo st h = evS (mx_gf 20 395) d 238 40 lo st h := ev_s n238_37 rfl rfl
theorem n238_40 : mx_ins 238 40 = some (.iaload, 1) := mx_ins_of mi238 dX20_moveRow_40 rfl
theorem u238_40 : ev d 238 40 lo st h = evI d 238 40 41 lo st h .iaload := ev_u n238_40 rfl
theorem n238_41 : mx_ins 238 41 = some (.iastore, 1) := mx_ins_of mi238 dX20_moveRow_41 rfl
theorem u238_41 : ev d 238 41 lo st h = evI d 238 41 42 lo st h .iastore := ev_u n238_41 rfl
theorem n238_42 : mx_ins 238 42 = some ((.aload_n 0), 1) := mx_ins_of mi238 dX20_moveRow_42 rfl
theorem u238_42 : ev d 238 42 lo st h = evS (mx_ldA 0) d 238 43 lo st h := ev_s n238_42 rfl rfl
theorem n238_43 : mx_ins 238 43 = some (.dup, 1) := mx_ins_of mi238 dX20_moveRow_43 rfl
theorem u238_43 : ev d 238 43 lo st h = evI d 238 43 44 lo st h .dup := ev_u n238_43 rfl
theorem n238_44 : mx_ins 238 44 = some ((.getfield 395), 3) := mx_ins_of mi238 dX20_moveRow_44 rfl
theorem u238_44 : ev d 238 44 lo st h = evS (mx_gf 20 395) d 238 47 lo st h := ev_s n238_44 rfl rfl
theorem n238_47 : mx_ins 238 47 = some ((.iconst 1), 1) := mx_ins_of mi238 dX20_moveRow_47 rfl
theorem u238_47 : ev d 238 47 lo st h = ev d 238 48 lo (.int 1 :: st) h := (ev_s (f := mx_push (.int 1)) n238_47 rfl rfl).trans es_push
theorem n238_48 : mx_ins 238 48 = some (.iadd, 1) := mx_ins_of mi238 dX20_moveRow_48 rfl
theorem u238_48 : ev d 238 48 lo st h = evI d 238 48 49 lo st h .iadd := ev_u n238_48 rfl
theorem n238_49 : mx_ins 238 49 = some ((.putfield 395), 3) := mx_ins_of mi238 dX20_moveRow_49 rfl
theorem u238_49 : ev d 238 49 lo st h = evS (mx_pf 20 395 false) d 238 52 lo st h := ev_s n238_49 rfl rfl
theorem n238_52 : mx_ins 238 52 = some ((.iinc 4 1), 3) := mx_ins_of mi238 dX20_moveRow_52 rfl
theorem u238_52 : ev d 238 52 lo st h = evS (mx_inc 4 (1)) d 238 55 lo st h := ev_s n238_52 rfl rfl
theorem n238_55 : mx_ins 238 55 = some ((.goto (-52)), 3) := mx_ins_of mi238 dX20_moveRow_55 rfl
theorem u238_55 : ev d 238 55 lo st h = ev d 238 3 lo st h := ev_goto n238_55 rfl
theorem n238_58 : mx_ins 238 58 = some (.return_, 1) := mx_ins_of mi238 dX20_moveRow_58 rfl
theorem u238_58 : ev d 238 58 lo st h = evI d 238 58 59 lo st h .return_ := ev_u n238_58 rfl
theorem mi239 : mx_mi 239 = some (yX20_again, cX20_again, 1, (Option.some Jvm.ClassFile.FieldType.int), 20, 1, []) := rfl
theorem ow239 : mx_own 239 = 20 := mx_mi_own mi239
theorem mm239 : mx_max 239 = 1 := mx_mi_max mi239
theorem rt239 : mx_ret 239 = (Option.some Jvm.ClassFile.FieldType.int) := mx_mi_ret mi239
theorem hn239 : mx_hnd 239 = [] := mx_mi_hnd mi239
theorem n239_0 : mx_ins 239 0 = some ((.aload_n 0), 1) := mx_ins_of mi239 dX20_again_0 rfl
theorem u239_0 : ev d 239 0 lo st h = evS (mx_ldA 0) d 239 1 lo st h := ev_s n239_0 rfl rfl
theorem n239_1 : mx_ins 239 1 = some ((.getfield 406), 3) := mx_ins_of mi239 dX20_again_1 rfl
theorem u239_1 : ev d 239 1 lo st h = evS (mx_gf 20 406) d 239 4 lo st h := ev_s n239_1 rfl rfl
theorem n239_4 : mx_ins 239 4 = some ((.ifCond .ne 6), 3) := mx_ins_of mi239 dX20_again_4 rfl
theorem u239_4 : ev d 239 4 lo st h = evJ .ne d 239 10 7 lo st h := ev_if n239_4 rfl rfl
theorem n239_7 : mx_ins 239 7 = some ((.bipush (-3)), 2) := mx_ins_of mi239 dX20_again_7 rfl
theorem u239_7 : ev d 239 7 lo st h = ev d 239 9 lo (.int (-3) :: st) h := (ev_s (f := mx_push (.int (-3))) n239_7 rfl rfl).trans es_push
theorem n239_9 : mx_ins 239 9 = some (.ireturn, 1) := mx_ins_of mi239 dX20_again_9 rfl
theorem u239_9 : ev d 239 9 lo st h = evI d 239 9 10 lo st h .ireturn := ev_u n239_9 rfl
theorem n239_10 : mx_ins 239 10 = some ((.aload_n 0), 1) := mx_ins_of mi239 dX20_again_10 rfl
theorem u239_10 : ev d 239 10 lo st h = evS (mx_ldA 0) d 239 11 lo st h := ev_s n239_10 rfl rfl
theorem n239_11 : mx_ins 239 11 = some ((.iconst 0), 1) := mx_ins_of mi239 dX20_again_11 rfl
theorem u239_11 : ev d 239 11 lo st h = ev d 239 12 lo (.int 0 :: st) h := (ev_s (f := mx_push (.int 0)) n239_11 rfl rfl).trans es_push
theorem n239_12 : mx_ins 239 12 = some ((.invokevirtual 402), 3) := mx_ins_of mi239 dX20_again_12 rfl
theorem u239_12 : ev d 239 12 lo st h = evIn d 239 12 15 20 402 2 false lo st h := ev_inv n239_12 rfl rfl ow239 ia20_402
theorem n239_15 : mx_ins 239 15 = some ((.aload_n 0), 1) := mx_ins_of mi239 dX20_again_15 rfl
theorem u239_15 : ev d 239 15 lo st h = evS (mx_ldA 0) d 239 16 lo st h := ev_s n239_15 rfl rfl
theorem n239_16 : mx_ins 239 16 = some ((.aload_n 0), 1) := mx_ins_of mi239 dX20_again_16 rfl
theorem u239_16 : ev d 239 16 lo st h = evS (mx_ldA 0) d 239 17 lo st h := ev_s n239_16 rfl rfl
theorem n239_17 : mx_ins 239 17 = some ((.getfield 97), 3) := mx_ins_of mi239 dX20_again_17 rfl
theorem u239_17 : ev d 239 17 lo st h = evS (mx_gf 20 97) d 239 20 lo st h := ev_s n239_17 rfl rfl
theorem n239_20 : mx_ins 239 20 = some ((.iconst 0), 1) := mx_ins_of mi239 dX20_again_20 rfl
theorem u239_20 : ev d 239 20 lo st h = ev d 239 21 lo (.int 0 :: st) h := (ev_s (f := mx_push (.int 0)) n239_20 rfl rfl).trans es_push
theorem n239_21 : mx_ins 239 21 = some (.iaload, 1) := mx_ins_of mi239 dX20_again_21 rfl
theorem u239_21 : ev d 239 21 lo st h = evI d 239 21 22 lo st h .iaload := ev_u n239_21 rfl
theorem n239_22 : mx_ins 239 22 = some ((.putfield 315), 3) := mx_ins_of mi239 dX20_again_22 rfl
theorem u239_22 : ev d 239 22 lo st h = evS (mx_pf 20 315 false) d 239 25 lo st h := ev_s n239_22 rfl rfl
theorem n239_25 : mx_ins 239 25 = some ((.aload_n 0), 1) := mx_ins_of mi239 dX20_again_25 rfl
theorem u239_25 : ev d 239 25 lo st h = evS (mx_ldA 0) d 239 26 lo st h := ev_s n239_25 rfl rfl
theorem n239_26 : mx_ins 239 26 = some ((.aload_n 0), 1) := mx_ins_of mi239 dX20_again_26 rfl
theorem u239_26 : ev d 239 26 lo st h = evS (mx_ldA 0) d 239 27 lo st h := ev_s n239_26 rfl rfl
theorem n239_27 : mx_ins 239 27 = some ((.getfield 97), 3) := mx_ins_of mi239 dX20_again_27 rfl
theorem u239_27 : ev d 239 27 lo st h = evS (mx_gf 20 97) d 239 30 lo st h := ev_s n239_27 rfl rfl
theorem n239_30 : mx_ins 239 30 = some ((.iconst 1), 1) := mx_ins_of mi239 dX20_again_30 rfl
theorem u239_30 : ev d 239 30 lo st h = ev d 239 31 lo (.int 1 :: st) h := (ev_s (f := mx_push (.int 1)) n239_30 rfl rfl).trans es_push
theorem n239_31 : mx_ins 239 31 = some (.iaload, 1) := mx_ins_of mi239 dX20_again_31 rfl
theorem u239_31 : ev d 239 31 lo st h = evI d 239 31 32 lo st h .iaload := ev_u n239_31 rfl
theorem n239_32 : mx_ins 239 32 = some ((.putfield 235), 3) := mx_ins_of mi239 dX20_again_32 rfl
theorem u239_32 : ev d 239 32 lo st h = evS (mx_pf 20 235 false) d 239 35 lo st h := ev_s n239_32 rfl rfl
theorem n239_35 : mx_ins 239 35 = some ((.aload_n 0), 1) := mx_ins_of mi239 dX20_again_35 rfl
theorem u239_35 : ev d 239 35 lo st h = evS (mx_ldA 0) d 239 36 lo st h := ev_s n239_35 rfl rfl
theorem n239_36 : mx_ins 239 36 = some ((.aload_n 0), 1) := mx_ins_of mi239 dX20_again_36 rfl
theorem u239_36 : ev d 239 36 lo st h = evS (mx_ldA 0) d 239 37 lo st h := ev_s n239_36 rfl rfl
theorem n239_37 : mx_ins 239 37 = some ((.getfield 97), 3) := mx_ins_of mi239 dX20_again_37 rfl
theorem u239_37 : ev d 239 37 lo st h = evS (mx_gf 20 97) d 239 40 lo st h := ev_s n239_37 rfl rfl
theorem n239_40 : mx_ins 239 40 = some ((.iconst 2), 1) := mx_ins_of mi239 dX20_again_40 rfl
theorem u239_40 : ev d 239 40 lo st h = ev d 239 41 lo (.int 2 :: st) h := (ev_s (f := mx_push (.int 2)) n239_40 rfl rfl).trans es_push
theorem n239_41 : mx_ins 239 41 = some (.iaload, 1) := mx_ins_of mi239 dX20_again_41 rfl
theorem u239_41 : ev d 239 41 lo st h = evI d 239 41 42 lo st h .iaload := ev_u n239_41 rfl
theorem n239_42 : mx_ins 239 42 = some ((.putfield 43), 3) := mx_ins_of mi239 dX20_again_42 rfl
theorem u239_42 : ev d 239 42 lo st h = evS (mx_pf 20 43 false) d 239 45 lo st h := ev_s n239_42 rfl rfl
theorem n239_45 : mx_ins 239 45 = some ((.aload_n 0), 1) := mx_ins_of mi239 dX20_again_45 rfl
theorem u239_45 : ev d 239 45 lo st h = evS (mx_ldA 0) d 239 46 lo st h := ev_s n239_45 rfl rfl
theorem n239_46 : mx_ins 239 46 = some ((.getfield 7), 3) := mx_ins_of mi239 dX20_again_46 rfl
theorem u239_46 : ev d 239 46 lo st h = evS (mx_gf 20 7) d 239 49 lo st h := ev_s n239_46 rfl rfl
theorem n239_49 : mx_ins 239 49 = some ((.bipush 6), 2) := mx_ins_of mi239 dX20_again_49 rfl
theorem u239_49 : ev d 239 49 lo st h = ev d 239 51 lo (.int 6 :: st) h := (ev_s (f := mx_push (.int 6)) n239_49 rfl rfl).trans es_push
theorem n239_51 : mx_ins 239 51 = some (.iaload, 1) := mx_ins_of mi239 dX20_again_51 rfl
theorem u239_51 : ev d 239 51 lo st h = evI d 239 51 52 lo st h .iaload := ev_u n239_51 rfl
theorem n239_52 : mx_ins 239 52 = some (.ireturn, 1) := mx_ins_of mi239 dX20_again_52 rfl
theorem u239_52 : ev d 239 52 lo st h = evI d 239 52 53 lo st h .ireturn := ev_u n239_52 rfl
end MXU1
