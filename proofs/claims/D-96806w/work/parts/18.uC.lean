/-! how each instruction goes on, by program (gen_u.py) -/
set_option maxRecDepth 100000
section MXU2
variable {d : Nat} {lo : mx_L} {st : List Value} {h : mx_H}
theorem mi74 : mx_mi 74 = some (yX1_init, cX1_init, 2, (none : Option FieldType), 1, 1, []) := rfl
theorem ow74 : mx_own 74 = 1 := mx_mi_own mi74
theorem mm74 : mx_max 74 = 2 := mx_mi_max mi74
theorem rt74 : mx_ret 74 = (none : Option FieldType) := mx_mi_ret mi74
theorem hn74 : mx_hnd 74 = [] := mx_mi_hnd mi74
theorem n74_0 : mx_ins 74 0 = some ((.aload_n 0), 1) := mx_ins_of mi74 dX1_init_0 rfl
theorem u74_0 : ev d 74 0 lo st h = evS (mx_ldA 0) d 74 1 lo st h := ev_s n74_0 rfl rfl
theorem n74_1 : mx_ins 74 1 = some ((.invokespecial 3), 3) := mx_ins_of mi74 dX1_init_1 rfl
theorem u74_1 : ev d 74 1 lo st h = evIn d 74 1 4 1 3 1 true lo st h := ev_inv n74_1 rfl rfl ow74 ia1_3
theorem n74_4 : mx_ins 74 4 = some ((.aload_n 0), 1) := mx_ins_of mi74 dX1_init_4 rfl
theorem u74_4 : ev d 74 4 lo st h = evS (mx_ldA 0) d 74 5 lo st h := ev_s n74_4 rfl rfl
theorem n74_5 : mx_ins 74 5 = some ((.iconst 1), 1) := mx_ins_of mi74 dX1_init_5 rfl
theorem u74_5 : ev d 74 5 lo st h = ev d 74 6 lo (.int 1 :: st) h := (ev_s (f := mx_push (.int 1)) n74_5 rfl rfl).trans es_push
theorem n74_6 : mx_ins 74 6 = some ((.putfield 9), 3) := mx_ins_of mi74 dX1_init_6 rfl
theorem u74_6 : ev d 74 6 lo st h = evS (mx_pf 1 9 true) d 74 9 lo st h := ev_s n74_6 rfl rfl
theorem n74_9 : mx_ins 74 9 = some ((.aload_n 0), 1) := mx_ins_of mi74 dX1_init_9 rfl
theorem u74_9 : ev d 74 9 lo st h = evS (mx_ldA 0) d 74 10 lo st h := ev_s n74_9 rfl rfl
theorem n74_10 : mx_ins 74 10 = some ((.bipush 24), 2) := mx_ins_of mi74 dX1_init_10 rfl
theorem u74_10 : ev d 74 10 lo st h = ev d 74 12 lo (.int 24 :: st) h := (ev_s (f := mx_push (.int 24)) n74_10 rfl rfl).trans es_push
theorem n74_12 : mx_ins 74 12 = some ((.newarray .int), 2) := mx_ins_of mi74 dX1_init_12 rfl
theorem u74_12 : ev d 74 12 lo st h = evI d 74 12 14 lo st h (.newarray .int) := ev_u n74_12 rfl
theorem n74_14 : mx_ins 74 14 = some ((.putfield 15), 3) := mx_ins_of mi74 dX1_init_14 rfl
theorem u74_14 : ev d 74 14 lo st h = evS (mx_pf 1 15 true) d 74 17 lo st h := ev_s n74_14 rfl rfl
theorem n74_17 : mx_ins 74 17 = some ((.aload_n 0), 1) := mx_ins_of mi74 dX1_init_17 rfl
theorem u74_17 : ev d 74 17 lo st h = evS (mx_ldA 0) d 74 18 lo st h := ev_s n74_17 rfl rfl
theorem n74_18 : mx_ins 74 18 = some ((.bipush 24), 2) := mx_ins_of mi74 dX1_init_18 rfl
theorem u74_18 : ev d 74 18 lo st h = ev d 74 20 lo (.int 24 :: st) h := (ev_s (f := mx_push (.int 24)) n74_18 rfl rfl).trans es_push
theorem n74_20 : mx_ins 74 20 = some ((.newarray .int), 2) := mx_ins_of mi74 dX1_init_20 rfl
theorem u74_20 : ev d 74 20 lo st h = evI d 74 20 22 lo st h (.newarray .int) := ev_u n74_20 rfl
theorem n74_22 : mx_ins 74 22 = some ((.putfield 19), 3) := mx_ins_of mi74 dX1_init_22 rfl
theorem u74_22 : ev d 74 22 lo st h = evS (mx_pf 1 19 true) d 74 25 lo st h := ev_s n74_22 rfl rfl
theorem n74_25 : mx_ins 74 25 = some ((.aload_n 0), 1) := mx_ins_of mi74 dX1_init_25 rfl
theorem u74_25 : ev d 74 25 lo st h = evS (mx_ldA 0) d 74 26 lo st h := ev_s n74_25 rfl rfl
theorem n74_26 : mx_ins 74 26 = some ((.iconst 5), 1) := mx_ins_of mi74 dX1_init_26 rfl
theorem u74_26 : ev d 74 26 lo st h = ev d 74 27 lo (.int 5 :: st) h := (ev_s (f := mx_push (.int 5)) n74_26 rfl rfl).trans es_push
theorem n74_27 : mx_ins 74 27 = some ((.newarray .int), 2) := mx_ins_of mi74 dX1_init_27 rfl
theorem u74_27 : ev d 74 27 lo st h = evI d 74 27 29 lo st h (.newarray .int) := ev_u n74_27 rfl
theorem n74_29 : mx_ins 74 29 = some (.dup, 1) := mx_ins_of mi74 dX1_init_29 rfl
theorem u74_29 : ev d 74 29 lo st h = evI d 74 29 30 lo st h .dup := ev_u n74_29 rfl
theorem n74_30 : mx_ins 74 30 = some ((.iconst 0), 1) := mx_ins_of mi74 dX1_init_30 rfl
theorem u74_30 : ev d 74 30 lo st h = ev d 74 31 lo (.int 0 :: st) h := (ev_s (f := mx_push (.int 0)) n74_30 rfl rfl).trans es_push
theorem n74_31 : mx_ins 74 31 = some ((.iconst 5), 1) := mx_ins_of mi74 dX1_init_31 rfl
theorem u74_31 : ev d 74 31 lo st h = ev d 74 32 lo (.int 5 :: st) h := (ev_s (f := mx_push (.int 5)) n74_31 rfl rfl).trans es_push
theorem n74_32 : mx_ins 74 32 = some (.iastore, 1) := mx_ins_of mi74 dX1_init_32 rfl
theorem u74_32 : ev d 74 32 lo st h = evI d 74 32 33 lo st h .iastore := ev_u n74_32 rfl
theorem n74_33 : mx_ins 74 33 = some (.dup, 1) := mx_ins_of mi74 dX1_init_33 rfl
theorem u74_33 : ev d 74 33 lo st h = evI d 74 33 34 lo st h .dup := ev_u n74_33 rfl
theorem n74_34 : mx_ins 74 34 = some ((.iconst 1), 1) := mx_ins_of mi74 dX1_init_34 rfl
theorem u74_34 : ev d 74 34 lo st h = ev d 74 35 lo (.int 1 :: st) h := (ev_s (f := mx_push (.int 1)) n74_34 rfl rfl).trans es_push
theorem n74_35 : mx_ins 74 35 = some ((.bipush 10), 2) := mx_ins_of mi74 dX1_init_35 rfl
theorem u74_35 : ev d 74 35 lo st h = ev d 74 37 lo (.int 10 :: st) h := (ev_s (f := mx_push (.int 10)) n74_35 rfl rfl).trans es_push
theorem n74_37 : mx_ins 74 37 = some (.iastore, 1) := mx_ins_of mi74 dX1_init_37 rfl
theorem u74_37 : ev d 74 37 lo st h = evI d 74 37 38 lo st h .iastore := ev_u n74_37 rfl
theorem n74_38 : mx_ins 74 38 = some (.dup, 1) := mx_ins_of mi74 dX1_init_38 rfl
theorem u74_38 : ev d 74 38 lo st h = evI d 74 38 39 lo st h .dup := ev_u n74_38 rfl
theorem n74_39 : mx_ins 74 39 = some ((.iconst 2), 1) := mx_ins_of mi74 dX1_init_39 rfl
theorem u74_39 : ev d 74 39 lo st h = ev d 74 40 lo (.int 2 :: st) h := (ev_s (f := mx_push (.int 2)) n74_39 rfl rfl).trans es_push
theorem n74_40 : mx_ins 74 40 = some ((.iconst 2), 1) := mx_ins_of mi74 dX1_init_40 rfl
theorem u74_40 : ev d 74 40 lo st h = ev d 74 41 lo (.int 2 :: st) h := (ev_s (f := mx_push (.int 2)) n74_40 rfl rfl).trans es_push
theorem n74_41 : mx_ins 74 41 = some (.iastore, 1) := mx_ins_of mi74 dX1_init_41 rfl
theorem u74_41 : ev d 74 41 lo st h = evI d 74 41 42 lo st h .iastore := ev_u n74_41 rfl
theorem n74_42 : mx_ins 74 42 = some (.dup, 1) := mx_ins_of mi74 dX1_init_42 rfl
theorem u74_42 : ev d 74 42 lo st h = evI d 74 42 43 lo st h .dup := ev_u n74_42 rfl
theorem n74_43 : mx_ins 74 43 = some ((.iconst 3), 1) := mx_ins_of mi74 dX1_init_43 rfl
theorem u74_43 : ev d 74 43 lo st h = ev d 74 44 lo (.int 3 :: st) h := (ev_s (f := mx_push (.int 3)) n74_43 rfl rfl).trans es_push
theorem n74_44 : mx_ins 74 44 = some ((.bipush 8), 2) := mx_ins_of mi74 dX1_init_44 rfl
theorem u74_44 : ev d 74 44 lo st h = ev d 74 46 lo (.int 8 :: st) h := (ev_s (f := mx_push (.int 8)) n74_44 rfl rfl).trans es_push
theorem n74_46 : mx_ins 74 46 = some (.iastore, 1) := mx_ins_of mi74 dX1_init_46 rfl
theorem u74_46 : ev d 74 46 lo st h = evI d 74 46 47 lo st h .iastore := ev_u n74_46 rfl
theorem n74_47 : mx_ins 74 47 = some (.dup, 1) := mx_ins_of mi74 dX1_init_47 rfl
theorem u74_47 : ev d 74 47 lo st h = evI d 74 47 48 lo st h .dup := ev_u n74_47 rfl
theorem n74_48 : mx_ins 74 48 = some ((.iconst 4), 1) := mx_ins_of mi74 dX1_init_48 rfl
theorem u74_48 : ev d 74 48 lo st h = ev d 74 49 lo (.int 4 :: st) h := (ev_s (f := mx_push (.int 4)) n74_48 rfl rfl).trans es_push
theorem n74_49 : mx_ins 74 49 = some ((.bipush 12), 2) := mx_ins_of mi74 dX1_init_49 rfl
theorem u74_49 : ev d 74 49 lo st h = ev d 74 51 lo (.int 12 :: st) h := (ev_s (f := mx_push (.int 12)) n74_49 rfl rfl).trans es_push
theorem n74_51 : mx_ins 74 51 = some (.iastore, 1) := mx_ins_of mi74 dX1_init_51 rfl
theorem u74_51 : ev d 74 51 lo st h = evI d 74 51 52 lo st h .iastore := ev_u n74_51 rfl
theorem n74_52 : mx_ins 74 52 = some ((.putfield 22), 3) := mx_ins_of mi74 dX1_init_52 rfl
theorem u74_52 : ev d 74 52 lo st h = evS (mx_pf 1 22 true) d 74 55 lo st h := ev_s n74_52 rfl rfl
theorem n74_55 : mx_ins 74 55 = some ((.aload_n 0), 1) := mx_ins_of mi74 dX1_init_55 rfl
theorem u74_55 : ev d 74 55 lo st h = evS (mx_ldA 0) d 74 56 lo st h := ev_s n74_55 rfl rfl
theorem n74_56 : mx_ins 74 56 = some ((.bipush 10), 2) := mx_ins_of mi74 dX1_init_56 rfl
theorem u74_56 : ev d 74 56 lo st h = ev d 74 58 lo (.int 10 :: st) h := (ev_s (f := mx_push (.int 10)) n74_56 rfl rfl).trans es_push
theorem n74_58 : mx_ins 74 58 = some ((.newarray .int), 2) := mx_ins_of mi74 dX1_init_58 rfl
theorem u74_58 : ev d 74 58 lo st h = evI d 74 58 60 lo st h (.newarray .int) := ev_u n74_58 rfl
theorem n74_60 : mx_ins 74 60 = some ((.putfield 25), 3) := mx_ins_of mi74 dX1_init_60 rfl
theorem u74_60 : ev d 74 60 lo st h = evS (mx_pf 1 25 true) d 74 63 lo st h := ev_s n74_60 rfl rfl
theorem n74_63 : mx_ins 74 63 = some ((.aload_n 0), 1) := mx_ins_of mi74 dX1_init_63 rfl
theorem u74_63 : ev d 74 63 lo st h = evS (mx_ldA 0) d 74 64 lo st h := ev_s n74_63 rfl rfl
theorem n74_64 : mx_ins 74 64 = some ((.bipush 10), 2) := mx_ins_of mi74 dX1_init_64 rfl
theorem u74_64 : ev d 74 64 lo st h = ev d 74 66 lo (.int 10 :: st) h := (ev_s (f := mx_push (.int 10)) n74_64 rfl rfl).trans es_push
theorem n74_66 : mx_ins 74 66 = some ((.newarray .int), 2) := mx_ins_of mi74 dX1_init_66 rfl
theorem u74_66 : ev d 74 66 lo st h = evI d 74 66 68 lo st h (.newarray .int) := ev_u n74_66 rfl
theorem n74_68 : mx_ins 74 68 = some ((.putfield 28), 3) := mx_ins_of mi74 dX1_init_68 rfl
theorem u74_68 : ev d 74 68 lo st h = evS (mx_pf 1 28 true) d 74 71 lo st h := ev_s n74_68 rfl rfl
theorem n74_71 : mx_ins 74 71 = some ((.aload_n 0), 1) := mx_ins_of mi74 dX1_init_71 rfl
theorem u74_71 : ev d 74 71 lo st h = evS (mx_ldA 0) d 74 72 lo st h := ev_s n74_71 rfl rfl
theorem n74_72 : mx_ins 74 72 = some ((.bipush 8), 2) := mx_ins_of mi74 dX1_init_72 rfl
theorem u74_72 : ev d 74 72 lo st h = ev d 74 74 lo (.int 8 :: st) h := (ev_s (f := mx_push (.int 8)) n74_72 rfl rfl).trans es_push
theorem n74_74 : mx_ins 74 74 = some ((.newarray .int), 2) := mx_ins_of mi74 dX1_init_74 rfl
theorem u74_74 : ev d 74 74 lo st h = evI d 74 74 76 lo st h (.newarray .int) := ev_u n74_74 rfl
theorem n74_76 : mx_ins 74 76 = some ((.putfield 31), 3) := mx_ins_of mi74 dX1_init_76 rfl
theorem u74_76 : ev d 74 76 lo st h = evS (mx_pf 1 31 true) d 74 79 lo st h := ev_s n74_76 rfl rfl
theorem n74_79 : mx_ins 74 79 = some ((.aload_n 0), 1) := mx_ins_of mi74 dX1_init_79 rfl
theorem u74_79 : ev d 74 79 lo st h = evS (mx_ldA 0) d 74 80 lo st h := ev_s n74_79 rfl rfl
theorem n74_80 : mx_ins 74 80 = some ((.bipush 8), 2) := mx_ins_of mi74 dX1_init_80 rfl
theorem u74_80 : ev d 74 80 lo st h = ev d 74 82 lo (.int 8 :: st) h := (ev_s (f := mx_push (.int 8)) n74_80 rfl rfl).trans es_push
theorem n74_82 : mx_ins 74 82 = some ((.anewarray 34), 3) := mx_ins_of mi74 dX1_init_82 rfl
theorem u74_82 : ev d 74 82 lo st h = evS (mx_nq 1 34) d 74 85 lo st h := ev_s n74_82 rfl rfl
theorem n74_85 : mx_ins 74 85 = some ((.putfield 36), 3) := mx_ins_of mi74 dX1_init_85 rfl
theorem u74_85 : ev d 74 85 lo st h = evS (mx_pf 1 36 true) d 74 88 lo st h := ev_s n74_85 rfl rfl
theorem n74_88 : mx_ins 74 88 = some ((.aload_n 0), 1) := mx_ins_of mi74 dX1_init_88 rfl
theorem u74_88 : ev d 74 88 lo st h = evS (mx_ldA 0) d 74 89 lo st h := ev_s n74_88 rfl rfl
theorem n74_89 : mx_ins 74 89 = some ((.new 40), 3) := mx_ins_of mi74 dX1_init_89 rfl
theorem u74_89 : ev d 74 89 lo st h = evS (mx_nw 1 40) d 74 92 lo st h := ev_s n74_89 rfl rfl
theorem n74_92 : mx_ins 74 92 = some (.dup, 1) := mx_ins_of mi74 dX1_init_92 rfl
theorem u74_92 : ev d 74 92 lo st h = evI d 74 92 93 lo st h .dup := ev_u n74_92 rfl
theorem n74_93 : mx_ins 74 93 = some ((.invokespecial 42), 3) := mx_ins_of mi74 dX1_init_93 rfl
theorem u74_93 : ev d 74 93 lo st h = evIn d 74 93 96 1 42 1 false lo st h := ev_inv n74_93 rfl rfl ow74 ia1_42
theorem n74_96 : mx_ins 74 96 = some ((.putfield 43), 3) := mx_ins_of mi74 dX1_init_96 rfl
theorem u74_96 : ev d 74 96 lo st h = evS (mx_pf 1 43 true) d 74 99 lo st h := ev_s n74_96 rfl rfl
theorem n74_99 : mx_ins 74 99 = some ((.iconst 0), 1) := mx_ins_of mi74 dX1_init_99 rfl
theorem u74_99 : ev d 74 99 lo st h = ev d 74 100 lo (.int 0 :: st) h := (ev_s (f := mx_push (.int 0)) n74_99 rfl rfl).trans es_push
theorem n74_100 : mx_ins 74 100 = some ((.istore_n 1), 1) := mx_ins_of mi74 dX1_init_100 rfl
theorem u74_100 : ev d 74 100 lo st h = evS (mx_stI 1) d 74 101 lo st h := ev_s n74_100 rfl rfl
theorem n74_101 : mx_ins 74 101 = some ((.iload_n 1), 1) := mx_ins_of mi74 dX1_init_101 rfl
theorem u74_101 : ev d 74 101 lo st h = evS (mx_ldI 1) d 74 102 lo st h := ev_s n74_101 rfl rfl
theorem n74_102 : mx_ins 74 102 = some ((.bipush 24), 2) := mx_ins_of mi74 dX1_init_102 rfl
theorem u74_102 : ev d 74 102 lo st h = ev d 74 104 lo (.int 24 :: st) h := (ev_s (f := mx_push (.int 24)) n74_102 rfl rfl).trans es_push
theorem n74_104 : mx_ins 74 104 = some ((.if_icmp .ge 23), 3) := mx_ins_of mi74 dX1_init_104 rfl
theorem u74_104 : ev d 74 104 lo st h = evK .ge d 74 127 107 lo st h := ev_ic n74_104 rfl rfl
theorem n74_107 : mx_ins 74 107 = some ((.aload_n 0), 1) := mx_ins_of mi74 dX1_init_107 rfl
theorem u74_107 : ev d 74 107 lo st h = evS (mx_ldA 0) d 74 108 lo st h := ev_s n74_107 rfl rfl
theorem n74_108 : mx_ins 74 108 = some ((.getfield 15), 3) := mx_ins_of mi74 dX1_init_108 rfl
theorem u74_108 : ev d 74 108 lo st h = evS (mx_gf 1 15) d 74 111 lo st h := ev_s n74_108 rfl rfl
theorem n74_111 : mx_ins 74 111 = some ((.iload_n 1), 1) := mx_ins_of mi74 dX1_init_111 rfl
theorem u74_111 : ev d 74 111 lo st h = evS (mx_ldI 1) d 74 112 lo st h := ev_s n74_111 rfl rfl
theorem n74_112 : mx_ins 74 112 = some ((.iconst 5), 1) := mx_ins_of mi74 dX1_init_112 rfl
theorem u74_112 : ev d 74 112 lo st h = ev d 74 113 lo (.int 5 :: st) h := (ev_s (f := mx_push (.int 5)) n74_112 rfl rfl).trans es_push
theorem n74_113 : mx_ins 74 113 = some (.iastore, 1) := mx_ins_of mi74 dX1_init_113 rfl
theorem u74_113 : ev d 74 113 lo st h = evI d 74 113 114 lo st h .iastore := ev_u n74_113 rfl
theorem n74_114 : mx_ins 74 114 = some ((.aload_n 0), 1) := mx_ins_of mi74 dX1_init_114 rfl
theorem u74_114 : ev d 74 114 lo st h = evS (mx_ldA 0) d 74 115 lo st h := ev_s n74_114 rfl rfl
theorem n74_115 : mx_ins 74 115 = some ((.getfield 19), 3) := mx_ins_of mi74 dX1_init_115 rfl
theorem u74_115 : ev d 74 115 lo st h = evS (mx_gf 1 19) d 74 118 lo st h := ev_s n74_115 rfl rfl
theorem n74_118 : mx_ins 74 118 = some ((.iload_n 1), 1) := mx_ins_of mi74 dX1_init_118 rfl
theorem u74_118 : ev d 74 118 lo st h = evS (mx_ldI 1) d 74 119 lo st h := ev_s n74_118 rfl rfl
theorem n74_119 : mx_ins 74 119 = some ((.iconst 5), 1) := mx_ins_of mi74 dX1_init_119 rfl
theorem u74_119 : ev d 74 119 lo st h = ev d 74 120 lo (.int 5 :: st) h := (ev_s (f := mx_push (.int 5)) n74_119 rfl rfl).trans es_push
theorem n74_120 : mx_ins 74 120 = some (.iastore, 1) := mx_ins_of mi74 dX1_init_120 rfl
theorem u74_120 : ev d 74 120 lo st h = evI d 74 120 121 lo st h .iastore := ev_u n74_120 rfl
theorem n74_121 : mx_ins 74 121 = some ((.iinc 1 1), 3) := mx_ins_of mi74 dX1_init_121 rfl
theorem u74_121 : ev d 74 121 lo st h = evS (mx_inc 1 (1)) d 74 124 lo st h := ev_s n74_121 rfl rfl
theorem n74_124 : mx_ins 74 124 = some ((.goto (-23)), 3) := mx_ins_of mi74 dX1_init_124 rfl
theorem u74_124 : ev d 74 124 lo st h = ev d 74 101 lo st h := ev_goto n74_124 rfl
theorem n74_127 : mx_ins 74 127 = some (.return_, 1) := mx_ins_of mi74 dX1_init_127 rfl
theorem u74_127 : ev d 74 127 lo st h = evI d 74 127 128 lo st h .return_ := ev_u n74_127 rfl
theorem mi75 : mx_mi 75 = some (yX1_becomePlan, cX1_becomePlan, 2, (none : Option FieldType), 1, 2, []) := rfl
theorem ow75 : mx_own 75 = 1 := mx_mi_own mi75
theorem mm75 : mx_max 75 = 2 := mx_mi_max mi75
theorem rt75 : mx_ret 75 = (none : Option FieldType) := mx_mi_ret mi75
theorem hn75 : mx_hnd 75 = [] := mx_mi_hnd mi75
theorem n75_0 : mx_ins 75 0 = some ((.aload_n 0), 1) := mx_ins_of mi75 dX1_becomePlan_0 rfl
theorem u75_0 : ev d 75 0 lo st h = evS (mx_ldA 0) d 75 1 lo st h := ev_s n75_0 rfl rfl
theorem n75_1 : mx_ins 75 1 = some ((.aload_n 1), 1) := mx_ins_of mi75 dX1_becomePlan_1 rfl
theorem u75_1 : ev d 75 1 lo st h = evS (mx_ldA 1) d 75 2 lo st h := ev_s n75_1 rfl rfl
theorem n75_2 : mx_ins 75 2 = some ((.getfield 53), 3) := mx_ins_of mi75 dX1_becomePlan_2 rfl
theorem u75_2 : ev d 75 2 lo st h = evS (mx_gf 1 53) d 75 5 lo st h := ev_s n75_2 rfl rfl
theorem n75_5 : mx_ins 75 5 = some ((.putfield 53), 3) := mx_ins_of mi75 dX1_becomePlan_5 rfl
theorem u75_5 : ev d 75 5 lo st h = evS (mx_pf 1 53 false) d 75 8 lo st h := ev_s n75_5 rfl rfl
theorem n75_8 : mx_ins 75 8 = some ((.aload_n 1), 1) := mx_ins_of mi75 dX1_becomePlan_8 rfl
theorem u75_8 : ev d 75 8 lo st h = evS (mx_ldA 1) d 75 9 lo st h := ev_s n75_8 rfl rfl
theorem n75_9 : mx_ins 75 9 = some ((.getfield 31), 3) := mx_ins_of mi75 dX1_becomePlan_9 rfl
theorem u75_9 : ev d 75 9 lo st h = evS (mx_gf 1 31) d 75 12 lo st h := ev_s n75_9 rfl rfl
theorem n75_12 : mx_ins 75 12 = some ((.aload_n 0), 1) := mx_ins_of mi75 dX1_becomePlan_12 rfl
theorem u75_12 : ev d 75 12 lo st h = evS (mx_ldA 0) d 75 13 lo st h := ev_s n75_12 rfl rfl
theorem n75_13 : mx_ins 75 13 = some ((.getfield 31), 3) := mx_ins_of mi75 dX1_becomePlan_13 rfl
theorem u75_13 : ev d 75 13 lo st h = evS (mx_gf 1 31) d 75 16 lo st h := ev_s n75_13 rfl rfl
theorem n75_16 : mx_ins 75 16 = some ((.invokestatic 56), 3) := mx_ins_of mi75 dX1_becomePlan_16 rfl
theorem u75_16 : ev d 75 16 lo st h = evIn d 75 16 19 1 56 2 true lo st h := ev_inv n75_16 rfl rfl ow75 ia1_56
theorem n75_19 : mx_ins 75 19 = some ((.aload_n 1), 1) := mx_ins_of mi75 dX1_becomePlan_19 rfl
theorem u75_19 : ev d 75 19 lo st h = evS (mx_ldA 1) d 75 20 lo st h := ev_s n75_19 rfl rfl
theorem n75_20 : mx_ins 75 20 = some ((.getfield 36), 3) := mx_ins_of mi75 dX1_becomePlan_20 rfl
theorem u75_20 : ev d 75 20 lo st h = evS (mx_gf 1 36) d 75 23 lo st h := ev_s n75_20 rfl rfl
theorem n75_23 : mx_ins 75 23 = some ((.iconst 0), 1) := mx_ins_of mi75 dX1_becomePlan_23 rfl
theorem u75_23 : ev d 75 23 lo st h = ev d 75 24 lo (.int 0 :: st) h := (ev_s (f := mx_push (.int 0)) n75_23 rfl rfl).trans es_push
theorem n75_24 : mx_ins 75 24 = some ((.aload_n 0), 1) := mx_ins_of mi75 dX1_becomePlan_24 rfl
theorem u75_24 : ev d 75 24 lo st h = evS (mx_ldA 0) d 75 25 lo st h := ev_s n75_24 rfl rfl
theorem n75_25 : mx_ins 75 25 = some ((.getfield 36), 3) := mx_ins_of mi75 dX1_becomePlan_25 rfl
theorem u75_25 : ev d 75 25 lo st h = evS (mx_gf 1 36) d 75 28 lo st h := ev_s n75_25 rfl rfl
theorem n75_28 : mx_ins 75 28 = some ((.iconst 0), 1) := mx_ins_of mi75 dX1_becomePlan_28 rfl
theorem u75_28 : ev d 75 28 lo st h = ev d 75 29 lo (.int 0 :: st) h := (ev_s (f := mx_push (.int 0)) n75_28 rfl rfl).trans es_push
theorem n75_29 : mx_ins 75 29 = some ((.bipush 8), 2) := mx_ins_of mi75 dX1_becomePlan_29 rfl
theorem u75_29 : ev d 75 29 lo st h = ev d 75 31 lo (.int 8 :: st) h := (ev_s (f := mx_push (.int 8)) n75_29 rfl rfl).trans es_push
theorem n75_31 : mx_ins 75 31 = some ((.invokestatic 47), 3) := mx_ins_of mi75 dX1_becomePlan_31 rfl
theorem u75_31 : ev d 75 31 lo st h = evIn d 75 31 34 1 47 5 true lo st h := ev_inv n75_31 rfl rfl ow75 ia1_47
theorem n75_34 : mx_ins 75 34 = some (.return_, 1) := mx_ins_of mi75 dX1_becomePlan_34 rfl
theorem u75_34 : ev d 75 34 lo st h = evI d 75 34 35 lo st h .return_ := ev_u n75_34 rfl
theorem mi76 : mx_mi 76 = some (yX1_copy, cX1_copy, 2, (none : Option FieldType), 1, 2, []) := rfl
theorem ow76 : mx_own 76 = 1 := mx_mi_own mi76
theorem mm76 : mx_max 76 = 2 := mx_mi_max mi76
theorem rt76 : mx_ret 76 = (none : Option FieldType) := mx_mi_ret mi76
theorem hn76 : mx_hnd 76 = [] := mx_mi_hnd mi76
theorem n76_0 : mx_ins 76 0 = some ((.aload_n 0), 1) := mx_ins_of mi76 dX1_copy_0 rfl
theorem u76_0 : ev d 76 0 lo st h = evS (mx_ldA 0) d 76 1 lo st h := ev_s n76_0 rfl rfl
theorem n76_1 : mx_ins 76 1 = some ((.iconst 0), 1) := mx_ins_of mi76 dX1_copy_1 rfl
theorem u76_1 : ev d 76 1 lo st h = ev d 76 2 lo (.int 0 :: st) h := (ev_s (f := mx_push (.int 0)) n76_1 rfl rfl).trans es_push
theorem n76_2 : mx_ins 76 2 = some ((.aload_n 1), 1) := mx_ins_of mi76 dX1_copy_2 rfl
theorem u76_2 : ev d 76 2 lo st h = evS (mx_ldA 1) d 76 3 lo st h := ev_s n76_2 rfl rfl
theorem n76_3 : mx_ins 76 3 = some ((.iconst 0), 1) := mx_ins_of mi76 dX1_copy_3 rfl
theorem u76_3 : ev d 76 3 lo st h = ev d 76 4 lo (.int 0 :: st) h := (ev_s (f := mx_push (.int 0)) n76_3 rfl rfl).trans es_push
theorem n76_4 : mx_ins 76 4 = some ((.aload_n 1), 1) := mx_ins_of mi76 dX1_copy_4 rfl
theorem u76_4 : ev d 76 4 lo st h = evS (mx_ldA 1) d 76 5 lo st h := ev_s n76_4 rfl rfl
theorem n76_5 : mx_ins 76 5 = some (.arraylength, 1) := mx_ins_of mi76 dX1_copy_5 rfl
theorem u76_5 : ev d 76 5 lo st h = evI d 76 5 6 lo st h .arraylength := ev_u n76_5 rfl
theorem n76_6 : mx_ins 76 6 = some ((.invokestatic 47), 3) := mx_ins_of mi76 dX1_copy_6 rfl
theorem u76_6 : ev d 76 6 lo st h = evIn d 76 6 9 1 47 5 true lo st h := ev_inv n76_6 rfl rfl ow76 ia1_47
theorem n76_9 : mx_ins 76 9 = some (.return_, 1) := mx_ins_of mi76 dX1_copy_9 rfl
theorem u76_9 : ev d 76 9 lo st h = evI d 76 9 10 lo st h .return_ := ev_u n76_9 rfl
theorem mi77 : mx_mi 77 = some (yX1_warmth, cX1_warmth, 3, (Option.some Jvm.ClassFile.FieldType.int), 1, 3, []) := rfl
theorem ow77 : mx_own 77 = 1 := mx_mi_own mi77
theorem mm77 : mx_max 77 = 3 := mx_mi_max mi77
theorem rt77 : mx_ret 77 = (Option.some Jvm.ClassFile.FieldType.int) := mx_mi_ret mi77
theorem hn77 : mx_hnd 77 = [] := mx_mi_hnd mi77
theorem n77_0 : mx_ins 77 0 = some ((.iload_n 2), 1) := mx_ins_of mi77 dX1_warmth_0 rfl
theorem u77_0 : ev d 77 0 lo st h = evS (mx_ldI 2) d 77 1 lo st h := ev_s n77_0 rfl rfl
theorem n77_1 : mx_ins 77 1 = some ((.tableswitch 52 0 2 #[27, 34, 45]), 27) := mx_ins_of mi77 dX1_warmth_1 rfl
theorem u77_1 : ev d 77 1 lo st h = evTS d 77 [(0, 28), (1, 35), (2, 46)] 53 lo st h := ev_ts n77_1 rfl rfl
theorem n77_28 : mx_ins 77 28 = some ((.aload_n 0), 1) := mx_ins_of mi77 dX1_warmth_28 rfl
theorem u77_28 : ev d 77 28 lo st h = evS (mx_ldA 0) d 77 29 lo st h := ev_s n77_28 rfl rfl
theorem n77_29 : mx_ins 77 29 = some ((.getfield 15), 3) := mx_ins_of mi77 dX1_warmth_29 rfl
theorem u77_29 : ev d 77 29 lo st h = evS (mx_gf 1 15) d 77 32 lo st h := ev_s n77_29 rfl rfl
theorem n77_32 : mx_ins 77 32 = some ((.iload_n 1), 1) := mx_ins_of mi77 dX1_warmth_32 rfl
theorem u77_32 : ev d 77 32 lo st h = evS (mx_ldI 1) d 77 33 lo st h := ev_s n77_32 rfl rfl
theorem n77_33 : mx_ins 77 33 = some (.iaload, 1) := mx_ins_of mi77 dX1_warmth_33 rfl
theorem u77_33 : ev d 77 33 lo st h = evI d 77 33 34 lo st h .iaload := ev_u n77_33 rfl
theorem n77_34 : mx_ins 77 34 = some (.ireturn, 1) := mx_ins_of mi77 dX1_warmth_34 rfl
theorem u77_34 : ev d 77 34 lo st h = evI d 77 34 35 lo st h .ireturn := ev_u n77_34 rfl
theorem n77_35 : mx_ins 77 35 = some ((.aload_n 0), 1) := mx_ins_of mi77 dX1_warmth_35 rfl
theorem u77_35 : ev d 77 35 lo st h = evS (mx_ldA 0) d 77 36 lo st h := ev_s n77_35 rfl rfl
theorem n77_36 : mx_ins 77 36 = some ((.getfield 15), 3) := mx_ins_of mi77 dX1_warmth_36 rfl
theorem u77_36 : ev d 77 36 lo st h = evS (mx_gf 1 15) d 77 39 lo st h := ev_s n77_36 rfl rfl
theorem n77_39 : mx_ins 77 39 = some ((.iload_n 1), 1) := mx_ins_of mi77 dX1_warmth_39 rfl
theorem u77_39 : ev d 77 39 lo st h = evS (mx_ldI 1) d 77 40 lo st h := ev_s n77_39 rfl rfl
theorem n77_40 : mx_ins 77 40 = some (.iaload, 1) := mx_ins_of mi77 dX1_warmth_40 rfl
theorem u77_40 : ev d 77 40 lo st h = evI d 77 40 41 lo st h .iaload := ev_u n77_40 rfl
theorem n77_41 : mx_ins 77 41 = some ((.iconst 2), 1) := mx_ins_of mi77 dX1_warmth_41 rfl
theorem u77_41 : ev d 77 41 lo st h = ev d 77 42 lo (.int 2 :: st) h := (ev_s (f := mx_push (.int 2)) n77_41 rfl rfl).trans es_push
theorem n77_42 : mx_ins 77 42 = some (.idiv, 1) := mx_ins_of mi77 dX1_warmth_42 rfl
theorem u77_42 : ev d 77 42 lo st h = evI d 77 42 43 lo st h .idiv := ev_u n77_42 rfl
theorem n77_43 : mx_ins 77 43 = some ((.iconst 4), 1) := mx_ins_of mi77 dX1_warmth_43 rfl
theorem u77_43 : ev d 77 43 lo st h = ev d 77 44 lo (.int 4 :: st) h := (ev_s (f := mx_push (.int 4)) n77_43 rfl rfl).trans es_push
theorem n77_44 : mx_ins 77 44 = some (.iadd, 1) := mx_ins_of mi77 dX1_warmth_44 rfl
theorem u77_44 : ev d 77 44 lo st h = evI d 77 44 45 lo st h .iadd := ev_u n77_44 rfl
theorem n77_45 : mx_ins 77 45 = some (.ireturn, 1) := mx_ins_of mi77 dX1_warmth_45 rfl
theorem u77_45 : ev d 77 45 lo st h = evI d 77 45 46 lo st h .ireturn := ev_u n77_45 rfl
theorem n77_46 : mx_ins 77 46 = some ((.aload_n 0), 1) := mx_ins_of mi77 dX1_warmth_46 rfl
theorem u77_46 : ev d 77 46 lo st h = evS (mx_ldA 0) d 77 47 lo st h := ev_s n77_46 rfl rfl
theorem n77_47 : mx_ins 77 47 = some ((.getfield 22), 3) := mx_ins_of mi77 dX1_warmth_47 rfl
theorem u77_47 : ev d 77 47 lo st h = evS (mx_gf 1 22) d 77 50 lo st h := ev_s n77_47 rfl rfl
theorem n77_50 : mx_ins 77 50 = some ((.iconst 0), 1) := mx_ins_of mi77 dX1_warmth_50 rfl
theorem u77_50 : ev d 77 50 lo st h = ev d 77 51 lo (.int 0 :: st) h := (ev_s (f := mx_push (.int 0)) n77_50 rfl rfl).trans es_push
theorem n77_51 : mx_ins 77 51 = some (.iaload, 1) := mx_ins_of mi77 dX1_warmth_51 rfl
theorem u77_51 : ev d 77 51 lo st h = evI d 77 51 52 lo st h .iaload := ev_u n77_51 rfl
theorem n77_52 : mx_ins 77 52 = some (.ireturn, 1) := mx_ins_of mi77 dX1_warmth_52 rfl
theorem u77_52 : ev d 77 52 lo st h = evI d 77 52 53 lo st h .ireturn := ev_u n77_52 rfl
theorem n77_53 : mx_ins 77 53 = some ((.aload_n 0), 1) := mx_ins_of mi77 dX1_warmth_53 rfl
theorem u77_53 : ev d 77 53 lo st h = evS (mx_ldA 0) d 77 54 lo st h := ev_s n77_53 rfl rfl
theorem n77_54 : mx_ins 77 54 = some ((.getfield 15), 3) := mx_ins_of mi77 dX1_warmth_54 rfl
theorem u77_54 : ev d 77 54 lo st h = evS (mx_gf 1 15) d 77 57 lo st h := ev_s n77_54 rfl rfl
theorem n77_57 : mx_ins 77 57 = some ((.iload_n 1), 1) := mx_ins_of mi77 dX1_warmth_57 rfl
theorem u77_57 : ev d 77 57 lo st h = evS (mx_ldI 1) d 77 58 lo st h := ev_s n77_57 rfl rfl
theorem n77_58 : mx_ins 77 58 = some (.iaload, 1) := mx_ins_of mi77 dX1_warmth_58 rfl
theorem u77_58 : ev d 77 58 lo st h = evI d 77 58 59 lo st h .iaload := ev_u n77_58 rfl
theorem n77_59 : mx_ins 77 59 = some ((.iconst 4), 1) := mx_ins_of mi77 dX1_warmth_59 rfl
theorem u77_59 : ev d 77 59 lo st h = ev d 77 60 lo (.int 4 :: st) h := (ev_s (f := mx_push (.int 4)) n77_59 rfl rfl).trans es_push
theorem n77_60 : mx_ins 77 60 = some (.idiv, 1) := mx_ins_of mi77 dX1_warmth_60 rfl
theorem u77_60 : ev d 77 60 lo st h = evI d 77 60 61 lo st h .idiv := ev_u n77_60 rfl
theorem n77_61 : mx_ins 77 61 = some ((.bipush 6), 2) := mx_ins_of mi77 dX1_warmth_61 rfl
theorem u77_61 : ev d 77 61 lo st h = ev d 77 63 lo (.int 6 :: st) h := (ev_s (f := mx_push (.int 6)) n77_61 rfl rfl).trans es_push
theorem n77_63 : mx_ins 77 63 = some (.iadd, 1) := mx_ins_of mi77 dX1_warmth_63 rfl
theorem u77_63 : ev d 77 63 lo st h = evI d 77 63 64 lo st h .iadd := ev_u n77_63 rfl
theorem n77_64 : mx_ins 77 64 = some (.ireturn, 1) := mx_ins_of mi77 dX1_warmth_64 rfl
theorem u77_64 : ev d 77 64 lo st h = evI d 77 64 65 lo st h .ireturn := ev_u n77_64 rfl
theorem mi78 : mx_mi 78 = some (yX1_kindOf, cX1_kindOf, 4, (Option.some Jvm.ClassFile.FieldType.int), 1, 3, []) := rfl
theorem ow78 : mx_own 78 = 1 := mx_mi_own mi78
theorem mm78 : mx_max 78 = 4 := mx_mi_max mi78
theorem rt78 : mx_ret 78 = (Option.some Jvm.ClassFile.FieldType.int) := mx_mi_ret mi78
theorem hn78 : mx_hnd 78 = [] := mx_mi_hnd mi78
theorem n78_0 : mx_ins 78 0 = some ((.aload_n 0), 1) := mx_ins_of mi78 dX1_kindOf_0 rfl
theorem u78_0 : ev d 78 0 lo st h = evS (mx_ldA 0) d 78 1 lo st h := ev_s n78_0 rfl rfl
theorem n78_1 : mx_ins 78 1 = some ((.iload_n 1), 1) := mx_ins_of mi78 dX1_kindOf_1 rfl
theorem u78_1 : ev d 78 1 lo st h = evS (mx_ldI 1) d 78 2 lo st h := ev_s n78_1 rfl rfl
theorem n78_2 : mx_ins 78 2 = some ((.iload_n 2), 1) := mx_ins_of mi78 dX1_kindOf_2 rfl
theorem u78_2 : ev d 78 2 lo st h = evS (mx_ldI 2) d 78 3 lo st h := ev_s n78_2 rfl rfl
theorem n78_3 : mx_ins 78 3 = some ((.invokevirtual 71), 3) := mx_ins_of mi78 dX1_kindOf_3 rfl
theorem u78_3 : ev d 78 3 lo st h = evIn d 78 3 6 1 71 3 false lo st h := ev_inv n78_3 rfl rfl ow78 ia1_71
theorem n78_6 : mx_ins 78 6 = some ((.istore_n 3), 1) := mx_ins_of mi78 dX1_kindOf_6 rfl
theorem u78_6 : ev d 78 6 lo st h = evS (mx_stI 3) d 78 7 lo st h := ev_s n78_6 rfl rfl
theorem n78_7 : mx_ins 78 7 = some ((.iload_n 3), 1) := mx_ins_of mi78 dX1_kindOf_7 rfl
theorem u78_7 : ev d 78 7 lo st h = evS (mx_ldI 3) d 78 8 lo st h := ev_s n78_7 rfl rfl
theorem n78_8 : mx_ins 78 8 = some ((.aload_n 0), 1) := mx_ins_of mi78 dX1_kindOf_8 rfl
theorem u78_8 : ev d 78 8 lo st h = evS (mx_ldA 0) d 78 9 lo st h := ev_s n78_8 rfl rfl
theorem n78_9 : mx_ins 78 9 = some ((.getfield 22), 3) := mx_ins_of mi78 dX1_kindOf_9 rfl
theorem u78_9 : ev d 78 9 lo st h = evS (mx_gf 1 22) d 78 12 lo st h := ev_s n78_9 rfl rfl
theorem n78_12 : mx_ins 78 12 = some ((.iconst 2), 1) := mx_ins_of mi78 dX1_kindOf_12 rfl
theorem u78_12 : ev d 78 12 lo st h = ev d 78 13 lo (.int 2 :: st) h := (ev_s (f := mx_push (.int 2)) n78_12 rfl rfl).trans es_push
theorem n78_13 : mx_ins 78 13 = some (.iaload, 1) := mx_ins_of mi78 dX1_kindOf_13 rfl
theorem u78_13 : ev d 78 13 lo st h = evI d 78 13 14 lo st h .iaload := ev_u n78_13 rfl
theorem n78_14 : mx_ins 78 14 = some ((.if_icmp .ge 5), 3) := mx_ins_of mi78 dX1_kindOf_14 rfl
theorem u78_14 : ev d 78 14 lo st h = evK .ge d 78 19 17 lo st h := ev_ic n78_14 rfl rfl
theorem n78_17 : mx_ins 78 17 = some ((.iconst 4), 1) := mx_ins_of mi78 dX1_kindOf_17 rfl
theorem u78_17 : ev d 78 17 lo st h = ev d 78 18 lo (.int 4 :: st) h := (ev_s (f := mx_push (.int 4)) n78_17 rfl rfl).trans es_push
theorem n78_18 : mx_ins 78 18 = some (.ireturn, 1) := mx_ins_of mi78 dX1_kindOf_18 rfl
theorem u78_18 : ev d 78 18 lo st h = evI d 78 18 19 lo st h .ireturn := ev_u n78_18 rfl
theorem n78_19 : mx_ins 78 19 = some ((.iload_n 3), 1) := mx_ins_of mi78 dX1_kindOf_19 rfl
theorem u78_19 : ev d 78 19 lo st h = evS (mx_ldI 3) d 78 20 lo st h := ev_s n78_19 rfl rfl
theorem n78_20 : mx_ins 78 20 = some ((.aload_n 0), 1) := mx_ins_of mi78 dX1_kindOf_20 rfl
theorem u78_20 : ev d 78 20 lo st h = evS (mx_ldA 0) d 78 21 lo st h := ev_s n78_20 rfl rfl
theorem n78_21 : mx_ins 78 21 = some ((.getfield 22), 3) := mx_ins_of mi78 dX1_kindOf_21 rfl
theorem u78_21 : ev d 78 21 lo st h = evS (mx_gf 1 22) d 78 24 lo st h := ev_s n78_21 rfl rfl
theorem n78_24 : mx_ins 78 24 = some ((.iconst 4), 1) := mx_ins_of mi78 dX1_kindOf_24 rfl
theorem u78_24 : ev d 78 24 lo st h = ev d 78 25 lo (.int 4 :: st) h := (ev_s (f := mx_push (.int 4)) n78_24 rfl rfl).trans es_push
theorem n78_25 : mx_ins 78 25 = some (.iaload, 1) := mx_ins_of mi78 dX1_kindOf_25 rfl
theorem u78_25 : ev d 78 25 lo st h = evI d 78 25 26 lo st h .iaload := ev_u n78_25 rfl
theorem n78_26 : mx_ins 78 26 = some ((.if_icmp .lt 5), 3) := mx_ins_of mi78 dX1_kindOf_26 rfl
theorem u78_26 : ev d 78 26 lo st h = evK .lt d 78 31 29 lo st h := ev_ic n78_26 rfl rfl
theorem n78_29 : mx_ins 78 29 = some ((.iconst 3), 1) := mx_ins_of mi78 dX1_kindOf_29 rfl
theorem u78_29 : ev d 78 29 lo st h = ev d 78 30 lo (.int 3 :: st) h := (ev_s (f := mx_push (.int 3)) n78_29 rfl rfl).trans es_push
theorem n78_30 : mx_ins 78 30 = some (.ireturn, 1) := mx_ins_of mi78 dX1_kindOf_30 rfl
theorem u78_30 : ev d 78 30 lo st h = evI d 78 30 31 lo st h .ireturn := ev_u n78_30 rfl
theorem n78_31 : mx_ins 78 31 = some ((.iload_n 3), 1) := mx_ins_of mi78 dX1_kindOf_31 rfl
theorem u78_31 : ev d 78 31 lo st h = evS (mx_ldI 3) d 78 32 lo st h := ev_s n78_31 rfl rfl
theorem n78_32 : mx_ins 78 32 = some ((.aload_n 0), 1) := mx_ins_of mi78 dX1_kindOf_32 rfl
theorem u78_32 : ev d 78 32 lo st h = evS (mx_ldA 0) d 78 33 lo st h := ev_s n78_32 rfl rfl
theorem n78_33 : mx_ins 78 33 = some ((.getfield 22), 3) := mx_ins_of mi78 dX1_kindOf_33 rfl
theorem u78_33 : ev d 78 33 lo st h = evS (mx_gf 1 22) d 78 36 lo st h := ev_s n78_33 rfl rfl
theorem n78_36 : mx_ins 78 36 = some ((.iconst 3), 1) := mx_ins_of mi78 dX1_kindOf_36 rfl
theorem u78_36 : ev d 78 36 lo st h = ev d 78 37 lo (.int 3 :: st) h := (ev_s (f := mx_push (.int 3)) n78_36 rfl rfl).trans es_push
theorem n78_37 : mx_ins 78 37 = some (.iaload, 1) := mx_ins_of mi78 dX1_kindOf_37 rfl
theorem u78_37 : ev d 78 37 lo st h = evI d 78 37 38 lo st h .iaload := ev_u n78_37 rfl
theorem n78_38 : mx_ins 78 38 = some ((.if_icmp .lt 7), 3) := mx_ins_of mi78 dX1_kindOf_38 rfl
theorem u78_38 : ev d 78 38 lo st h = evK .lt d 78 45 41 lo st h := ev_ic n78_38 rfl rfl
theorem n78_41 : mx_ins 78 41 = some ((.iconst 2), 1) := mx_ins_of mi78 dX1_kindOf_41 rfl
theorem u78_41 : ev d 78 41 lo st h = ev d 78 42 lo (.int 2 :: st) h := (ev_s (f := mx_push (.int 2)) n78_41 rfl rfl).trans es_push
theorem n78_42 : mx_ins 78 42 = some ((.goto 28), 3) := mx_ins_of mi78 dX1_kindOf_42 rfl
theorem u78_42 : ev d 78 42 lo st h = ev d 78 70 lo st h := ev_goto n78_42 rfl
theorem n78_45 : mx_ins 78 45 = some ((.aload_n 0), 1) := mx_ins_of mi78 dX1_kindOf_45 rfl
theorem u78_45 : ev d 78 45 lo st h = evS (mx_ldA 0) d 78 46 lo st h := ev_s n78_45 rfl rfl
theorem n78_46 : mx_ins 78 46 = some ((.getfield 19), 3) := mx_ins_of mi78 dX1_kindOf_46 rfl
theorem u78_46 : ev d 78 46 lo st h = evS (mx_gf 1 19) d 78 49 lo st h := ev_s n78_46 rfl rfl
theorem n78_49 : mx_ins 78 49 = some ((.iload_n 1), 1) := mx_ins_of mi78 dX1_kindOf_49 rfl
theorem u78_49 : ev d 78 49 lo st h = evS (mx_ldI 1) d 78 50 lo st h := ev_s n78_49 rfl rfl
theorem n78_50 : mx_ins 78 50 = some (.iaload, 1) := mx_ins_of mi78 dX1_kindOf_50 rfl
theorem u78_50 : ev d 78 50 lo st h = evI d 78 50 51 lo st h .iaload := ev_u n78_50 rfl
theorem n78_51 : mx_ins 78 51 = some ((.iconst 3), 1) := mx_ins_of mi78 dX1_kindOf_51 rfl
theorem u78_51 : ev d 78 51 lo st h = ev d 78 52 lo (.int 3 :: st) h := (ev_s (f := mx_push (.int 3)) n78_51 rfl rfl).trans es_push
theorem n78_52 : mx_ins 78 52 = some ((.if_icmp .ge 7), 3) := mx_ins_of mi78 dX1_kindOf_52 rfl
theorem u78_52 : ev d 78 52 lo st h = evK .ge d 78 59 55 lo st h := ev_ic n78_52 rfl rfl
theorem n78_55 : mx_ins 78 55 = some ((.iconst 5), 1) := mx_ins_of mi78 dX1_kindOf_55 rfl
theorem u78_55 : ev d 78 55 lo st h = ev d 78 56 lo (.int 5 :: st) h := (ev_s (f := mx_push (.int 5)) n78_55 rfl rfl).trans es_push
theorem n78_56 : mx_ins 78 56 = some ((.goto 14), 3) := mx_ins_of mi78 dX1_kindOf_56 rfl
theorem u78_56 : ev d 78 56 lo st h = ev d 78 70 lo st h := ev_goto n78_56 rfl
theorem n78_59 : mx_ins 78 59 = some ((.iload_n 3), 1) := mx_ins_of mi78 dX1_kindOf_59 rfl
theorem u78_59 : ev d 78 59 lo st h = evS (mx_ldI 3) d 78 60 lo st h := ev_s n78_59 rfl rfl
theorem n78_60 : mx_ins 78 60 = some ((.bipush 6), 2) := mx_ins_of mi78 dX1_kindOf_60 rfl
theorem u78_60 : ev d 78 60 lo st h = ev d 78 62 lo (.int 6 :: st) h := (ev_s (f := mx_push (.int 6)) n78_60 rfl rfl).trans es_push
theorem n78_62 : mx_ins 78 62 = some ((.if_icmp .ge 7), 3) := mx_ins_of mi78 dX1_kindOf_62 rfl
theorem u78_62 : ev d 78 62 lo st h = evK .ge d 78 69 65 lo st h := ev_ic n78_62 rfl rfl
theorem n78_65 : mx_ins 78 65 = some ((.iconst 1), 1) := mx_ins_of mi78 dX1_kindOf_65 rfl
theorem u78_65 : ev d 78 65 lo st h = ev d 78 66 lo (.int 1 :: st) h := (ev_s (f := mx_push (.int 1)) n78_65 rfl rfl).trans es_push
theorem n78_66 : mx_ins 78 66 = some ((.goto 4), 3) := mx_ins_of mi78 dX1_kindOf_66 rfl
theorem u78_66 : ev d 78 66 lo st h = ev d 78 70 lo st h := ev_goto n78_66 rfl
theorem n78_69 : mx_ins 78 69 = some ((.iconst 0), 1) := mx_ins_of mi78 dX1_kindOf_69 rfl
theorem u78_69 : ev d 78 69 lo st h = ev d 78 70 lo (.int 0 :: st) h := (ev_s (f := mx_push (.int 0)) n78_69 rfl rfl).trans es_push
theorem n78_70 : mx_ins 78 70 = some (.ireturn, 1) := mx_ins_of mi78 dX1_kindOf_70 rfl
theorem u78_70 : ev d 78 70 lo st h = evI d 78 70 71 lo st h .ireturn := ev_u n78_70 rfl
theorem mi79 : mx_mi 79 = some (yX1_rate, cX1_rate, 2, (Option.some Jvm.ClassFile.FieldType.int), 1, 2, []) := rfl
theorem ow79 : mx_own 79 = 1 := mx_mi_own mi79
theorem mm79 : mx_max 79 = 2 := mx_mi_max mi79
theorem rt79 : mx_ret 79 = (Option.some Jvm.ClassFile.FieldType.int) := mx_mi_ret mi79
theorem hn79 : mx_hnd 79 = [] := mx_mi_hnd mi79
theorem n79_0 : mx_ins 79 0 = some ((.iload_n 1), 1) := mx_ins_of mi79 dX1_rate_0 rfl
theorem u79_0 : ev d 79 0 lo st h = evS (mx_ldI 1) d 79 1 lo st h := ev_s n79_0 rfl rfl
theorem n79_1 : mx_ins 79 1 = some ((.ifCond .ge 14), 3) := mx_ins_of mi79 dX1_rate_1 rfl
theorem u79_1 : ev d 79 1 lo st h = evJ .ge d 79 15 4 lo st h := ev_if n79_1 rfl rfl
theorem n79_4 : mx_ins 79 4 = some ((.aload_n 0), 1) := mx_ins_of mi79 dX1_rate_4 rfl
theorem u79_4 : ev d 79 4 lo st h = evS (mx_ldA 0) d 79 5 lo st h := ev_s n79_4 rfl rfl
theorem n79_5 : mx_ins 79 5 = some ((.getfield 22), 3) := mx_ins_of mi79 dX1_rate_5 rfl
theorem u79_5 : ev d 79 5 lo st h = evS (mx_gf 1 22) d 79 8 lo st h := ev_s n79_5 rfl rfl
theorem n79_8 : mx_ins 79 8 = some ((.iconst 1), 1) := mx_ins_of mi79 dX1_rate_8 rfl
theorem u79_8 : ev d 79 8 lo st h = ev d 79 9 lo (.int 1 :: st) h := (ev_s (f := mx_push (.int 1)) n79_8 rfl rfl).trans es_push
theorem n79_9 : mx_ins 79 9 = some (.iaload, 1) := mx_ins_of mi79 dX1_rate_9 rfl
theorem u79_9 : ev d 79 9 lo st h = evI d 79 9 10 lo st h .iaload := ev_u n79_9 rfl
theorem n79_10 : mx_ins 79 10 = some ((.iconst 2), 1) := mx_ins_of mi79 dX1_rate_10 rfl
theorem u79_10 : ev d 79 10 lo st h = ev d 79 11 lo (.int 2 :: st) h := (ev_s (f := mx_push (.int 2)) n79_10 rfl rfl).trans es_push
theorem n79_11 : mx_ins 79 11 = some (.idiv, 1) := mx_ins_of mi79 dX1_rate_11 rfl
theorem u79_11 : ev d 79 11 lo st h = evI d 79 11 12 lo st h .idiv := ev_u n79_11 rfl
theorem n79_12 : mx_ins 79 12 = some ((.goto 25), 3) := mx_ins_of mi79 dX1_rate_12 rfl
theorem u79_12 : ev d 79 12 lo st h = ev d 79 37 lo st h := ev_goto n79_12 rfl
theorem n79_15 : mx_ins 79 15 = some ((.aload_n 0), 1) := mx_ins_of mi79 dX1_rate_15 rfl
theorem u79_15 : ev d 79 15 lo st h = evS (mx_ldA 0) d 79 16 lo st h := ev_s n79_15 rfl rfl
theorem n79_16 : mx_ins 79 16 = some ((.getfield 22), 3) := mx_ins_of mi79 dX1_rate_16 rfl
theorem u79_16 : ev d 79 16 lo st h = evS (mx_gf 1 22) d 79 19 lo st h := ev_s n79_16 rfl rfl
theorem n79_19 : mx_ins 79 19 = some ((.iconst 1), 1) := mx_ins_of mi79 dX1_rate_19 rfl
theorem u79_19 : ev d 79 19 lo st h = ev d 79 20 lo (.int 1 :: st) h := (ev_s (f := mx_push (.int 1)) n79_19 rfl rfl).trans es_push
theorem n79_20 : mx_ins 79 20 = some (.iaload, 1) := mx_ins_of mi79 dX1_rate_20 rfl
theorem u79_20 : ev d 79 20 lo st h = evI d 79 20 21 lo st h .iaload := ev_u n79_20 rfl
theorem n79_21 : mx_ins 79 21 = some ((.iload_n 1), 1) := mx_ins_of mi79 dX1_rate_21 rfl
theorem u79_21 : ev d 79 21 lo st h = evS (mx_ldI 1) d 79 22 lo st h := ev_s n79_21 rfl rfl
theorem n79_22 : mx_ins 79 22 = some ((.bipush 10), 2) := mx_ins_of mi79 dX1_rate_22 rfl
theorem u79_22 : ev d 79 22 lo st h = ev d 79 24 lo (.int 10 :: st) h := (ev_s (f := mx_push (.int 10)) n79_22 rfl rfl).trans es_push
theorem n79_24 : mx_ins 79 24 = some (.idiv, 1) := mx_ins_of mi79 dX1_rate_24 rfl
theorem u79_24 : ev d 79 24 lo st h = evI d 79 24 25 lo st h .idiv := ev_u n79_24 rfl
theorem n79_25 : mx_ins 79 25 = some (.ishl, 1) := mx_ins_of mi79 dX1_rate_25 rfl
theorem u79_25 : ev d 79 25 lo st h = evI d 79 25 26 lo st h .ishl := ev_u n79_25 rfl
theorem n79_26 : mx_ins 79 26 = some ((.bipush 10), 2) := mx_ins_of mi79 dX1_rate_26 rfl
theorem u79_26 : ev d 79 26 lo st h = ev d 79 28 lo (.int 10 :: st) h := (ev_s (f := mx_push (.int 10)) n79_26 rfl rfl).trans es_push
theorem n79_28 : mx_ins 79 28 = some ((.iload_n 1), 1) := mx_ins_of mi79 dX1_rate_28 rfl
theorem u79_28 : ev d 79 28 lo st h = evS (mx_ldI 1) d 79 29 lo st h := ev_s n79_28 rfl rfl
theorem n79_29 : mx_ins 79 29 = some ((.bipush 10), 2) := mx_ins_of mi79 dX1_rate_29 rfl
theorem u79_29 : ev d 79 29 lo st h = ev d 79 31 lo (.int 10 :: st) h := (ev_s (f := mx_push (.int 10)) n79_29 rfl rfl).trans es_push
theorem n79_31 : mx_ins 79 31 = some (.irem, 1) := mx_ins_of mi79 dX1_rate_31 rfl
theorem u79_31 : ev d 79 31 lo st h = evI d 79 31 32 lo st h .irem := ev_u n79_31 rfl
theorem n79_32 : mx_ins 79 32 = some (.iadd, 1) := mx_ins_of mi79 dX1_rate_32 rfl
theorem u79_32 : ev d 79 32 lo st h = evI d 79 32 33 lo st h .iadd := ev_u n79_32 rfl
theorem n79_33 : mx_ins 79 33 = some (.imul, 1) := mx_ins_of mi79 dX1_rate_33 rfl
theorem u79_33 : ev d 79 33 lo st h = evI d 79 33 34 lo st h .imul := ev_u n79_33 rfl
theorem n79_34 : mx_ins 79 34 = some ((.bipush 10), 2) := mx_ins_of mi79 dX1_rate_34 rfl
theorem u79_34 : ev d 79 34 lo st h = ev d 79 36 lo (.int 10 :: st) h := (ev_s (f := mx_push (.int 10)) n79_34 rfl rfl).trans es_push
theorem n79_36 : mx_ins 79 36 = some (.idiv, 1) := mx_ins_of mi79 dX1_rate_36 rfl
theorem u79_36 : ev d 79 36 lo st h = evI d 79 36 37 lo st h .idiv := ev_u n79_36 rfl
theorem n79_37 : mx_ins 79 37 = some (.ireturn, 1) := mx_ins_of mi79 dX1_rate_37 rfl
theorem u79_37 : ev d 79 37 lo st h = evI d 79 37 38 lo st h .ireturn := ev_u n79_37 rfl
theorem mi80 : mx_mi 80 = some (yX1_become, cX1_become, 2, (none : Option FieldType), 1, 2, []) := rfl
theorem ow80 : mx_own 80 = 1 := mx_mi_own mi80
theorem mm80 : mx_max 80 = 2 := mx_mi_max mi80
theorem rt80 : mx_ret 80 = (none : Option FieldType) := mx_mi_ret mi80
theorem hn80 : mx_hnd 80 = [] := mx_mi_hnd mi80
theorem n80_0 : mx_ins 80 0 = some ((.aload_n 0), 1) := mx_ins_of mi80 dX1_become_0 rfl
theorem u80_0 : ev d 80 0 lo st h = evS (mx_ldA 0) d 80 1 lo st h := ev_s n80_0 rfl rfl
theorem n80_1 : mx_ins 80 1 = some ((.aload_n 1), 1) := mx_ins_of mi80 dX1_become_1 rfl
theorem u80_1 : ev d 80 1 lo st h = evS (mx_ldA 1) d 80 2 lo st h := ev_s n80_1 rfl rfl
theorem n80_2 : mx_ins 80 2 = some ((.getfield 60), 3) := mx_ins_of mi80 dX1_become_2 rfl
theorem u80_2 : ev d 80 2 lo st h = evS (mx_gf 1 60) d 80 5 lo st h := ev_s n80_2 rfl rfl
theorem n80_5 : mx_ins 80 5 = some ((.putfield 60), 3) := mx_ins_of mi80 dX1_become_5 rfl
theorem u80_5 : ev d 80 5 lo st h = evS (mx_pf 1 60 false) d 80 8 lo st h := ev_s n80_5 rfl rfl
theorem n80_8 : mx_ins 80 8 = some ((.aload_n 0), 1) := mx_ins_of mi80 dX1_become_8 rfl
theorem u80_8 : ev d 80 8 lo st h = evS (mx_ldA 0) d 80 9 lo st h := ev_s n80_8 rfl rfl
theorem n80_9 : mx_ins 80 9 = some ((.aload_n 1), 1) := mx_ins_of mi80 dX1_become_9 rfl
theorem u80_9 : ev d 80 9 lo st h = evS (mx_ldA 1) d 80 10 lo st h := ev_s n80_9 rfl rfl
theorem n80_10 : mx_ins 80 10 = some ((.getfield 9), 3) := mx_ins_of mi80 dX1_become_10 rfl
theorem u80_10 : ev d 80 10 lo st h = evS (mx_gf 1 9) d 80 13 lo st h := ev_s n80_10 rfl rfl
theorem n80_13 : mx_ins 80 13 = some ((.putfield 9), 3) := mx_ins_of mi80 dX1_become_13 rfl
theorem u80_13 : ev d 80 13 lo st h = evS (mx_pf 1 9 false) d 80 16 lo st h := ev_s n80_13 rfl rfl
theorem n80_16 : mx_ins 80 16 = some ((.aload_n 1), 1) := mx_ins_of mi80 dX1_become_16 rfl
theorem u80_16 : ev d 80 16 lo st h = evS (mx_ldA 1) d 80 17 lo st h := ev_s n80_16 rfl rfl
theorem n80_17 : mx_ins 80 17 = some ((.getfield 15), 3) := mx_ins_of mi80 dX1_become_17 rfl
theorem u80_17 : ev d 80 17 lo st h = evS (mx_gf 1 15) d 80 20 lo st h := ev_s n80_17 rfl rfl
theorem n80_20 : mx_ins 80 20 = some ((.aload_n 0), 1) := mx_ins_of mi80 dX1_become_20 rfl
theorem u80_20 : ev d 80 20 lo st h = evS (mx_ldA 0) d 80 21 lo st h := ev_s n80_20 rfl rfl
theorem n80_21 : mx_ins 80 21 = some ((.getfield 15), 3) := mx_ins_of mi80 dX1_become_21 rfl
theorem u80_21 : ev d 80 21 lo st h = evS (mx_gf 1 15) d 80 24 lo st h := ev_s n80_21 rfl rfl
theorem n80_24 : mx_ins 80 24 = some ((.invokestatic 56), 3) := mx_ins_of mi80 dX1_become_24 rfl
theorem u80_24 : ev d 80 24 lo st h = evIn d 80 24 27 1 56 2 true lo st h := ev_inv n80_24 rfl rfl ow80 ia1_56
theorem n80_27 : mx_ins 80 27 = some ((.aload_n 1), 1) := mx_ins_of mi80 dX1_become_27 rfl
theorem u80_27 : ev d 80 27 lo st h = evS (mx_ldA 1) d 80 28 lo st h := ev_s n80_27 rfl rfl
theorem n80_28 : mx_ins 80 28 = some ((.getfield 19), 3) := mx_ins_of mi80 dX1_become_28 rfl
theorem u80_28 : ev d 80 28 lo st h = evS (mx_gf 1 19) d 80 31 lo st h := ev_s n80_28 rfl rfl
theorem n80_31 : mx_ins 80 31 = some ((.aload_n 0), 1) := mx_ins_of mi80 dX1_become_31 rfl
theorem u80_31 : ev d 80 31 lo st h = evS (mx_ldA 0) d 80 32 lo st h := ev_s n80_31 rfl rfl
theorem n80_32 : mx_ins 80 32 = some ((.getfield 19), 3) := mx_ins_of mi80 dX1_become_32 rfl
theorem u80_32 : ev d 80 32 lo st h = evS (mx_gf 1 19) d 80 35 lo st h := ev_s n80_32 rfl rfl
theorem n80_35 : mx_ins 80 35 = some ((.invokestatic 56), 3) := mx_ins_of mi80 dX1_become_35 rfl
theorem u80_35 : ev d 80 35 lo st h = evIn d 80 35 38 1 56 2 true lo st h := ev_inv n80_35 rfl rfl ow80 ia1_56
theorem n80_38 : mx_ins 80 38 = some ((.aload_n 1), 1) := mx_ins_of mi80 dX1_become_38 rfl
theorem u80_38 : ev d 80 38 lo st h = evS (mx_ldA 1) d 80 39 lo st h := ev_s n80_38 rfl rfl
theorem n80_39 : mx_ins 80 39 = some ((.getfield 22), 3) := mx_ins_of mi80 dX1_become_39 rfl
theorem u80_39 : ev d 80 39 lo st h = evS (mx_gf 1 22) d 80 42 lo st h := ev_s n80_39 rfl rfl
theorem n80_42 : mx_ins 80 42 = some ((.aload_n 0), 1) := mx_ins_of mi80 dX1_become_42 rfl
theorem u80_42 : ev d 80 42 lo st h = evS (mx_ldA 0) d 80 43 lo st h := ev_s n80_42 rfl rfl
theorem n80_43 : mx_ins 80 43 = some ((.getfield 22), 3) := mx_ins_of mi80 dX1_become_43 rfl
theorem u80_43 : ev d 80 43 lo st h = evS (mx_gf 1 22) d 80 46 lo st h := ev_s n80_43 rfl rfl
theorem n80_46 : mx_ins 80 46 = some ((.invokestatic 56), 3) := mx_ins_of mi80 dX1_become_46 rfl
theorem u80_46 : ev d 80 46 lo st h = evIn d 80 46 49 1 56 2 true lo st h := ev_inv n80_46 rfl rfl ow80 ia1_56
theorem n80_49 : mx_ins 80 49 = some ((.aload_n 1), 1) := mx_ins_of mi80 dX1_become_49 rfl
theorem u80_49 : ev d 80 49 lo st h = evS (mx_ldA 1) d 80 50 lo st h := ev_s n80_49 rfl rfl
theorem n80_50 : mx_ins 80 50 = some ((.getfield 25), 3) := mx_ins_of mi80 dX1_become_50 rfl
theorem u80_50 : ev d 80 50 lo st h = evS (mx_gf 1 25) d 80 53 lo st h := ev_s n80_50 rfl rfl
theorem n80_53 : mx_ins 80 53 = some ((.aload_n 0), 1) := mx_ins_of mi80 dX1_become_53 rfl
theorem u80_53 : ev d 80 53 lo st h = evS (mx_ldA 0) d 80 54 lo st h := ev_s n80_53 rfl rfl
theorem n80_54 : mx_ins 80 54 = some ((.getfield 25), 3) := mx_ins_of mi80 dX1_become_54 rfl
theorem u80_54 : ev d 80 54 lo st h = evS (mx_gf 1 25) d 80 57 lo st h := ev_s n80_54 rfl rfl
theorem n80_57 : mx_ins 80 57 = some ((.invokestatic 56), 3) := mx_ins_of mi80 dX1_become_57 rfl
theorem u80_57 : ev d 80 57 lo st h = evIn d 80 57 60 1 56 2 true lo st h := ev_inv n80_57 rfl rfl ow80 ia1_56
theorem n80_60 : mx_ins 80 60 = some ((.aload_n 1), 1) := mx_ins_of mi80 dX1_become_60 rfl
theorem u80_60 : ev d 80 60 lo st h = evS (mx_ldA 1) d 80 61 lo st h := ev_s n80_60 rfl rfl
theorem n80_61 : mx_ins 80 61 = some ((.getfield 28), 3) := mx_ins_of mi80 dX1_become_61 rfl
theorem u80_61 : ev d 80 61 lo st h = evS (mx_gf 1 28) d 80 64 lo st h := ev_s n80_61 rfl rfl
theorem n80_64 : mx_ins 80 64 = some ((.aload_n 0), 1) := mx_ins_of mi80 dX1_become_64 rfl
theorem u80_64 : ev d 80 64 lo st h = evS (mx_ldA 0) d 80 65 lo st h := ev_s n80_64 rfl rfl
theorem n80_65 : mx_ins 80 65 = some ((.getfield 28), 3) := mx_ins_of mi80 dX1_become_65 rfl
theorem u80_65 : ev d 80 65 lo st h = evS (mx_gf 1 28) d 80 68 lo st h := ev_s n80_65 rfl rfl
theorem n80_68 : mx_ins 80 68 = some ((.invokestatic 56), 3) := mx_ins_of mi80 dX1_become_68 rfl
theorem u80_68 : ev d 80 68 lo st h = evIn d 80 68 71 1 56 2 true lo st h := ev_inv n80_68 rfl rfl ow80 ia1_56
theorem n80_71 : mx_ins 80 71 = some ((.aload_n 0), 1) := mx_ins_of mi80 dX1_become_71 rfl
theorem u80_71 : ev d 80 71 lo st h = evS (mx_ldA 0) d 80 72 lo st h := ev_s n80_71 rfl rfl
theorem n80_72 : mx_ins 80 72 = some ((.aload_n 1), 1) := mx_ins_of mi80 dX1_become_72 rfl
theorem u80_72 : ev d 80 72 lo st h = evS (mx_ldA 1) d 80 73 lo st h := ev_s n80_72 rfl rfl
theorem n80_73 : mx_ins 80 73 = some ((.invokevirtual 63), 3) := mx_ins_of mi80 dX1_become_73 rfl
theorem u80_73 : ev d 80 73 lo st h = evIn d 80 73 76 1 63 2 false lo st h := ev_inv n80_73 rfl rfl ow80 ia1_63
theorem n80_76 : mx_ins 80 76 = some ((.aload_n 0), 1) := mx_ins_of mi80 dX1_become_76 rfl
theorem u80_76 : ev d 80 76 lo st h = evS (mx_ldA 0) d 80 77 lo st h := ev_s n80_76 rfl rfl
theorem n80_77 : mx_ins 80 77 = some ((.getfield 43), 3) := mx_ins_of mi80 dX1_become_77 rfl
theorem u80_77 : ev d 80 77 lo st h = evS (mx_gf 1 43) d 80 80 lo st h := ev_s n80_77 rfl rfl
theorem n80_80 : mx_ins 80 80 = some ((.aload_n 1), 1) := mx_ins_of mi80 dX1_become_80 rfl
theorem u80_80 : ev d 80 80 lo st h = evS (mx_ldA 1) d 80 81 lo st h := ev_s n80_80 rfl rfl
theorem n80_81 : mx_ins 80 81 = some ((.getfield 43), 3) := mx_ins_of mi80 dX1_become_81 rfl
theorem u80_81 : ev d 80 81 lo st h = evS (mx_gf 1 43) d 80 84 lo st h := ev_s n80_81 rfl rfl
theorem n80_84 : mx_ins 80 84 = some ((.invokevirtual 67), 3) := mx_ins_of mi80 dX1_become_84 rfl
theorem u80_84 : ev d 80 84 lo st h = evIn d 80 84 87 1 67 2 false lo st h := ev_inv n80_84 rfl rfl ow80 ia1_67
theorem n80_87 : mx_ins 80 87 = some (.return_, 1) := mx_ins_of mi80 dX1_become_87 rfl
theorem u80_87 : ev d 80 87 lo st h = evI d 80 87 88 lo st h .return_ := ev_u n80_87 rfl
theorem mi81 : mx_mi 81 = some (yX2_init, cX2_init, 1, (none : Option FieldType), 2, 1, []) := rfl
theorem ow81 : mx_own 81 = 2 := mx_mi_own mi81
theorem mm81 : mx_max 81 = 1 := mx_mi_max mi81
theorem rt81 : mx_ret 81 = (none : Option FieldType) := mx_mi_ret mi81
theorem hn81 : mx_hnd 81 = [] := mx_mi_hnd mi81
theorem n81_0 : mx_ins 81 0 = some ((.aload_n 0), 1) := mx_ins_of mi81 dX2_init_0 rfl
theorem u81_0 : ev d 81 0 lo st h = evS (mx_ldA 0) d 81 1 lo st h := ev_s n81_0 rfl rfl
theorem n81_1 : mx_ins 81 1 = some ((.invokespecial 3), 3) := mx_ins_of mi81 dX2_init_1 rfl
theorem u81_1 : ev d 81 1 lo st h = evIn d 81 1 4 2 3 1 true lo st h := ev_inv n81_1 rfl rfl ow81 ia2_3
theorem n81_4 : mx_ins 81 4 = some ((.aload_n 0), 1) := mx_ins_of mi81 dX2_init_4 rfl
theorem u81_4 : ev d 81 4 lo st h = evS (mx_ldA 0) d 81 5 lo st h := ev_s n81_4 rfl rfl
theorem n81_5 : mx_ins 81 5 = some ((.sipush 240), 3) := mx_ins_of mi81 dX2_init_5 rfl
theorem u81_5 : ev d 81 5 lo st h = ev d 81 8 lo (.int 240 :: st) h := (ev_s (f := mx_push (.int 240)) n81_5 rfl rfl).trans es_push
theorem n81_8 : mx_ins 81 8 = some ((.putfield 9), 3) := mx_ins_of mi81 dX2_init_8 rfl
theorem u81_8 : ev d 81 8 lo st h = evS (mx_pf 2 9 true) d 81 11 lo st h := ev_s n81_8 rfl rfl
theorem n81_11 : mx_ins 81 11 = some ((.aload_n 0), 1) := mx_ins_of mi81 dX2_init_11 rfl
theorem u81_11 : ev d 81 11 lo st h = evS (mx_ldA 0) d 81 12 lo st h := ev_s n81_11 rfl rfl
theorem n81_12 : mx_ins 81 12 = some ((.sipush 300), 3) := mx_ins_of mi81 dX2_init_12 rfl
theorem u81_12 : ev d 81 12 lo st h = ev d 81 15 lo (.int 300 :: st) h := (ev_s (f := mx_push (.int 300)) n81_12 rfl rfl).trans es_push
theorem n81_15 : mx_ins 81 15 = some ((.putfield 15), 3) := mx_ins_of mi81 dX2_init_15 rfl
theorem u81_15 : ev d 81 15 lo st h = evS (mx_pf 2 15 true) d 81 18 lo st h := ev_s n81_15 rfl rfl
theorem n81_18 : mx_ins 81 18 = some ((.aload_n 0), 1) := mx_ins_of mi81 dX2_init_18 rfl
theorem u81_18 : ev d 81 18 lo st h = evS (mx_ldA 0) d 81 19 lo st h := ev_s n81_18 rfl rfl
theorem n81_19 : mx_ins 81 19 = some ((.sipush 400), 3) := mx_ins_of mi81 dX2_init_19 rfl
theorem u81_19 : ev d 81 19 lo st h = ev d 81 22 lo (.int 400 :: st) h := (ev_s (f := mx_push (.int 400)) n81_19 rfl rfl).trans es_push
theorem n81_22 : mx_ins 81 22 = some ((.putfield 18), 3) := mx_ins_of mi81 dX2_init_22 rfl
theorem u81_22 : ev d 81 22 lo st h = evS (mx_pf 2 18 true) d 81 25 lo st h := ev_s n81_22 rfl rfl
theorem n81_25 : mx_ins 81 25 = some ((.aload_n 0), 1) := mx_ins_of mi81 dX2_init_25 rfl
theorem u81_25 : ev d 81 25 lo st h = evS (mx_ldA 0) d 81 26 lo st h := ev_s n81_25 rfl rfl
theorem n81_26 : mx_ins 81 26 = some ((.sipush 500), 3) := mx_ins_of mi81 dX2_init_26 rfl
theorem u81_26 : ev d 81 26 lo st h = ev d 81 29 lo (.int 500 :: st) h := (ev_s (f := mx_push (.int 500)) n81_26 rfl rfl).trans es_push
theorem n81_29 : mx_ins 81 29 = some ((.putfield 21), 3) := mx_ins_of mi81 dX2_init_29 rfl
theorem u81_29 : ev d 81 29 lo st h = evS (mx_pf 2 21 true) d 81 32 lo st h := ev_s n81_29 rfl rfl
theorem n81_32 : mx_ins 81 32 = some ((.aload_n 0), 1) := mx_ins_of mi81 dX2_init_32 rfl
theorem u81_32 : ev d 81 32 lo st h = evS (mx_ldA 0) d 81 33 lo st h := ev_s n81_32 rfl rfl
theorem n81_33 : mx_ins 81 33 = some ((.iconst 1), 1) := mx_ins_of mi81 dX2_init_33 rfl
theorem u81_33 : ev d 81 33 lo st h = ev d 81 34 lo (.int 1 :: st) h := (ev_s (f := mx_push (.int 1)) n81_33 rfl rfl).trans es_push
theorem n81_34 : mx_ins 81 34 = some ((.putfield 24), 3) := mx_ins_of mi81 dX2_init_34 rfl
theorem u81_34 : ev d 81 34 lo st h = evS (mx_pf 2 24 true) d 81 37 lo st h := ev_s n81_34 rfl rfl
theorem n81_37 : mx_ins 81 37 = some (.return_, 1) := mx_ins_of mi81 dX2_init_37 rfl
theorem u81_37 : ev d 81 37 lo st h = evI d 81 37 38 lo st h .return_ := ev_u n81_37 rfl
theorem mi82 : mx_mi 82 = some (yX2_weight, cX2_weight, 1, (Option.some Jvm.ClassFile.FieldType.int), 2, 1, []) := rfl
theorem ow82 : mx_own 82 = 2 := mx_mi_own mi82
theorem mm82 : mx_max 82 = 1 := mx_mi_max mi82
theorem rt82 : mx_ret 82 = (Option.some Jvm.ClassFile.FieldType.int) := mx_mi_ret mi82
theorem hn82 : mx_hnd 82 = [] := mx_mi_hnd mi82
theorem n82_0 : mx_ins 82 0 = some ((.aload_n 0), 1) := mx_ins_of mi82 dX2_weight_0 rfl
theorem u82_0 : ev d 82 0 lo st h = evS (mx_ldA 0) d 82 1 lo st h := ev_s n82_0 rfl rfl
theorem n82_1 : mx_ins 82 1 = some ((.getfield 15), 3) := mx_ins_of mi82 dX2_weight_1 rfl
theorem u82_1 : ev d 82 1 lo st h = evS (mx_gf 2 15) d 82 4 lo st h := ev_s n82_1 rfl rfl
theorem n82_4 : mx_ins 82 4 = some ((.aload_n 0), 1) := mx_ins_of mi82 dX2_weight_4 rfl
theorem u82_4 : ev d 82 4 lo st h = evS (mx_ldA 0) d 82 5 lo st h := ev_s n82_4 rfl rfl
theorem n82_5 : mx_ins 82 5 = some ((.getfield 18), 3) := mx_ins_of mi82 dX2_weight_5 rfl
theorem u82_5 : ev d 82 5 lo st h = evS (mx_gf 2 18) d 82 8 lo st h := ev_s n82_5 rfl rfl
theorem n82_8 : mx_ins 82 8 = some (.iadd, 1) := mx_ins_of mi82 dX2_weight_8 rfl
theorem u82_8 : ev d 82 8 lo st h = evI d 82 8 9 lo st h .iadd := ev_u n82_8 rfl
theorem n82_9 : mx_ins 82 9 = some ((.aload_n 0), 1) := mx_ins_of mi82 dX2_weight_9 rfl
theorem u82_9 : ev d 82 9 lo st h = evS (mx_ldA 0) d 82 10 lo st h := ev_s n82_9 rfl rfl
theorem n82_10 : mx_ins 82 10 = some ((.getfield 21), 3) := mx_ins_of mi82 dX2_weight_10 rfl
theorem u82_10 : ev d 82 10 lo st h = evS (mx_gf 2 21) d 82 13 lo st h := ev_s n82_10 rfl rfl
theorem n82_13 : mx_ins 82 13 = some (.iadd, 1) := mx_ins_of mi82 dX2_weight_13 rfl
theorem u82_13 : ev d 82 13 lo st h = evI d 82 13 14 lo st h .iadd := ev_u n82_13 rfl
theorem n82_14 : mx_ins 82 14 = some (.ireturn, 1) := mx_ins_of mi82 dX2_weight_14 rfl
theorem u82_14 : ev d 82 14 lo st h = evI d 82 14 15 lo st h .ireturn := ev_u n82_14 rfl
theorem mi83 : mx_mi 83 = some (yX2_isAlive, cX2_isAlive, 1, (Option.some Jvm.ClassFile.FieldType.boolean), 2, 1, []) := rfl
theorem ow83 : mx_own 83 = 2 := mx_mi_own mi83
theorem mm83 : mx_max 83 = 1 := mx_mi_max mi83
theorem rt83 : mx_ret 83 = (Option.some Jvm.ClassFile.FieldType.boolean) := mx_mi_ret mi83
theorem hn83 : mx_hnd 83 = [] := mx_mi_hnd mi83
theorem n83_0 : mx_ins 83 0 = some ((.aload_n 0), 1) := mx_ins_of mi83 dX2_isAlive_0 rfl
theorem u83_0 : ev d 83 0 lo st h = evS (mx_ldA 0) d 83 1 lo st h := ev_s n83_0 rfl rfl
theorem n83_1 : mx_ins 83 1 = some ((.getfield 15), 3) := mx_ins_of mi83 dX2_isAlive_1 rfl
theorem u83_1 : ev d 83 1 lo st h = evS (mx_gf 2 15) d 83 4 lo st h := ev_s n83_1 rfl rfl
theorem n83_4 : mx_ins 83 4 = some ((.ifCond .le 14), 3) := mx_ins_of mi83 dX2_isAlive_4 rfl
theorem u83_4 : ev d 83 4 lo st h = evJ .le d 83 18 7 lo st h := ev_if n83_4 rfl rfl
theorem n83_7 : mx_ins 83 7 = some ((.aload_n 0), 1) := mx_ins_of mi83 dX2_isAlive_7 rfl
theorem u83_7 : ev d 83 7 lo st h = evS (mx_ldA 0) d 83 8 lo st h := ev_s n83_7 rfl rfl
theorem n83_8 : mx_ins 83 8 = some ((.getfield 18), 3) := mx_ins_of mi83 dX2_isAlive_8 rfl
theorem u83_8 : ev d 83 8 lo st h = evS (mx_gf 2 18) d 83 11 lo st h := ev_s n83_8 rfl rfl
theorem n83_11 : mx_ins 83 11 = some ((.ifCond .le 7), 3) := mx_ins_of mi83 dX2_isAlive_11 rfl
theorem u83_11 : ev d 83 11 lo st h = evJ .le d 83 18 14 lo st h := ev_if n83_11 rfl rfl
theorem n83_14 : mx_ins 83 14 = some ((.iconst 1), 1) := mx_ins_of mi83 dX2_isAlive_14 rfl
theorem u83_14 : ev d 83 14 lo st h = ev d 83 15 lo (.int 1 :: st) h := (ev_s (f := mx_push (.int 1)) n83_14 rfl rfl).trans es_push
theorem n83_15 : mx_ins 83 15 = some ((.goto 4), 3) := mx_ins_of mi83 dX2_isAlive_15 rfl
theorem u83_15 : ev d 83 15 lo st h = ev d 83 19 lo st h := ev_goto n83_15 rfl
theorem n83_18 : mx_ins 83 18 = some ((.iconst 0), 1) := mx_ins_of mi83 dX2_isAlive_18 rfl
theorem u83_18 : ev d 83 18 lo st h = ev d 83 19 lo (.int 0 :: st) h := (ev_s (f := mx_push (.int 0)) n83_18 rfl rfl).trans es_push
theorem n83_19 : mx_ins 83 19 = some (.ireturn, 1) := mx_ins_of mi83 dX2_isAlive_19 rfl
theorem u83_19 : ev d 83 19 lo st h = evI d 83 19 20 lo st h .ireturn := ev_u n83_19 rfl
theorem mi84 : mx_mi 84 = some (yX2_become, cX2_become, 2, (none : Option FieldType), 2, 2, []) := rfl
theorem ow84 : mx_own 84 = 2 := mx_mi_own mi84
theorem mm84 : mx_max 84 = 2 := mx_mi_max mi84
theorem rt84 : mx_ret 84 = (none : Option FieldType) := mx_mi_ret mi84
theorem hn84 : mx_hnd 84 = [] := mx_mi_hnd mi84
theorem n84_0 : mx_ins 84 0 = some ((.aload_n 0), 1) := mx_ins_of mi84 dX2_become_0 rfl
theorem u84_0 : ev d 84 0 lo st h = evS (mx_ldA 0) d 84 1 lo st h := ev_s n84_0 rfl rfl
theorem n84_1 : mx_ins 84 1 = some ((.aload_n 1), 1) := mx_ins_of mi84 dX2_become_1 rfl
theorem u84_1 : ev d 84 1 lo st h = evS (mx_ldA 1) d 84 2 lo st h := ev_s n84_1 rfl rfl
theorem n84_2 : mx_ins 84 2 = some ((.getfield 9), 3) := mx_ins_of mi84 dX2_become_2 rfl
theorem u84_2 : ev d 84 2 lo st h = evS (mx_gf 2 9) d 84 5 lo st h := ev_s n84_2 rfl rfl
theorem n84_5 : mx_ins 84 5 = some ((.putfield 9), 3) := mx_ins_of mi84 dX2_become_5 rfl
theorem u84_5 : ev d 84 5 lo st h = evS (mx_pf 2 9 false) d 84 8 lo st h := ev_s n84_5 rfl rfl
theorem n84_8 : mx_ins 84 8 = some ((.aload_n 0), 1) := mx_ins_of mi84 dX2_become_8 rfl
theorem u84_8 : ev d 84 8 lo st h = evS (mx_ldA 0) d 84 9 lo st h := ev_s n84_8 rfl rfl
theorem n84_9 : mx_ins 84 9 = some ((.aload_n 1), 1) := mx_ins_of mi84 dX2_become_9 rfl
theorem u84_9 : ev d 84 9 lo st h = evS (mx_ldA 1) d 84 10 lo st h := ev_s n84_9 rfl rfl
theorem n84_10 : mx_ins 84 10 = some ((.getfield 15), 3) := mx_ins_of mi84 dX2_become_10 rfl
theorem u84_10 : ev d 84 10 lo st h = evS (mx_gf 2 15) d 84 13 lo st h := ev_s n84_10 rfl rfl
theorem n84_13 : mx_ins 84 13 = some ((.putfield 15), 3) := mx_ins_of mi84 dX2_become_13 rfl
theorem u84_13 : ev d 84 13 lo st h = evS (mx_pf 2 15 false) d 84 16 lo st h := ev_s n84_13 rfl rfl
theorem n84_16 : mx_ins 84 16 = some ((.aload_n 0), 1) := mx_ins_of mi84 dX2_become_16 rfl
theorem u84_16 : ev d 84 16 lo st h = evS (mx_ldA 0) d 84 17 lo st h := ev_s n84_16 rfl rfl
theorem n84_17 : mx_ins 84 17 = some ((.aload_n 1), 1) := mx_ins_of mi84 dX2_become_17 rfl
theorem u84_17 : ev d 84 17 lo st h = evS (mx_ldA 1) d 84 18 lo st h := ev_s n84_17 rfl rfl
theorem n84_18 : mx_ins 84 18 = some ((.getfield 18), 3) := mx_ins_of mi84 dX2_become_18 rfl
theorem u84_18 : ev d 84 18 lo st h = evS (mx_gf 2 18) d 84 21 lo st h := ev_s n84_18 rfl rfl
theorem n84_21 : mx_ins 84 21 = some ((.putfield 18), 3) := mx_ins_of mi84 dX2_become_21 rfl
theorem u84_21 : ev d 84 21 lo st h = evS (mx_pf 2 18 false) d 84 24 lo st h := ev_s n84_21 rfl rfl
theorem n84_24 : mx_ins 84 24 = some ((.aload_n 0), 1) := mx_ins_of mi84 dX2_become_24 rfl
theorem u84_24 : ev d 84 24 lo st h = evS (mx_ldA 0) d 84 25 lo st h := ev_s n84_24 rfl rfl
theorem n84_25 : mx_ins 84 25 = some ((.aload_n 1), 1) := mx_ins_of mi84 dX2_become_25 rfl
theorem u84_25 : ev d 84 25 lo st h = evS (mx_ldA 1) d 84 26 lo st h := ev_s n84_25 rfl rfl
theorem n84_26 : mx_ins 84 26 = some ((.getfield 21), 3) := mx_ins_of mi84 dX2_become_26 rfl
theorem u84_26 : ev d 84 26 lo st h = evS (mx_gf 2 21) d 84 29 lo st h := ev_s n84_26 rfl rfl
theorem n84_29 : mx_ins 84 29 = some ((.putfield 21), 3) := mx_ins_of mi84 dX2_become_29 rfl
theorem u84_29 : ev d 84 29 lo st h = evS (mx_pf 2 21 false) d 84 32 lo st h := ev_s n84_29 rfl rfl
theorem n84_32 : mx_ins 84 32 = some ((.aload_n 0), 1) := mx_ins_of mi84 dX2_become_32 rfl
theorem u84_32 : ev d 84 32 lo st h = evS (mx_ldA 0) d 84 33 lo st h := ev_s n84_32 rfl rfl
theorem n84_33 : mx_ins 84 33 = some ((.aload_n 1), 1) := mx_ins_of mi84 dX2_become_33 rfl
theorem u84_33 : ev d 84 33 lo st h = evS (mx_ldA 1) d 84 34 lo st h := ev_s n84_33 rfl rfl
theorem n84_34 : mx_ins 84 34 = some ((.getfield 27), 3) := mx_ins_of mi84 dX2_become_34 rfl
theorem u84_34 : ev d 84 34 lo st h = evS (mx_gf 2 27) d 84 37 lo st h := ev_s n84_34 rfl rfl
theorem n84_37 : mx_ins 84 37 = some ((.putfield 27), 3) := mx_ins_of mi84 dX2_become_37 rfl
theorem u84_37 : ev d 84 37 lo st h = evS (mx_pf 2 27 false) d 84 40 lo st h := ev_s n84_37 rfl rfl
theorem n84_40 : mx_ins 84 40 = some ((.aload_n 0), 1) := mx_ins_of mi84 dX2_become_40 rfl
theorem u84_40 : ev d 84 40 lo st h = evS (mx_ldA 0) d 84 41 lo st h := ev_s n84_40 rfl rfl
theorem n84_41 : mx_ins 84 41 = some ((.aload_n 1), 1) := mx_ins_of mi84 dX2_become_41 rfl
theorem u84_41 : ev d 84 41 lo st h = evS (mx_ldA 1) d 84 42 lo st h := ev_s n84_41 rfl rfl
theorem n84_42 : mx_ins 84 42 = some ((.getfield 24), 3) := mx_ins_of mi84 dX2_become_42 rfl
theorem u84_42 : ev d 84 42 lo st h = evS (mx_gf 2 24) d 84 45 lo st h := ev_s n84_42 rfl rfl
theorem n84_45 : mx_ins 84 45 = some ((.putfield 24), 3) := mx_ins_of mi84 dX2_become_45 rfl
theorem u84_45 : ev d 84 45 lo st h = evS (mx_pf 2 24 false) d 84 48 lo st h := ev_s n84_45 rfl rfl
theorem n84_48 : mx_ins 84 48 = some ((.aload_n 0), 1) := mx_ins_of mi84 dX2_become_48 rfl
theorem u84_48 : ev d 84 48 lo st h = evS (mx_ldA 0) d 84 49 lo st h := ev_s n84_48 rfl rfl
theorem n84_49 : mx_ins 84 49 = some ((.aload_n 1), 1) := mx_ins_of mi84 dX2_become_49 rfl
theorem u84_49 : ev d 84 49 lo st h = evS (mx_ldA 1) d 84 50 lo st h := ev_s n84_49 rfl rfl
theorem n84_50 : mx_ins 84 50 = some ((.getfield 30), 3) := mx_ins_of mi84 dX2_become_50 rfl
theorem u84_50 : ev d 84 50 lo st h = evS (mx_gf 2 30) d 84 53 lo st h := ev_s n84_50 rfl rfl
theorem n84_53 : mx_ins 84 53 = some ((.putfield 30), 3) := mx_ins_of mi84 dX2_become_53 rfl
theorem u84_53 : ev d 84 53 lo st h = evS (mx_pf 2 30 false) d 84 56 lo st h := ev_s n84_53 rfl rfl
theorem n84_56 : mx_ins 84 56 = some (.return_, 1) := mx_ins_of mi84 dX2_become_56 rfl
theorem u84_56 : ev d 84 56 lo st h = evI d 84 56 57 lo st h .return_ := ev_u n84_56 rfl
theorem mi85 : mx_mi 85 = some (yX3_init, cX3_init, 2, (none : Option FieldType), 3, 2, []) := rfl
theorem ow85 : mx_own 85 = 3 := mx_mi_own mi85
theorem mm85 : mx_max 85 = 2 := mx_mi_max mi85
theorem rt85 : mx_ret 85 = (none : Option FieldType) := mx_mi_ret mi85
theorem hn85 : mx_hnd 85 = [] := mx_mi_hnd mi85
theorem n85_0 : mx_ins 85 0 = some ((.aload_n 0), 1) := mx_ins_of mi85 dX3_init_0 rfl
theorem u85_0 : ev d 85 0 lo st h = evS (mx_ldA 0) d 85 1 lo st h := ev_s n85_0 rfl rfl
theorem n85_1 : mx_ins 85 1 = some ((.aload_n 1), 1) := mx_ins_of mi85 dX3_init_1 rfl
theorem u85_1 : ev d 85 1 lo st h = evS (mx_ldA 1) d 85 2 lo st h := ev_s n85_1 rfl rfl
theorem n85_2 : mx_ins 85 2 = some ((.putfield 1), 3) := mx_ins_of mi85 dX3_init_2 rfl
theorem u85_2 : ev d 85 2 lo st h = evS (mx_pf 3 1 true) d 85 5 lo st h := ev_s n85_2 rfl rfl
theorem n85_5 : mx_ins 85 5 = some ((.aload_n 0), 1) := mx_ins_of mi85 dX3_init_5 rfl
theorem u85_5 : ev d 85 5 lo st h = evS (mx_ldA 0) d 85 6 lo st h := ev_s n85_5 rfl rfl
theorem n85_6 : mx_ins 85 6 = some ((.invokespecial 7), 3) := mx_ins_of mi85 dX3_init_6 rfl
theorem u85_6 : ev d 85 6 lo st h = evIn d 85 6 9 3 7 1 true lo st h := ev_inv n85_6 rfl rfl ow85 ia3_7
theorem n85_9 : mx_ins 85 9 = some (.return_, 1) := mx_ins_of mi85 dX3_init_9 rfl
theorem u85_9 : ev d 85 9 lo st h = evI d 85 9 10 lo st h .return_ := ev_u n85_9 rfl
theorem mi86 : mx_mi 86 = some (yX3_harms, cX3_harms, 1, (Option.some Jvm.ClassFile.FieldType.int), 3, 1, []) := rfl
theorem ow86 : mx_own 86 = 3 := mx_mi_own mi86
theorem mm86 : mx_max 86 = 1 := mx_mi_max mi86
theorem rt86 : mx_ret 86 = (Option.some Jvm.ClassFile.FieldType.int) := mx_mi_ret mi86
theorem hn86 : mx_hnd 86 = [] := mx_mi_hnd mi86
theorem n86_0 : mx_ins 86 0 = some ((.iconst 0), 1) := mx_ins_of mi86 dX3_harms_0 rfl
theorem u86_0 : ev d 86 0 lo st h = ev d 86 1 lo (.int 0 :: st) h := (ev_s (f := mx_push (.int 0)) n86_0 rfl rfl).trans es_push
theorem n86_1 : mx_ins 86 1 = some (.ireturn, 1) := mx_ins_of mi86 dX3_harms_1 rfl
theorem u86_1 : ev d 86 1 lo st h = evI d 86 1 2 lo st h .ireturn := ev_u n86_1 rfl
theorem mi87 : mx_mi 87 = some (yX4_init, cX4_init, 2, (none : Option FieldType), 4, 2, []) := rfl
theorem ow87 : mx_own 87 = 4 := mx_mi_own mi87
theorem mm87 : mx_max 87 = 2 := mx_mi_max mi87
theorem rt87 : mx_ret 87 = (none : Option FieldType) := mx_mi_ret mi87
theorem hn87 : mx_hnd 87 = [] := mx_mi_hnd mi87
theorem n87_0 : mx_ins 87 0 = some ((.aload_n 0), 1) := mx_ins_of mi87 dX4_init_0 rfl
theorem u87_0 : ev d 87 0 lo st h = evS (mx_ldA 0) d 87 1 lo st h := ev_s n87_0 rfl rfl
theorem n87_1 : mx_ins 87 1 = some ((.aload_n 1), 1) := mx_ins_of mi87 dX4_init_1 rfl
theorem u87_1 : ev d 87 1 lo st h = evS (mx_ldA 1) d 87 2 lo st h := ev_s n87_1 rfl rfl
theorem n87_2 : mx_ins 87 2 = some ((.putfield 3), 3) := mx_ins_of mi87 dX4_init_2 rfl
theorem u87_2 : ev d 87 2 lo st h = evS (mx_pf 4 3 true) d 87 5 lo st h := ev_s n87_2 rfl rfl
theorem n87_5 : mx_ins 87 5 = some ((.aload_n 0), 1) := mx_ins_of mi87 dX4_init_5 rfl
theorem u87_5 : ev d 87 5 lo st h = evS (mx_ldA 0) d 87 6 lo st h := ev_s n87_5 rfl rfl
theorem n87_6 : mx_ins 87 6 = some ((.aload_n 1), 1) := mx_ins_of mi87 dX4_init_6 rfl
theorem u87_6 : ev d 87 6 lo st h = evS (mx_ldA 1) d 87 7 lo st h := ev_s n87_6 rfl rfl
theorem n87_7 : mx_ins 87 7 = some ((.invokespecial 9), 3) := mx_ins_of mi87 dX4_init_7 rfl
theorem u87_7 : ev d 87 7 lo st h = evIn d 87 7 10 4 9 2 false lo st h := ev_inv n87_7 rfl rfl ow87 ia4_9
theorem n87_10 : mx_ins 87 10 = some (.return_, 1) := mx_ins_of mi87 dX4_init_10 rfl
theorem u87_10 : ev d 87 10 lo st h = evI d 87 10 11 lo st h .return_ := ev_u n87_10 rfl
theorem mi88 : mx_mi 88 = some (yX4_uses, cX4_uses, 3, (Option.some Jvm.ClassFile.FieldType.int), 4, 3, []) := rfl
theorem ow88 : mx_own 88 = 4 := mx_mi_own mi88
theorem mm88 : mx_max 88 = 3 := mx_mi_max mi88
theorem rt88 : mx_ret 88 = (Option.some Jvm.ClassFile.FieldType.int) := mx_mi_ret mi88
theorem hn88 : mx_hnd 88 = [] := mx_mi_hnd mi88
theorem n88_0 : mx_ins 88 0 = some ((.aload_n 1), 1) := mx_ins_of mi88 dX4_uses_0 rfl
theorem u88_0 : ev d 88 0 lo st h = evS (mx_ldA 1) d 88 1 lo st h := ev_s n88_0 rfl rfl
theorem n88_1 : mx_ins 88 1 = some ((.invokevirtual 15), 3) := mx_ins_of mi88 dX4_uses_1 rfl
theorem u88_1 : ev d 88 1 lo st h = evIn d 88 1 4 4 15 1 false lo st h := ev_inv n88_1 rfl rfl ow88 ia4_15
theorem n88_4 : mx_ins 88 4 = some ((.aload_n 0), 1) := mx_ins_of mi88 dX4_uses_4 rfl
theorem u88_4 : ev d 88 4 lo st h = evS (mx_ldA 0) d 88 5 lo st h := ev_s n88_4 rfl rfl
theorem n88_5 : mx_ins 88 5 = some ((.getfield 3), 3) := mx_ins_of mi88 dX4_uses_5 rfl
theorem u88_5 : ev d 88 5 lo st h = evS (mx_gf 4 3) d 88 8 lo st h := ev_s n88_5 rfl rfl
theorem n88_8 : mx_ins 88 8 = some ((.getfield 21), 3) := mx_ins_of mi88 dX4_uses_8 rfl
theorem u88_8 : ev d 88 8 lo st h = evS (mx_gf 4 21) d 88 11 lo st h := ev_s n88_8 rfl rfl
theorem n88_11 : mx_ins 88 11 = some ((.iload_n 2), 1) := mx_ins_of mi88 dX4_uses_11 rfl
theorem u88_11 : ev d 88 11 lo st h = evS (mx_ldI 2) d 88 12 lo st h := ev_s n88_11 rfl rfl
theorem n88_12 : mx_ins 88 12 = some ((.invokevirtual 25), 3) := mx_ins_of mi88 dX4_uses_12 rfl
theorem u88_12 : ev d 88 12 lo st h = evIn d 88 12 15 4 25 2 false lo st h := ev_inv n88_12 rfl rfl ow88 ia4_25
theorem n88_15 : mx_ins 88 15 = some (.imul, 1) := mx_ins_of mi88 dX4_uses_15 rfl
theorem u88_15 : ev d 88 15 lo st h = evI d 88 15 16 lo st h .imul := ev_u n88_15 rfl
theorem n88_16 : mx_ins 88 16 = some ((.sipush 1000), 3) := mx_ins_of mi88 dX4_uses_16 rfl
theorem u88_16 : ev d 88 16 lo st h = ev d 88 19 lo (.int 1000 :: st) h := (ev_s (f := mx_push (.int 1000)) n88_16 rfl rfl).trans es_push
theorem n88_19 : mx_ins 88 19 = some (.idiv, 1) := mx_ins_of mi88 dX4_uses_19 rfl
theorem u88_19 : ev d 88 19 lo st h = evI d 88 19 20 lo st h .idiv := ev_u n88_19 rfl
theorem n88_20 : mx_ins 88 20 = some (.ireturn, 1) := mx_ins_of mi88 dX4_uses_20 rfl
theorem u88_20 : ev d 88 20 lo st h = evI d 88 20 21 lo st h .ireturn := ev_u n88_20 rfl
theorem mi89 : mx_mi 89 = some (yX4_dries, cX4_dries, 2, (Option.some Jvm.ClassFile.FieldType.int), 4, 2, []) := rfl
theorem ow89 : mx_own 89 = 4 := mx_mi_own mi89
theorem mm89 : mx_max 89 = 2 := mx_mi_max mi89
theorem rt89 : mx_ret 89 = (Option.some Jvm.ClassFile.FieldType.int) := mx_mi_ret mi89
theorem hn89 : mx_hnd 89 = [] := mx_mi_hnd mi89
theorem n89_0 : mx_ins 89 0 = some ((.bipush 10), 2) := mx_ins_of mi89 dX4_dries_0 rfl
theorem u89_0 : ev d 89 0 lo st h = ev d 89 2 lo (.int 10 :: st) h := (ev_s (f := mx_push (.int 10)) n89_0 rfl rfl).trans es_push
theorem n89_2 : mx_ins 89 2 = some ((.iload_n 1), 1) := mx_ins_of mi89 dX4_dries_2 rfl
theorem u89_2 : ev d 89 2 lo st h = evS (mx_ldI 1) d 89 3 lo st h := ev_s n89_2 rfl rfl
theorem n89_3 : mx_ins 89 3 = some (.isub, 1) := mx_ins_of mi89 dX4_dries_3 rfl
theorem u89_3 : ev d 89 3 lo st h = evI d 89 3 4 lo st h .isub := ev_u n89_3 rfl
theorem n89_4 : mx_ins 89 4 = some ((.iconst 2), 1) := mx_ins_of mi89 dX4_dries_4 rfl
theorem u89_4 : ev d 89 4 lo st h = ev d 89 5 lo (.int 2 :: st) h := (ev_s (f := mx_push (.int 2)) n89_4 rfl rfl).trans es_push
theorem n89_5 : mx_ins 89 5 = some (.imul, 1) := mx_ins_of mi89 dX4_dries_5 rfl
theorem u89_5 : ev d 89 5 lo st h = evI d 89 5 6 lo st h .imul := ev_u n89_5 rfl
theorem n89_6 : mx_ins 89 6 = some (.ireturn, 1) := mx_ins_of mi89 dX4_dries_6 rfl
theorem u89_6 : ev d 89 6 lo st h = evI d 89 6 7 lo st h .ireturn := ev_u n89_6 rfl
theorem mi90 : mx_mi 90 = some (yX4_thing, cX4_thing, 3, (Option.some (Jvm.ClassFile.FieldType.object "ColdBox$Tells")), 4, 3, []) := rfl
theorem ow90 : mx_own 90 = 4 := mx_mi_own mi90
theorem mm90 : mx_max 90 = 3 := mx_mi_max mi90
theorem rt90 : mx_ret 90 = (Option.some (Jvm.ClassFile.FieldType.object "ColdBox$Tells")) := mx_mi_ret mi90
theorem hn90 : mx_hnd 90 = [] := mx_mi_hnd mi90
theorem rr90 : mx_rr 90 = true := by unfold mx_rr; rw [rt90]
theorem n90_0 : mx_ins 90 0 = some ((.new 31), 3) := mx_ins_of mi90 dX4_thing_0 rfl
theorem u90_0 : ev d 90 0 lo st h = evS (mx_nw 4 31) d 90 3 lo st h := ev_s n90_0 rfl rfl
theorem n90_3 : mx_ins 90 3 = some (.dup, 1) := mx_ins_of mi90 dX4_thing_3 rfl
theorem u90_3 : ev d 90 3 lo st h = evI d 90 3 4 lo st h .dup := ev_u n90_3 rfl
theorem n90_4 : mx_ins 90 4 = some ((.aload_n 0), 1) := mx_ins_of mi90 dX4_thing_4 rfl
theorem u90_4 : ev d 90 4 lo st h = evS (mx_ldA 0) d 90 5 lo st h := ev_s n90_4 rfl rfl
theorem n90_5 : mx_ins 90 5 = some ((.getfield 3), 3) := mx_ins_of mi90 dX4_thing_5 rfl
theorem u90_5 : ev d 90 5 lo st h = evS (mx_gf 4 3) d 90 8 lo st h := ev_s n90_5 rfl rfl
theorem n90_8 : mx_ins 90 8 = some ((.iload_n 1), 1) := mx_ins_of mi90 dX4_thing_8 rfl
theorem u90_8 : ev d 90 8 lo st h = evS (mx_ldI 1) d 90 9 lo st h := ev_s n90_8 rfl rfl
theorem n90_9 : mx_ins 90 9 = some ((.iload_n 2), 1) := mx_ins_of mi90 dX4_thing_9 rfl
theorem u90_9 : ev d 90 9 lo st h = evS (mx_ldI 2) d 90 10 lo st h := ev_s n90_9 rfl rfl
theorem n90_10 : mx_ins 90 10 = some ((.invokespecial 33), 3) := mx_ins_of mi90 dX4_thing_10 rfl
theorem u90_10 : ev d 90 10 lo st h = evIn d 90 10 13 4 33 4 false lo st h := ev_inv n90_10 rfl rfl ow90 ia4_33
theorem n90_13 : mx_ins 90 13 = some (.areturn, 1) := mx_ins_of mi90 dX4_thing_13 rfl
theorem u90_13 : ev d 90 13 lo st h = evI d 90 13 14 lo st h .areturn := ev_u n90_13 rfl
theorem mi91 : mx_mi 91 = some (yX5_init, cX5_init, 2, (none : Option FieldType), 5, 2, []) := rfl
theorem ow91 : mx_own 91 = 5 := mx_mi_own mi91
theorem mm91 : mx_max 91 = 2 := mx_mi_max mi91
theorem rt91 : mx_ret 91 = (none : Option FieldType) := mx_mi_ret mi91
theorem hn91 : mx_hnd 91 = [] := mx_mi_hnd mi91
theorem n91_0 : mx_ins 91 0 = some ((.aload_n 0), 1) := mx_ins_of mi91 dX5_init_0 rfl
theorem u91_0 : ev d 91 0 lo st h = evS (mx_ldA 0) d 91 1 lo st h := ev_s n91_0 rfl rfl
theorem n91_1 : mx_ins 91 1 = some ((.aload_n 1), 1) := mx_ins_of mi91 dX5_init_1 rfl
theorem u91_1 : ev d 91 1 lo st h = evS (mx_ldA 1) d 91 2 lo st h := ev_s n91_1 rfl rfl
theorem n91_2 : mx_ins 91 2 = some ((.putfield 1), 3) := mx_ins_of mi91 dX5_init_2 rfl
theorem u91_2 : ev d 91 2 lo st h = evS (mx_pf 5 1 true) d 91 5 lo st h := ev_s n91_2 rfl rfl
theorem n91_5 : mx_ins 91 5 = some ((.aload_n 0), 1) := mx_ins_of mi91 dX5_init_5 rfl
theorem u91_5 : ev d 91 5 lo st h = evS (mx_ldA 0) d 91 6 lo st h := ev_s n91_5 rfl rfl
theorem n91_6 : mx_ins 91 6 = some ((.aload_n 1), 1) := mx_ins_of mi91 dX5_init_6 rfl
theorem u91_6 : ev d 91 6 lo st h = evS (mx_ldA 1) d 91 7 lo st h := ev_s n91_6 rfl rfl
theorem n91_7 : mx_ins 91 7 = some ((.invokespecial 7), 3) := mx_ins_of mi91 dX5_init_7 rfl
theorem u91_7 : ev d 91 7 lo st h = evIn d 91 7 10 5 7 2 false lo st h := ev_inv n91_7 rfl rfl ow91 ia5_7
theorem n91_10 : mx_ins 91 10 = some (.return_, 1) := mx_ins_of mi91 dX5_init_10 rfl
theorem u91_10 : ev d 91 10 lo st h = evI d 91 10 11 lo st h .return_ := ev_u n91_10 rfl
theorem mi92 : mx_mi 92 = some (yX5_uses, cX5_uses, 3, (Option.some Jvm.ClassFile.FieldType.int), 5, 3, []) := rfl
theorem ow92 : mx_own 92 = 5 := mx_mi_own mi92
theorem mm92 : mx_max 92 = 3 := mx_mi_max mi92
theorem rt92 : mx_ret 92 = (Option.some Jvm.ClassFile.FieldType.int) := mx_mi_ret mi92
theorem hn92 : mx_hnd 92 = [] := mx_mi_hnd mi92
theorem n92_0 : mx_ins 92 0 = some ((.aload_n 0), 1) := mx_ins_of mi92 dX5_uses_0 rfl
theorem u92_0 : ev d 92 0 lo st h = evS (mx_ldA 0) d 92 1 lo st h := ev_s n92_0 rfl rfl
theorem n92_1 : mx_ins 92 1 = some ((.aload_n 1), 1) := mx_ins_of mi92 dX5_uses_1 rfl
theorem u92_1 : ev d 92 1 lo st h = evS (mx_ldA 1) d 92 2 lo st h := ev_s n92_1 rfl rfl
theorem n92_2 : mx_ins 92 2 = some ((.iload_n 2), 1) := mx_ins_of mi92 dX5_uses_2 rfl
theorem u92_2 : ev d 92 2 lo st h = evS (mx_ldI 2) d 92 3 lo st h := ev_s n92_2 rfl rfl
theorem n92_3 : mx_ins 92 3 = some ((.invokespecial 13), 3) := mx_ins_of mi92 dX5_uses_3 rfl
theorem u92_3 : ev d 92 3 lo st h = evIn d 92 3 6 5 13 3 false lo st h := ev_inv n92_3 rfl rfl ow92 ia5_13
theorem n92_6 : mx_ins 92 6 = some ((.iconst 3), 1) := mx_ins_of mi92 dX5_uses_6 rfl
theorem u92_6 : ev d 92 6 lo st h = ev d 92 7 lo (.int 3 :: st) h := (ev_s (f := mx_push (.int 3)) n92_6 rfl rfl).trans es_push
theorem n92_7 : mx_ins 92 7 = some (.imul, 1) := mx_ins_of mi92 dX5_uses_7 rfl
theorem u92_7 : ev d 92 7 lo st h = evI d 92 7 8 lo st h .imul := ev_u n92_7 rfl
theorem n92_8 : mx_ins 92 8 = some ((.iconst 4), 1) := mx_ins_of mi92 dX5_uses_8 rfl
theorem u92_8 : ev d 92 8 lo st h = ev d 92 9 lo (.int 4 :: st) h := (ev_s (f := mx_push (.int 4)) n92_8 rfl rfl).trans es_push
theorem n92_9 : mx_ins 92 9 = some (.idiv, 1) := mx_ins_of mi92 dX5_uses_9 rfl
theorem u92_9 : ev d 92 9 lo st h = evI d 92 9 10 lo st h .idiv := ev_u n92_9 rfl
theorem n92_10 : mx_ins 92 10 = some (.ireturn, 1) := mx_ins_of mi92 dX5_uses_10 rfl
theorem u92_10 : ev d 92 10 lo st h = evI d 92 10 11 lo st h .ireturn := ev_u n92_10 rfl
theorem mi93 : mx_mi 93 = some (yX5_dries, cX5_dries, 2, (Option.some Jvm.ClassFile.FieldType.int), 5, 2, []) := rfl
theorem ow93 : mx_own 93 = 5 := mx_mi_own mi93
theorem mm93 : mx_max 93 = 2 := mx_mi_max mi93
theorem rt93 : mx_ret 93 = (Option.some Jvm.ClassFile.FieldType.int) := mx_mi_ret mi93
theorem hn93 : mx_hnd 93 = [] := mx_mi_hnd mi93
theorem n93_0 : mx_ins 93 0 = some ((.aload_n 0), 1) := mx_ins_of mi93 dX5_dries_0 rfl
theorem u93_0 : ev d 93 0 lo st h = evS (mx_ldA 0) d 93 1 lo st h := ev_s n93_0 rfl rfl
theorem n93_1 : mx_ins 93 1 = some ((.iload_n 1), 1) := mx_ins_of mi93 dX5_dries_1 rfl
theorem u93_1 : ev d 93 1 lo st h = evS (mx_ldI 1) d 93 2 lo st h := ev_s n93_1 rfl rfl
theorem n93_2 : mx_ins 93 2 = some ((.invokespecial 17), 3) := mx_ins_of mi93 dX5_dries_2 rfl
theorem u93_2 : ev d 93 2 lo st h = evIn d 93 2 5 5 17 2 false lo st h := ev_inv n93_2 rfl rfl ow93 ia5_17
theorem n93_5 : mx_ins 93 5 = some ((.iconst 2), 1) := mx_ins_of mi93 dX5_dries_5 rfl
theorem u93_5 : ev d 93 5 lo st h = ev d 93 6 lo (.int 2 :: st) h := (ev_s (f := mx_push (.int 2)) n93_5 rfl rfl).trans es_push
theorem n93_6 : mx_ins 93 6 = some (.idiv, 1) := mx_ins_of mi93 dX5_dries_6 rfl
theorem u93_6 : ev d 93 6 lo st h = evI d 93 6 7 lo st h .idiv := ev_u n93_6 rfl
theorem n93_7 : mx_ins 93 7 = some (.ireturn, 1) := mx_ins_of mi93 dX5_dries_7 rfl
theorem u93_7 : ev d 93 7 lo st h = evI d 93 7 8 lo st h .ireturn := ev_u n93_7 rfl
theorem mi94 : mx_mi 94 = some (yX5_thing, cX5_thing, 3, (Option.some (Jvm.ClassFile.FieldType.object "ColdBox$Tells")), 5, 3, []) := rfl
theorem ow94 : mx_own 94 = 5 := mx_mi_own mi94
theorem mm94 : mx_max 94 = 3 := mx_mi_max mi94
theorem rt94 : mx_ret 94 = (Option.some (Jvm.ClassFile.FieldType.object "ColdBox$Tells")) := mx_mi_ret mi94
theorem hn94 : mx_hnd 94 = [] := mx_mi_hnd mi94
theorem rr94 : mx_rr 94 = true := by unfold mx_rr; rw [rt94]
theorem n94_0 : mx_ins 94 0 = some ((.new 21), 3) := mx_ins_of mi94 dX5_thing_0 rfl
theorem u94_0 : ev d 94 0 lo st h = evS (mx_nw 5 21) d 94 3 lo st h := ev_s n94_0 rfl rfl
theorem n94_3 : mx_ins 94 3 = some (.dup, 1) := mx_ins_of mi94 dX5_thing_3 rfl
theorem u94_3 : ev d 94 3 lo st h = evI d 94 3 4 lo st h .dup := ev_u n94_3 rfl
theorem n94_4 : mx_ins 94 4 = some ((.aload_n 0), 1) := mx_ins_of mi94 dX5_thing_4 rfl
theorem u94_4 : ev d 94 4 lo st h = evS (mx_ldA 0) d 94 5 lo st h := ev_s n94_4 rfl rfl
theorem n94_5 : mx_ins 94 5 = some ((.getfield 1), 3) := mx_ins_of mi94 dX5_thing_5 rfl
theorem u94_5 : ev d 94 5 lo st h = evS (mx_gf 5 1) d 94 8 lo st h := ev_s n94_5 rfl rfl
theorem n94_8 : mx_ins 94 8 = some ((.iload_n 1), 1) := mx_ins_of mi94 dX5_thing_8 rfl
theorem u94_8 : ev d 94 8 lo st h = evS (mx_ldI 1) d 94 9 lo st h := ev_s n94_8 rfl rfl
theorem n94_9 : mx_ins 94 9 = some ((.iload_n 2), 1) := mx_ins_of mi94 dX5_thing_9 rfl
theorem u94_9 : ev d 94 9 lo st h = evS (mx_ldI 2) d 94 10 lo st h := ev_s n94_9 rfl rfl
theorem n94_10 : mx_ins 94 10 = some ((.invokespecial 23), 3) := mx_ins_of mi94 dX5_thing_10 rfl
theorem u94_10 : ev d 94 10 lo st h = evIn d 94 10 13 5 23 4 false lo st h := ev_inv n94_10 rfl rfl ow94 ia5_23
theorem n94_13 : mx_ins 94 13 = some (.areturn, 1) := mx_ins_of mi94 dX5_thing_13 rfl
theorem u94_13 : ev d 94 13 lo st h = evI d 94 13 14 lo st h .areturn := ev_u n94_13 rfl
theorem mi95 : mx_mi 95 = some (yX6_init, cX6_init, 2, (none : Option FieldType), 6, 2, []) := rfl
theorem ow95 : mx_own 95 = 6 := mx_mi_own mi95
theorem mm95 : mx_max 95 = 2 := mx_mi_max mi95
theorem rt95 : mx_ret 95 = (none : Option FieldType) := mx_mi_ret mi95
theorem hn95 : mx_hnd 95 = [] := mx_mi_hnd mi95
theorem n95_0 : mx_ins 95 0 = some ((.aload_n 0), 1) := mx_ins_of mi95 dX6_init_0 rfl
theorem u95_0 : ev d 95 0 lo st h = evS (mx_ldA 0) d 95 1 lo st h := ev_s n95_0 rfl rfl
theorem n95_1 : mx_ins 95 1 = some ((.aload_n 1), 1) := mx_ins_of mi95 dX6_init_1 rfl
theorem u95_1 : ev d 95 1 lo st h = evS (mx_ldA 1) d 95 2 lo st h := ev_s n95_1 rfl rfl
theorem n95_2 : mx_ins 95 2 = some ((.putfield 1), 3) := mx_ins_of mi95 dX6_init_2 rfl
theorem u95_2 : ev d 95 2 lo st h = evS (mx_pf 6 1 true) d 95 5 lo st h := ev_s n95_2 rfl rfl
theorem n95_5 : mx_ins 95 5 = some ((.aload_n 0), 1) := mx_ins_of mi95 dX6_init_5 rfl
theorem u95_5 : ev d 95 5 lo st h = evS (mx_ldA 0) d 95 6 lo st h := ev_s n95_5 rfl rfl
theorem n95_6 : mx_ins 95 6 = some ((.aload_n 1), 1) := mx_ins_of mi95 dX6_init_6 rfl
theorem u95_6 : ev d 95 6 lo st h = evS (mx_ldA 1) d 95 7 lo st h := ev_s n95_6 rfl rfl
theorem n95_7 : mx_ins 95 7 = some ((.invokespecial 7), 3) := mx_ins_of mi95 dX6_init_7 rfl
theorem u95_7 : ev d 95 7 lo st h = evIn d 95 7 10 6 7 2 false lo st h := ev_inv n95_7 rfl rfl ow95 ia6_7
theorem n95_10 : mx_ins 95 10 = some (.return_, 1) := mx_ins_of mi95 dX6_init_10 rfl
theorem u95_10 : ev d 95 10 lo st h = evI d 95 10 11 lo st h .return_ := ev_u n95_10 rfl
theorem mi96 : mx_mi 96 = some (yX6_uses, cX6_uses, 3, (Option.some Jvm.ClassFile.FieldType.int), 6, 3, []) := rfl
theorem ow96 : mx_own 96 = 6 := mx_mi_own mi96
theorem mm96 : mx_max 96 = 3 := mx_mi_max mi96
theorem rt96 : mx_ret 96 = (Option.some Jvm.ClassFile.FieldType.int) := mx_mi_ret mi96
theorem hn96 : mx_hnd 96 = [] := mx_mi_hnd mi96
theorem n96_0 : mx_ins 96 0 = some ((.iconst 2), 1) := mx_ins_of mi96 dX6_uses_0 rfl
theorem u96_0 : ev d 96 0 lo st h = ev d 96 1 lo (.int 2 :: st) h := (ev_s (f := mx_push (.int 2)) n96_0 rfl rfl).trans es_push
theorem n96_1 : mx_ins 96 1 = some ((.aload_n 0), 1) := mx_ins_of mi96 dX6_uses_1 rfl
theorem u96_1 : ev d 96 1 lo st h = evS (mx_ldA 0) d 96 2 lo st h := ev_s n96_1 rfl rfl
theorem n96_2 : mx_ins 96 2 = some ((.aload_n 1), 1) := mx_ins_of mi96 dX6_uses_2 rfl
theorem u96_2 : ev d 96 2 lo st h = evS (mx_ldA 1) d 96 3 lo st h := ev_s n96_2 rfl rfl
theorem n96_3 : mx_ins 96 3 = some ((.iload_n 2), 1) := mx_ins_of mi96 dX6_uses_3 rfl
theorem u96_3 : ev d 96 3 lo st h = evS (mx_ldI 2) d 96 4 lo st h := ev_s n96_3 rfl rfl
theorem n96_4 : mx_ins 96 4 = some ((.invokespecial 13), 3) := mx_ins_of mi96 dX6_uses_4 rfl
theorem u96_4 : ev d 96 4 lo st h = evIn d 96 4 7 6 13 3 false lo st h := ev_inv n96_4 rfl rfl ow96 ia6_13
theorem n96_7 : mx_ins 96 7 = some (.imul, 1) := mx_ins_of mi96 dX6_uses_7 rfl
theorem u96_7 : ev d 96 7 lo st h = evI d 96 7 8 lo st h .imul := ev_u n96_7 rfl
theorem n96_8 : mx_ins 96 8 = some (.ireturn, 1) := mx_ins_of mi96 dX6_uses_8 rfl
theorem u96_8 : ev d 96 8 lo st h = evI d 96 8 9 lo st h .ireturn := ev_u n96_8 rfl
theorem mi97 : mx_mi 97 = some (yX6_dries, cX6_dries, 2, (Option.some Jvm.ClassFile.FieldType.int), 6, 2, []) := rfl
theorem ow97 : mx_own 97 = 6 := mx_mi_own mi97
theorem mm97 : mx_max 97 = 2 := mx_mi_max mi97
theorem rt97 : mx_ret 97 = (Option.some Jvm.ClassFile.FieldType.int) := mx_mi_ret mi97
theorem hn97 : mx_hnd 97 = [] := mx_mi_hnd mi97
theorem n97_0 : mx_ins 97 0 = some ((.aload_n 0), 1) := mx_ins_of mi97 dX6_dries_0 rfl
theorem u97_0 : ev d 97 0 lo st h = evS (mx_ldA 0) d 97 1 lo st h := ev_s n97_0 rfl rfl
theorem n97_1 : mx_ins 97 1 = some ((.iload_n 1), 1) := mx_ins_of mi97 dX6_dries_1 rfl
theorem u97_1 : ev d 97 1 lo st h = evS (mx_ldI 1) d 97 2 lo st h := ev_s n97_1 rfl rfl
theorem n97_2 : mx_ins 97 2 = some ((.invokespecial 17), 3) := mx_ins_of mi97 dX6_dries_2 rfl
theorem u97_2 : ev d 97 2 lo st h = evIn d 97 2 5 6 17 2 false lo st h := ev_inv n97_2 rfl rfl ow97 ia6_17
theorem n97_5 : mx_ins 97 5 = some ((.iconst 5), 1) := mx_ins_of mi97 dX6_dries_5 rfl
theorem u97_5 : ev d 97 5 lo st h = ev d 97 6 lo (.int 5 :: st) h := (ev_s (f := mx_push (.int 5)) n97_5 rfl rfl).trans es_push
theorem n97_6 : mx_ins 97 6 = some (.iadd, 1) := mx_ins_of mi97 dX6_dries_6 rfl
theorem u97_6 : ev d 97 6 lo st h = evI d 97 6 7 lo st h .iadd := ev_u n97_6 rfl
theorem n97_7 : mx_ins 97 7 = some (.ireturn, 1) := mx_ins_of mi97 dX6_dries_7 rfl
theorem u97_7 : ev d 97 7 lo st h = evI d 97 7 8 lo st h .ireturn := ev_u n97_7 rfl
theorem mi98 : mx_mi 98 = some (yX6_thing, cX6_thing, 3, (Option.some (Jvm.ClassFile.FieldType.object "ColdBox$Tells")), 6, 3, []) := rfl
theorem ow98 : mx_own 98 = 6 := mx_mi_own mi98
theorem mm98 : mx_max 98 = 3 := mx_mi_max mi98
theorem rt98 : mx_ret 98 = (Option.some (Jvm.ClassFile.FieldType.object "ColdBox$Tells")) := mx_mi_ret mi98
theorem hn98 : mx_hnd 98 = [] := mx_mi_hnd mi98
theorem rr98 : mx_rr 98 = true := by unfold mx_rr; rw [rt98]
theorem n98_0 : mx_ins 98 0 = some ((.new 21), 3) := mx_ins_of mi98 dX6_thing_0 rfl
theorem u98_0 : ev d 98 0 lo st h = evS (mx_nw 6 21) d 98 3 lo st h := ev_s n98_0 rfl rfl
theorem n98_3 : mx_ins 98 3 = some (.dup, 1) := mx_ins_of mi98 dX6_thing_3 rfl
theorem u98_3 : ev d 98 3 lo st h = evI d 98 3 4 lo st h .dup := ev_u n98_3 rfl
theorem n98_4 : mx_ins 98 4 = some ((.aload_n 0), 1) := mx_ins_of mi98 dX6_thing_4 rfl
theorem u98_4 : ev d 98 4 lo st h = evS (mx_ldA 0) d 98 5 lo st h := ev_s n98_4 rfl rfl
theorem n98_5 : mx_ins 98 5 = some ((.getfield 1), 3) := mx_ins_of mi98 dX6_thing_5 rfl
theorem u98_5 : ev d 98 5 lo st h = evS (mx_gf 6 1) d 98 8 lo st h := ev_s n98_5 rfl rfl
theorem n98_8 : mx_ins 98 8 = some ((.iload_n 1), 1) := mx_ins_of mi98 dX6_thing_8 rfl
theorem u98_8 : ev d 98 8 lo st h = evS (mx_ldI 1) d 98 9 lo st h := ev_s n98_8 rfl rfl
theorem n98_9 : mx_ins 98 9 = some ((.iload_n 2), 1) := mx_ins_of mi98 dX6_thing_9 rfl
theorem u98_9 : ev d 98 9 lo st h = evS (mx_ldI 2) d 98 10 lo st h := ev_s n98_9 rfl rfl
theorem n98_10 : mx_ins 98 10 = some ((.invokespecial 23), 3) := mx_ins_of mi98 dX6_thing_10 rfl
theorem u98_10 : ev d 98 10 lo st h = evIn d 98 10 13 6 23 4 false lo st h := ev_inv n98_10 rfl rfl ow98 ia6_23
theorem n98_13 : mx_ins 98 13 = some (.areturn, 1) := mx_ins_of mi98 dX6_thing_13 rfl
theorem u98_13 : ev d 98 13 lo st h = evI d 98 13 14 lo st h .areturn := ev_u n98_13 rfl
theorem mi99 : mx_mi 99 = some (yX7_init, cX7_init, 2, (none : Option FieldType), 7, 2, []) := rfl
theorem ow99 : mx_own 99 = 7 := mx_mi_own mi99
theorem mm99 : mx_max 99 = 2 := mx_mi_max mi99
theorem rt99 : mx_ret 99 = (none : Option FieldType) := mx_mi_ret mi99
theorem hn99 : mx_hnd 99 = [] := mx_mi_hnd mi99
theorem n99_0 : mx_ins 99 0 = some ((.aload_n 0), 1) := mx_ins_of mi99 dX7_init_0 rfl
theorem u99_0 : ev d 99 0 lo st h = evS (mx_ldA 0) d 99 1 lo st h := ev_s n99_0 rfl rfl
theorem n99_1 : mx_ins 99 1 = some ((.aload_n 1), 1) := mx_ins_of mi99 dX7_init_1 rfl
theorem u99_1 : ev d 99 1 lo st h = evS (mx_ldA 1) d 99 2 lo st h := ev_s n99_1 rfl rfl
theorem n99_2 : mx_ins 99 2 = some ((.putfield 1), 3) := mx_ins_of mi99 dX7_init_2 rfl
theorem u99_2 : ev d 99 2 lo st h = evS (mx_pf 7 1 true) d 99 5 lo st h := ev_s n99_2 rfl rfl
theorem n99_5 : mx_ins 99 5 = some ((.aload_n 0), 1) := mx_ins_of mi99 dX7_init_5 rfl
theorem u99_5 : ev d 99 5 lo st h = evS (mx_ldA 0) d 99 6 lo st h := ev_s n99_5 rfl rfl
theorem n99_6 : mx_ins 99 6 = some ((.aload_n 1), 1) := mx_ins_of mi99 dX7_init_6 rfl
theorem u99_6 : ev d 99 6 lo st h = evS (mx_ldA 1) d 99 7 lo st h := ev_s n99_6 rfl rfl
theorem n99_7 : mx_ins 99 7 = some ((.invokespecial 7), 3) := mx_ins_of mi99 dX7_init_7 rfl
theorem u99_7 : ev d 99 7 lo st h = evIn d 99 7 10 7 7 2 false lo st h := ev_inv n99_7 rfl rfl ow99 ia7_7
theorem n99_10 : mx_ins 99 10 = some (.return_, 1) := mx_ins_of mi99 dX7_init_10 rfl
theorem u99_10 : ev d 99 10 lo st h = evI d 99 10 11 lo st h .return_ := ev_u n99_10 rfl
theorem mi100 : mx_mi 100 = some (yX7_uses, cX7_uses, 3, (Option.some Jvm.ClassFile.FieldType.int), 7, 3, []) := rfl
theorem ow100 : mx_own 100 = 7 := mx_mi_own mi100
theorem mm100 : mx_max 100 = 3 := mx_mi_max mi100
theorem rt100 : mx_ret 100 = (Option.some Jvm.ClassFile.FieldType.int) := mx_mi_ret mi100
theorem hn100 : mx_hnd 100 = [] := mx_mi_hnd mi100
theorem n100_0 : mx_ins 100 0 = some ((.iconst 2), 1) := mx_ins_of mi100 dX7_uses_0 rfl
theorem u100_0 : ev d 100 0 lo st h = ev d 100 1 lo (.int 2 :: st) h := (ev_s (f := mx_push (.int 2)) n100_0 rfl rfl).trans es_push
theorem n100_1 : mx_ins 100 1 = some ((.aload_n 0), 1) := mx_ins_of mi100 dX7_uses_1 rfl
theorem u100_1 : ev d 100 1 lo st h = evS (mx_ldA 0) d 100 2 lo st h := ev_s n100_1 rfl rfl
theorem n100_2 : mx_ins 100 2 = some ((.aload_n 1), 1) := mx_ins_of mi100 dX7_uses_2 rfl
theorem u100_2 : ev d 100 2 lo st h = evS (mx_ldA 1) d 100 3 lo st h := ev_s n100_2 rfl rfl
theorem n100_3 : mx_ins 100 3 = some ((.iload_n 2), 1) := mx_ins_of mi100 dX7_uses_3 rfl
theorem u100_3 : ev d 100 3 lo st h = evS (mx_ldI 2) d 100 4 lo st h := ev_s n100_3 rfl rfl
theorem n100_4 : mx_ins 100 4 = some ((.invokespecial 13), 3) := mx_ins_of mi100 dX7_uses_4 rfl
theorem u100_4 : ev d 100 4 lo st h = evIn d 100 4 7 7 13 3 false lo st h := ev_inv n100_4 rfl rfl ow100 ia7_13
theorem n100_7 : mx_ins 100 7 = some (.imul, 1) := mx_ins_of mi100 dX7_uses_7 rfl
theorem u100_7 : ev d 100 7 lo st h = evI d 100 7 8 lo st h .imul := ev_u n100_7 rfl
theorem n100_8 : mx_ins 100 8 = some (.ireturn, 1) := mx_ins_of mi100 dX7_uses_8 rfl
theorem u100_8 : ev d 100 8 lo st h = evI d 100 8 9 lo st h .ireturn := ev_u n100_8 rfl
theorem mi101 : mx_mi 101 = some (yX7_dries, cX7_dries, 2, (Option.some Jvm.ClassFile.FieldType.int), 7, 2, []) := rfl
theorem ow101 : mx_own 101 = 7 := mx_mi_own mi101
theorem mm101 : mx_max 101 = 2 := mx_mi_max mi101
theorem rt101 : mx_ret 101 = (Option.some Jvm.ClassFile.FieldType.int) := mx_mi_ret mi101
theorem hn101 : mx_hnd 101 = [] := mx_mi_hnd mi101
theorem n101_0 : mx_ins 101 0 = some ((.aload_n 0), 1) := mx_ins_of mi101 dX7_dries_0 rfl
theorem u101_0 : ev d 101 0 lo st h = evS (mx_ldA 0) d 101 1 lo st h := ev_s n101_0 rfl rfl
theorem n101_1 : mx_ins 101 1 = some ((.iload_n 1), 1) := mx_ins_of mi101 dX7_dries_1 rfl
theorem u101_1 : ev d 101 1 lo st h = evS (mx_ldI 1) d 101 2 lo st h := ev_s n101_1 rfl rfl
theorem n101_2 : mx_ins 101 2 = some ((.invokespecial 17), 3) := mx_ins_of mi101 dX7_dries_2 rfl
theorem u101_2 : ev d 101 2 lo st h = evIn d 101 2 5 7 17 2 false lo st h := ev_inv n101_2 rfl rfl ow101 ia7_17
theorem n101_5 : mx_ins 101 5 = some ((.bipush 20), 2) := mx_ins_of mi101 dX7_dries_5 rfl
theorem u101_5 : ev d 101 5 lo st h = ev d 101 7 lo (.int 20 :: st) h := (ev_s (f := mx_push (.int 20)) n101_5 rfl rfl).trans es_push
theorem n101_7 : mx_ins 101 7 = some (.iadd, 1) := mx_ins_of mi101 dX7_dries_7 rfl
theorem u101_7 : ev d 101 7 lo st h = evI d 101 7 8 lo st h .iadd := ev_u n101_7 rfl
theorem n101_8 : mx_ins 101 8 = some (.ireturn, 1) := mx_ins_of mi101 dX7_dries_8 rfl
theorem u101_8 : ev d 101 8 lo st h = evI d 101 8 9 lo st h .ireturn := ev_u n101_8 rfl
theorem mi102 : mx_mi 102 = some (yX7_thing, cX7_thing, 3, (Option.some (Jvm.ClassFile.FieldType.object "ColdBox$Tells")), 7, 3, []) := rfl
theorem ow102 : mx_own 102 = 7 := mx_mi_own mi102
theorem mm102 : mx_max 102 = 3 := mx_mi_max mi102
theorem rt102 : mx_ret 102 = (Option.some (Jvm.ClassFile.FieldType.object "ColdBox$Tells")) := mx_mi_ret mi102
theorem hn102 : mx_hnd 102 = [] := mx_mi_hnd mi102
theorem rr102 : mx_rr 102 = true := by unfold mx_rr; rw [rt102]
theorem n102_0 : mx_ins 102 0 = some ((.new 21), 3) := mx_ins_of mi102 dX7_thing_0 rfl
theorem u102_0 : ev d 102 0 lo st h = evS (mx_nw 7 21) d 102 3 lo st h := ev_s n102_0 rfl rfl
theorem n102_3 : mx_ins 102 3 = some (.dup, 1) := mx_ins_of mi102 dX7_thing_3 rfl
theorem u102_3 : ev d 102 3 lo st h = evI d 102 3 4 lo st h .dup := ev_u n102_3 rfl
theorem n102_4 : mx_ins 102 4 = some ((.aload_n 0), 1) := mx_ins_of mi102 dX7_thing_4 rfl
theorem u102_4 : ev d 102 4 lo st h = evS (mx_ldA 0) d 102 5 lo st h := ev_s n102_4 rfl rfl
theorem n102_5 : mx_ins 102 5 = some ((.getfield 1), 3) := mx_ins_of mi102 dX7_thing_5 rfl
theorem u102_5 : ev d 102 5 lo st h = evS (mx_gf 7 1) d 102 8 lo st h := ev_s n102_5 rfl rfl
theorem n102_8 : mx_ins 102 8 = some ((.iload_n 1), 1) := mx_ins_of mi102 dX7_thing_8 rfl
theorem u102_8 : ev d 102 8 lo st h = evS (mx_ldI 1) d 102 9 lo st h := ev_s n102_8 rfl rfl
theorem n102_9 : mx_ins 102 9 = some ((.iload_n 2), 1) := mx_ins_of mi102 dX7_thing_9 rfl
theorem u102_9 : ev d 102 9 lo st h = evS (mx_ldI 2) d 102 10 lo st h := ev_s n102_9 rfl rfl
theorem n102_10 : mx_ins 102 10 = some ((.invokespecial 23), 3) := mx_ins_of mi102 dX7_thing_10 rfl
theorem u102_10 : ev d 102 10 lo st h = evIn d 102 10 13 7 23 4 false lo st h := ev_inv n102_10 rfl rfl ow102 ia7_23
theorem n102_13 : mx_ins 102 13 = some (.areturn, 1) := mx_ins_of mi102 dX7_thing_13 rfl
theorem u102_13 : ev d 102 13 lo st h = evI d 102 13 14 lo st h .areturn := ev_u n102_13 rfl
theorem mi103 : mx_mi 103 = some (yX8_init, cX8_init, 2, (none : Option FieldType), 8, 2, []) := rfl
theorem ow103 : mx_own 103 = 8 := mx_mi_own mi103
theorem mm103 : mx_max 103 = 2 := mx_mi_max mi103
theorem rt103 : mx_ret 103 = (none : Option FieldType) := mx_mi_ret mi103
theorem hn103 : mx_hnd 103 = [] := mx_mi_hnd mi103
theorem n103_0 : mx_ins 103 0 = some ((.aload_n 0), 1) := mx_ins_of mi103 dX8_init_0 rfl
theorem u103_0 : ev d 103 0 lo st h = evS (mx_ldA 0) d 103 1 lo st h := ev_s n103_0 rfl rfl
theorem n103_1 : mx_ins 103 1 = some ((.aload_n 1), 1) := mx_ins_of mi103 dX8_init_1 rfl
theorem u103_1 : ev d 103 1 lo st h = evS (mx_ldA 1) d 103 2 lo st h := ev_s n103_1 rfl rfl
theorem n103_2 : mx_ins 103 2 = some ((.putfield 1), 3) := mx_ins_of mi103 dX8_init_2 rfl
theorem u103_2 : ev d 103 2 lo st h = evS (mx_pf 8 1 true) d 103 5 lo st h := ev_s n103_2 rfl rfl
theorem n103_5 : mx_ins 103 5 = some ((.aload_n 0), 1) := mx_ins_of mi103 dX8_init_5 rfl
theorem u103_5 : ev d 103 5 lo st h = evS (mx_ldA 0) d 103 6 lo st h := ev_s n103_5 rfl rfl
theorem n103_6 : mx_ins 103 6 = some ((.aload_n 1), 1) := mx_ins_of mi103 dX8_init_6 rfl
theorem u103_6 : ev d 103 6 lo st h = evS (mx_ldA 1) d 103 7 lo st h := ev_s n103_6 rfl rfl
theorem n103_7 : mx_ins 103 7 = some ((.invokespecial 7), 3) := mx_ins_of mi103 dX8_init_7 rfl
theorem u103_7 : ev d 103 7 lo st h = evIn d 103 7 10 8 7 2 false lo st h := ev_inv n103_7 rfl rfl ow103 ia8_7
theorem n103_10 : mx_ins 103 10 = some (.return_, 1) := mx_ins_of mi103 dX8_init_10 rfl
theorem u103_10 : ev d 103 10 lo st h = evI d 103 10 11 lo st h .return_ := ev_u n103_10 rfl
theorem mi104 : mx_mi 104 = some (yX8_dries, cX8_dries, 2, (Option.some Jvm.ClassFile.FieldType.int), 8, 2, []) := rfl
theorem ow104 : mx_own 104 = 8 := mx_mi_own mi104
theorem mm104 : mx_max 104 = 2 := mx_mi_max mi104
theorem rt104 : mx_ret 104 = (Option.some Jvm.ClassFile.FieldType.int) := mx_mi_ret mi104
theorem hn104 : mx_hnd 104 = [] := mx_mi_hnd mi104
theorem n104_0 : mx_ins 104 0 = some ((.aload_n 0), 1) := mx_ins_of mi104 dX8_dries_0 rfl
theorem u104_0 : ev d 104 0 lo st h = evS (mx_ldA 0) d 104 1 lo st h := ev_s n104_0 rfl rfl
theorem n104_1 : mx_ins 104 1 = some ((.iload_n 1), 1) := mx_ins_of mi104 dX8_dries_1 rfl
theorem u104_1 : ev d 104 1 lo st h = evS (mx_ldI 1) d 104 2 lo st h := ev_s n104_1 rfl rfl
theorem n104_2 : mx_ins 104 2 = some ((.invokespecial 13), 3) := mx_ins_of mi104 dX8_dries_2 rfl
theorem u104_2 : ev d 104 2 lo st h = evIn d 104 2 5 8 13 2 false lo st h := ev_inv n104_2 rfl rfl ow104 ia8_13
theorem n104_5 : mx_ins 104 5 = some ((.iconst 1), 1) := mx_ins_of mi104 dX8_dries_5 rfl
theorem u104_5 : ev d 104 5 lo st h = ev d 104 6 lo (.int 1 :: st) h := (ev_s (f := mx_push (.int 1)) n104_5 rfl rfl).trans es_push
theorem n104_6 : mx_ins 104 6 = some (.iadd, 1) := mx_ins_of mi104 dX8_dries_6 rfl
theorem u104_6 : ev d 104 6 lo st h = evI d 104 6 7 lo st h .iadd := ev_u n104_6 rfl
theorem n104_7 : mx_ins 104 7 = some (.ireturn, 1) := mx_ins_of mi104 dX8_dries_7 rfl
theorem u104_7 : ev d 104 7 lo st h = evI d 104 7 8 lo st h .ireturn := ev_u n104_7 rfl
theorem mi105 : mx_mi 105 = some (yX8_harms, cX8_harms, 1, (Option.some Jvm.ClassFile.FieldType.int), 8, 1, []) := rfl
theorem ow105 : mx_own 105 = 8 := mx_mi_own mi105
theorem mm105 : mx_max 105 = 1 := mx_mi_max mi105
theorem rt105 : mx_ret 105 = (Option.some Jvm.ClassFile.FieldType.int) := mx_mi_ret mi105
theorem hn105 : mx_hnd 105 = [] := mx_mi_hnd mi105
theorem n105_0 : mx_ins 105 0 = some ((.aload_n 0), 1) := mx_ins_of mi105 dX8_harms_0 rfl
theorem u105_0 : ev d 105 0 lo st h = evS (mx_ldA 0) d 105 1 lo st h := ev_s n105_0 rfl rfl
theorem n105_1 : mx_ins 105 1 = some ((.invokespecial 17), 3) := mx_ins_of mi105 dX8_harms_1 rfl
theorem u105_1 : ev d 105 1 lo st h = evIn d 105 1 4 8 17 1 false lo st h := ev_inv n105_1 rfl rfl ow105 ia8_17
theorem n105_4 : mx_ins 105 4 = some ((.iconst 1), 1) := mx_ins_of mi105 dX8_harms_4 rfl
theorem u105_4 : ev d 105 4 lo st h = ev d 105 5 lo (.int 1 :: st) h := (ev_s (f := mx_push (.int 1)) n105_4 rfl rfl).trans es_push
theorem n105_5 : mx_ins 105 5 = some (.iadd, 1) := mx_ins_of mi105 dX8_harms_5 rfl
theorem u105_5 : ev d 105 5 lo st h = evI d 105 5 6 lo st h .iadd := ev_u n105_5 rfl
theorem n105_6 : mx_ins 105 6 = some (.ireturn, 1) := mx_ins_of mi105 dX8_harms_6 rfl
theorem u105_6 : ev d 105 6 lo st h = evI d 105 6 7 lo st h .ireturn := ev_u n105_6 rfl
theorem mi106 : mx_mi 106 = some (yX8_thing, cX8_thing, 3, (Option.some (Jvm.ClassFile.FieldType.object "ColdBox$Tells")), 8, 3, []) := rfl
theorem ow106 : mx_own 106 = 8 := mx_mi_own mi106
theorem mm106 : mx_max 106 = 3 := mx_mi_max mi106
theorem rt106 : mx_ret 106 = (Option.some (Jvm.ClassFile.FieldType.object "ColdBox$Tells")) := mx_mi_ret mi106
theorem hn106 : mx_hnd 106 = [] := mx_mi_hnd mi106
theorem rr106 : mx_rr 106 = true := by unfold mx_rr; rw [rt106]
theorem n106_0 : mx_ins 106 0 = some ((.new 21), 3) := mx_ins_of mi106 dX8_thing_0 rfl
theorem u106_0 : ev d 106 0 lo st h = evS (mx_nw 8 21) d 106 3 lo st h := ev_s n106_0 rfl rfl
theorem n106_3 : mx_ins 106 3 = some (.dup, 1) := mx_ins_of mi106 dX8_thing_3 rfl
theorem u106_3 : ev d 106 3 lo st h = evI d 106 3 4 lo st h .dup := ev_u n106_3 rfl
theorem n106_4 : mx_ins 106 4 = some ((.aload_n 0), 1) := mx_ins_of mi106 dX8_thing_4 rfl
theorem u106_4 : ev d 106 4 lo st h = evS (mx_ldA 0) d 106 5 lo st h := ev_s n106_4 rfl rfl
theorem n106_5 : mx_ins 106 5 = some ((.getfield 1), 3) := mx_ins_of mi106 dX8_thing_5 rfl
theorem u106_5 : ev d 106 5 lo st h = evS (mx_gf 8 1) d 106 8 lo st h := ev_s n106_5 rfl rfl
theorem n106_8 : mx_ins 106 8 = some ((.iload_n 1), 1) := mx_ins_of mi106 dX8_thing_8 rfl
theorem u106_8 : ev d 106 8 lo st h = evS (mx_ldI 1) d 106 9 lo st h := ev_s n106_8 rfl rfl
theorem n106_9 : mx_ins 106 9 = some ((.iload_n 2), 1) := mx_ins_of mi106 dX8_thing_9 rfl
theorem u106_9 : ev d 106 9 lo st h = evS (mx_ldI 2) d 106 10 lo st h := ev_s n106_9 rfl rfl
theorem n106_10 : mx_ins 106 10 = some ((.invokespecial 23), 3) := mx_ins_of mi106 dX8_thing_10 rfl
theorem u106_10 : ev d 106 10 lo st h = evIn d 106 10 13 8 23 4 false lo st h := ev_inv n106_10 rfl rfl ow106 ia8_23
theorem n106_13 : mx_ins 106 13 = some (.areturn, 1) := mx_ins_of mi106 dX8_thing_13 rfl
theorem u106_13 : ev d 106 13 lo st h = evI d 106 13 14 lo st h .areturn := ev_u n106_13 rfl
theorem mi107 : mx_mi 107 = some (yX9_init, cX9_init, 2, (none : Option FieldType), 9, 2, []) := rfl
theorem ow107 : mx_own 107 = 9 := mx_mi_own mi107
theorem mm107 : mx_max 107 = 2 := mx_mi_max mi107
theorem rt107 : mx_ret 107 = (none : Option FieldType) := mx_mi_ret mi107
theorem hn107 : mx_hnd 107 = [] := mx_mi_hnd mi107
theorem n107_0 : mx_ins 107 0 = some ((.aload_n 0), 1) := mx_ins_of mi107 dX9_init_0 rfl
theorem u107_0 : ev d 107 0 lo st h = evS (mx_ldA 0) d 107 1 lo st h := ev_s n107_0 rfl rfl
theorem n107_1 : mx_ins 107 1 = some ((.aload_n 1), 1) := mx_ins_of mi107 dX9_init_1 rfl
theorem u107_1 : ev d 107 1 lo st h = evS (mx_ldA 1) d 107 2 lo st h := ev_s n107_1 rfl rfl
theorem n107_2 : mx_ins 107 2 = some ((.putfield 1), 3) := mx_ins_of mi107 dX9_init_2 rfl
theorem u107_2 : ev d 107 2 lo st h = evS (mx_pf 9 1 true) d 107 5 lo st h := ev_s n107_2 rfl rfl
theorem n107_5 : mx_ins 107 5 = some ((.aload_n 0), 1) := mx_ins_of mi107 dX9_init_5 rfl
theorem u107_5 : ev d 107 5 lo st h = evS (mx_ldA 0) d 107 6 lo st h := ev_s n107_5 rfl rfl
theorem n107_6 : mx_ins 107 6 = some ((.aload_n 1), 1) := mx_ins_of mi107 dX9_init_6 rfl
theorem u107_6 : ev d 107 6 lo st h = evS (mx_ldA 1) d 107 7 lo st h := ev_s n107_6 rfl rfl
theorem n107_7 : mx_ins 107 7 = some ((.invokespecial 7), 3) := mx_ins_of mi107 dX9_init_7 rfl
theorem u107_7 : ev d 107 7 lo st h = evIn d 107 7 10 9 7 2 false lo st h := ev_inv n107_7 rfl rfl ow107 ia9_7
theorem n107_10 : mx_ins 107 10 = some (.return_, 1) := mx_ins_of mi107 dX9_init_10 rfl
theorem u107_10 : ev d 107 10 lo st h = evI d 107 10 11 lo st h .return_ := ev_u n107_10 rfl
theorem mi108 : mx_mi 108 = some (yX9_dries, cX9_dries, 2, (Option.some Jvm.ClassFile.FieldType.int), 9, 2, []) := rfl
theorem ow108 : mx_own 108 = 9 := mx_mi_own mi108
theorem mm108 : mx_max 108 = 2 := mx_mi_max mi108
theorem rt108 : mx_ret 108 = (Option.some Jvm.ClassFile.FieldType.int) := mx_mi_ret mi108
theorem hn108 : mx_hnd 108 = [] := mx_mi_hnd mi108
theorem n108_0 : mx_ins 108 0 = some ((.iconst 2), 1) := mx_ins_of mi108 dX9_dries_0 rfl
theorem u108_0 : ev d 108 0 lo st h = ev d 108 1 lo (.int 2 :: st) h := (ev_s (f := mx_push (.int 2)) n108_0 rfl rfl).trans es_push
theorem n108_1 : mx_ins 108 1 = some ((.aload_n 0), 1) := mx_ins_of mi108 dX9_dries_1 rfl
theorem u108_1 : ev d 108 1 lo st h = evS (mx_ldA 0) d 108 2 lo st h := ev_s n108_1 rfl rfl
theorem n108_2 : mx_ins 108 2 = some ((.iload_n 1), 1) := mx_ins_of mi108 dX9_dries_2 rfl
theorem u108_2 : ev d 108 2 lo st h = evS (mx_ldI 1) d 108 3 lo st h := ev_s n108_2 rfl rfl
theorem n108_3 : mx_ins 108 3 = some ((.invokespecial 13), 3) := mx_ins_of mi108 dX9_dries_3 rfl
theorem u108_3 : ev d 108 3 lo st h = evIn d 108 3 6 9 13 2 false lo st h := ev_inv n108_3 rfl rfl ow108 ia9_13
theorem n108_6 : mx_ins 108 6 = some (.imul, 1) := mx_ins_of mi108 dX9_dries_6 rfl
theorem u108_6 : ev d 108 6 lo st h = evI d 108 6 7 lo st h .imul := ev_u n108_6 rfl
theorem n108_7 : mx_ins 108 7 = some (.ireturn, 1) := mx_ins_of mi108 dX9_dries_7 rfl
theorem u108_7 : ev d 108 7 lo st h = evI d 108 7 8 lo st h .ireturn := ev_u n108_7 rfl
theorem mi109 : mx_mi 109 = some (yX9_thing, cX9_thing, 3, (Option.some (Jvm.ClassFile.FieldType.object "ColdBox$Tells")), 9, 3, []) := rfl
theorem ow109 : mx_own 109 = 9 := mx_mi_own mi109
theorem mm109 : mx_max 109 = 3 := mx_mi_max mi109
theorem rt109 : mx_ret 109 = (Option.some (Jvm.ClassFile.FieldType.object "ColdBox$Tells")) := mx_mi_ret mi109
theorem hn109 : mx_hnd 109 = [] := mx_mi_hnd mi109
theorem rr109 : mx_rr 109 = true := by unfold mx_rr; rw [rt109]
theorem n109_0 : mx_ins 109 0 = some ((.new 17), 3) := mx_ins_of mi109 dX9_thing_0 rfl
theorem u109_0 : ev d 109 0 lo st h = evS (mx_nw 9 17) d 109 3 lo st h := ev_s n109_0 rfl rfl
theorem n109_3 : mx_ins 109 3 = some (.dup, 1) := mx_ins_of mi109 dX9_thing_3 rfl
theorem u109_3 : ev d 109 3 lo st h = evI d 109 3 4 lo st h .dup := ev_u n109_3 rfl
theorem n109_4 : mx_ins 109 4 = some ((.aload_n 0), 1) := mx_ins_of mi109 dX9_thing_4 rfl
theorem u109_4 : ev d 109 4 lo st h = evS (mx_ldA 0) d 109 5 lo st h := ev_s n109_4 rfl rfl
theorem n109_5 : mx_ins 109 5 = some ((.getfield 1), 3) := mx_ins_of mi109 dX9_thing_5 rfl
theorem u109_5 : ev d 109 5 lo st h = evS (mx_gf 9 1) d 109 8 lo st h := ev_s n109_5 rfl rfl
theorem n109_8 : mx_ins 109 8 = some ((.iload_n 1), 1) := mx_ins_of mi109 dX9_thing_8 rfl
theorem u109_8 : ev d 109 8 lo st h = evS (mx_ldI 1) d 109 9 lo st h := ev_s n109_8 rfl rfl
theorem n109_9 : mx_ins 109 9 = some ((.iload_n 2), 1) := mx_ins_of mi109 dX9_thing_9 rfl
theorem u109_9 : ev d 109 9 lo st h = evS (mx_ldI 2) d 109 10 lo st h := ev_s n109_9 rfl rfl
theorem n109_10 : mx_ins 109 10 = some ((.invokespecial 19), 3) := mx_ins_of mi109 dX9_thing_10 rfl
theorem u109_10 : ev d 109 10 lo st h = evIn d 109 10 13 9 19 4 false lo st h := ev_inv n109_10 rfl rfl ow109 ia9_19
theorem n109_13 : mx_ins 109 13 = some (.areturn, 1) := mx_ins_of mi109 dX9_thing_13 rfl
theorem u109_13 : ev d 109 13 lo st h = evI d 109 13 14 lo st h .areturn := ev_u n109_13 rfl
theorem mi110 : mx_mi 110 = some (yX10_init, cX10_init, 2, (none : Option FieldType), 10, 2, []) := rfl
theorem ow110 : mx_own 110 = 10 := mx_mi_own mi110
theorem mm110 : mx_max 110 = 2 := mx_mi_max mi110
theorem rt110 : mx_ret 110 = (none : Option FieldType) := mx_mi_ret mi110
theorem hn110 : mx_hnd 110 = [] := mx_mi_hnd mi110
theorem n110_0 : mx_ins 110 0 = some ((.aload_n 0), 1) := mx_ins_of mi110 dX10_init_0 rfl
theorem u110_0 : ev d 110 0 lo st h = evS (mx_ldA 0) d 110 1 lo st h := ev_s n110_0 rfl rfl
theorem n110_1 : mx_ins 110 1 = some ((.invokespecial 3), 3) := mx_ins_of mi110 dX10_init_1 rfl
theorem u110_1 : ev d 110 1 lo st h = evIn d 110 1 4 10 3 1 true lo st h := ev_inv n110_1 rfl rfl ow110 ia10_3
theorem n110_4 : mx_ins 110 4 = some ((.aload_n 0), 1) := mx_ins_of mi110 dX10_init_4 rfl
theorem u110_4 : ev d 110 4 lo st h = evS (mx_ldA 0) d 110 5 lo st h := ev_s n110_4 rfl rfl
theorem n110_5 : mx_ins 110 5 = some ((.bipush 6), 2) := mx_ins_of mi110 dX10_init_5 rfl
theorem u110_5 : ev d 110 5 lo st h = ev d 110 7 lo (.int 6 :: st) h := (ev_s (f := mx_push (.int 6)) n110_5 rfl rfl).trans es_push
theorem n110_7 : mx_ins 110 7 = some ((.anewarray 9), 3) := mx_ins_of mi110 dX10_init_7 rfl
theorem u110_7 : ev d 110 7 lo st h = evS (mx_nq 10 9) d 110 10 lo st h := ev_s n110_7 rfl rfl
theorem n110_10 : mx_ins 110 10 = some (.dup, 1) := mx_ins_of mi110 dX10_init_10 rfl
theorem u110_10 : ev d 110 10 lo st h = evI d 110 10 11 lo st h .dup := ev_u n110_10 rfl
theorem n110_11 : mx_ins 110 11 = some ((.iconst 0), 1) := mx_ins_of mi110 dX10_init_11 rfl
theorem u110_11 : ev d 110 11 lo st h = ev d 110 12 lo (.int 0 :: st) h := (ev_s (f := mx_push (.int 0)) n110_11 rfl rfl).trans es_push
theorem n110_12 : mx_ins 110 12 = some ((.ldc 11), 2) := mx_ins_of mi110 dX10_init_12 rfl
theorem u110_12 : ev d 110 12 lo st h = ev d 110 14 lo (.float 0 :: st) h := (ev_s (f := mx_push (.float 0)) n110_12 rfl rfl).trans es_push
theorem n110_14 : mx_ins 110 14 = some (.aastore, 1) := mx_ins_of mi110 dX10_init_14 rfl
theorem u110_14 : ev d 110 14 lo st h = evI d 110 14 15 lo st h .aastore := ev_u n110_14 rfl
theorem n110_15 : mx_ins 110 15 = some (.dup, 1) := mx_ins_of mi110 dX10_init_15 rfl
theorem u110_15 : ev d 110 15 lo st h = evI d 110 15 16 lo st h .dup := ev_u n110_15 rfl
theorem n110_16 : mx_ins 110 16 = some ((.iconst 1), 1) := mx_ins_of mi110 dX10_init_16 rfl
theorem u110_16 : ev d 110 16 lo st h = ev d 110 17 lo (.int 1 :: st) h := (ev_s (f := mx_push (.int 1)) n110_16 rfl rfl).trans es_push
theorem n110_17 : mx_ins 110 17 = some ((.ldc 13), 2) := mx_ins_of mi110 dX10_init_17 rfl
theorem u110_17 : ev d 110 17 lo st h = ev d 110 19 lo (.float 1 :: st) h := (ev_s (f := mx_push (.float 1)) n110_17 rfl rfl).trans es_push
theorem n110_19 : mx_ins 110 19 = some (.aastore, 1) := mx_ins_of mi110 dX10_init_19 rfl
theorem u110_19 : ev d 110 19 lo st h = evI d 110 19 20 lo st h .aastore := ev_u n110_19 rfl
theorem n110_20 : mx_ins 110 20 = some (.dup, 1) := mx_ins_of mi110 dX10_init_20 rfl
theorem u110_20 : ev d 110 20 lo st h = evI d 110 20 21 lo st h .dup := ev_u n110_20 rfl
theorem n110_21 : mx_ins 110 21 = some ((.iconst 2), 1) := mx_ins_of mi110 dX10_init_21 rfl
theorem u110_21 : ev d 110 21 lo st h = ev d 110 22 lo (.int 2 :: st) h := (ev_s (f := mx_push (.int 2)) n110_21 rfl rfl).trans es_push
theorem n110_22 : mx_ins 110 22 = some ((.ldc 15), 2) := mx_ins_of mi110 dX10_init_22 rfl
theorem u110_22 : ev d 110 22 lo st h = ev d 110 24 lo (.float 2 :: st) h := (ev_s (f := mx_push (.float 2)) n110_22 rfl rfl).trans es_push
theorem n110_24 : mx_ins 110 24 = some (.aastore, 1) := mx_ins_of mi110 dX10_init_24 rfl
theorem u110_24 : ev d 110 24 lo st h = evI d 110 24 25 lo st h .aastore := ev_u n110_24 rfl
theorem n110_25 : mx_ins 110 25 = some (.dup, 1) := mx_ins_of mi110 dX10_init_25 rfl
theorem u110_25 : ev d 110 25 lo st h = evI d 110 25 26 lo st h .dup := ev_u n110_25 rfl
theorem n110_26 : mx_ins 110 26 = some ((.iconst 3), 1) := mx_ins_of mi110 dX10_init_26 rfl
theorem u110_26 : ev d 110 26 lo st h = ev d 110 27 lo (.int 3 :: st) h := (ev_s (f := mx_push (.int 3)) n110_26 rfl rfl).trans es_push
theorem n110_27 : mx_ins 110 27 = some ((.ldc 17), 2) := mx_ins_of mi110 dX10_init_27 rfl
theorem u110_27 : ev d 110 27 lo st h = ev d 110 29 lo (.float 3 :: st) h := (ev_s (f := mx_push (.float 3)) n110_27 rfl rfl).trans es_push
theorem n110_29 : mx_ins 110 29 = some (.aastore, 1) := mx_ins_of mi110 dX10_init_29 rfl
theorem u110_29 : ev d 110 29 lo st h = evI d 110 29 30 lo st h .aastore := ev_u n110_29 rfl
theorem n110_30 : mx_ins 110 30 = some (.dup, 1) := mx_ins_of mi110 dX10_init_30 rfl
theorem u110_30 : ev d 110 30 lo st h = evI d 110 30 31 lo st h .dup := ev_u n110_30 rfl
theorem n110_31 : mx_ins 110 31 = some ((.iconst 4), 1) := mx_ins_of mi110 dX10_init_31 rfl
theorem u110_31 : ev d 110 31 lo st h = ev d 110 32 lo (.int 4 :: st) h := (ev_s (f := mx_push (.int 4)) n110_31 rfl rfl).trans es_push
theorem n110_32 : mx_ins 110 32 = some ((.ldc 19), 2) := mx_ins_of mi110 dX10_init_32 rfl
theorem u110_32 : ev d 110 32 lo st h = ev d 110 34 lo (.float 4 :: st) h := (ev_s (f := mx_push (.float 4)) n110_32 rfl rfl).trans es_push
theorem n110_34 : mx_ins 110 34 = some (.aastore, 1) := mx_ins_of mi110 dX10_init_34 rfl
theorem u110_34 : ev d 110 34 lo st h = evI d 110 34 35 lo st h .aastore := ev_u n110_34 rfl
theorem n110_35 : mx_ins 110 35 = some (.dup, 1) := mx_ins_of mi110 dX10_init_35 rfl
theorem u110_35 : ev d 110 35 lo st h = evI d 110 35 36 lo st h .dup := ev_u n110_35 rfl
theorem n110_36 : mx_ins 110 36 = some ((.iconst 5), 1) := mx_ins_of mi110 dX10_init_36 rfl
theorem u110_36 : ev d 110 36 lo st h = ev d 110 37 lo (.int 5 :: st) h := (ev_s (f := mx_push (.int 5)) n110_36 rfl rfl).trans es_push
theorem n110_37 : mx_ins 110 37 = some ((.ldc 21), 2) := mx_ins_of mi110 dX10_init_37 rfl
theorem u110_37 : ev d 110 37 lo st h = ev d 110 39 lo (.float 5 :: st) h := (ev_s (f := mx_push (.float 5)) n110_37 rfl rfl).trans es_push
theorem n110_39 : mx_ins 110 39 = some (.aastore, 1) := mx_ins_of mi110 dX10_init_39 rfl
theorem u110_39 : ev d 110 39 lo st h = evI d 110 39 40 lo st h .aastore := ev_u n110_39 rfl
theorem n110_40 : mx_ins 110 40 = some ((.putfield 23), 3) := mx_ins_of mi110 dX10_init_40 rfl
theorem u110_40 : ev d 110 40 lo st h = evS (mx_pf 10 23 true) d 110 43 lo st h := ev_s n110_40 rfl rfl
theorem n110_43 : mx_ins 110 43 = some ((.aload_n 0), 1) := mx_ins_of mi110 dX10_init_43 rfl
theorem u110_43 : ev d 110 43 lo st h = evS (mx_ldA 0) d 110 44 lo st h := ev_s n110_43 rfl rfl
theorem n110_44 : mx_ins 110 44 = some ((.iconst 4), 1) := mx_ins_of mi110 dX10_init_44 rfl
theorem u110_44 : ev d 110 44 lo st h = ev d 110 45 lo (.int 4 :: st) h := (ev_s (f := mx_push (.int 4)) n110_44 rfl rfl).trans es_push
theorem n110_45 : mx_ins 110 45 = some ((.anewarray 9), 3) := mx_ins_of mi110 dX10_init_45 rfl
theorem u110_45 : ev d 110 45 lo st h = evS (mx_nq 10 9) d 110 48 lo st h := ev_s n110_45 rfl rfl
theorem n110_48 : mx_ins 110 48 = some (.dup, 1) := mx_ins_of mi110 dX10_init_48 rfl
theorem u110_48 : ev d 110 48 lo st h = evI d 110 48 49 lo st h .dup := ev_u n110_48 rfl
theorem n110_49 : mx_ins 110 49 = some ((.iconst 0), 1) := mx_ins_of mi110 dX10_init_49 rfl
theorem u110_49 : ev d 110 49 lo st h = ev d 110 50 lo (.int 0 :: st) h := (ev_s (f := mx_push (.int 0)) n110_49 rfl rfl).trans es_push
theorem n110_50 : mx_ins 110 50 = some ((.ldc 29), 2) := mx_ins_of mi110 dX10_init_50 rfl
theorem u110_50 : ev d 110 50 lo st h = ev d 110 52 lo (.float 6 :: st) h := (ev_s (f := mx_push (.float 6)) n110_50 rfl rfl).trans es_push
theorem n110_52 : mx_ins 110 52 = some (.aastore, 1) := mx_ins_of mi110 dX10_init_52 rfl
theorem u110_52 : ev d 110 52 lo st h = evI d 110 52 53 lo st h .aastore := ev_u n110_52 rfl
theorem n110_53 : mx_ins 110 53 = some (.dup, 1) := mx_ins_of mi110 dX10_init_53 rfl
theorem u110_53 : ev d 110 53 lo st h = evI d 110 53 54 lo st h .dup := ev_u n110_53 rfl
theorem n110_54 : mx_ins 110 54 = some ((.iconst 1), 1) := mx_ins_of mi110 dX10_init_54 rfl
theorem u110_54 : ev d 110 54 lo st h = ev d 110 55 lo (.int 1 :: st) h := (ev_s (f := mx_push (.int 1)) n110_54 rfl rfl).trans es_push
theorem n110_55 : mx_ins 110 55 = some ((.ldc 31), 2) := mx_ins_of mi110 dX10_init_55 rfl
theorem u110_55 : ev d 110 55 lo st h = ev d 110 57 lo (.float 7 :: st) h := (ev_s (f := mx_push (.float 7)) n110_55 rfl rfl).trans es_push
theorem n110_57 : mx_ins 110 57 = some (.aastore, 1) := mx_ins_of mi110 dX10_init_57 rfl
theorem u110_57 : ev d 110 57 lo st h = evI d 110 57 58 lo st h .aastore := ev_u n110_57 rfl
theorem n110_58 : mx_ins 110 58 = some (.dup, 1) := mx_ins_of mi110 dX10_init_58 rfl
theorem u110_58 : ev d 110 58 lo st h = evI d 110 58 59 lo st h .dup := ev_u n110_58 rfl
theorem n110_59 : mx_ins 110 59 = some ((.iconst 2), 1) := mx_ins_of mi110 dX10_init_59 rfl
theorem u110_59 : ev d 110 59 lo st h = ev d 110 60 lo (.int 2 :: st) h := (ev_s (f := mx_push (.int 2)) n110_59 rfl rfl).trans es_push
theorem n110_60 : mx_ins 110 60 = some ((.ldc 33), 2) := mx_ins_of mi110 dX10_init_60 rfl
theorem u110_60 : ev d 110 60 lo st h = ev d 110 62 lo (.float 8 :: st) h := (ev_s (f := mx_push (.float 8)) n110_60 rfl rfl).trans es_push
theorem n110_62 : mx_ins 110 62 = some (.aastore, 1) := mx_ins_of mi110 dX10_init_62 rfl
theorem u110_62 : ev d 110 62 lo st h = evI d 110 62 63 lo st h .aastore := ev_u n110_62 rfl
theorem n110_63 : mx_ins 110 63 = some (.dup, 1) := mx_ins_of mi110 dX10_init_63 rfl
theorem u110_63 : ev d 110 63 lo st h = evI d 110 63 64 lo st h .dup := ev_u n110_63 rfl
theorem n110_64 : mx_ins 110 64 = some ((.iconst 3), 1) := mx_ins_of mi110 dX10_init_64 rfl
theorem u110_64 : ev d 110 64 lo st h = ev d 110 65 lo (.int 3 :: st) h := (ev_s (f := mx_push (.int 3)) n110_64 rfl rfl).trans es_push
theorem n110_65 : mx_ins 110 65 = some ((.ldc 35), 2) := mx_ins_of mi110 dX10_init_65 rfl
theorem u110_65 : ev d 110 65 lo st h = ev d 110 67 lo (.float 9 :: st) h := (ev_s (f := mx_push (.float 9)) n110_65 rfl rfl).trans es_push
theorem n110_67 : mx_ins 110 67 = some (.aastore, 1) := mx_ins_of mi110 dX10_init_67 rfl
theorem u110_67 : ev d 110 67 lo st h = evI d 110 67 68 lo st h .aastore := ev_u n110_67 rfl
theorem n110_68 : mx_ins 110 68 = some ((.putfield 37), 3) := mx_ins_of mi110 dX10_init_68 rfl
theorem u110_68 : ev d 110 68 lo st h = evS (mx_pf 10 37 true) d 110 71 lo st h := ev_s n110_68 rfl rfl
theorem n110_71 : mx_ins 110 71 = some ((.aload_n 0), 1) := mx_ins_of mi110 dX10_init_71 rfl
theorem u110_71 : ev d 110 71 lo st h = evS (mx_ldA 0) d 110 72 lo st h := ev_s n110_71 rfl rfl
theorem n110_72 : mx_ins 110 72 = some ((.new 40), 3) := mx_ins_of mi110 dX10_init_72 rfl
theorem u110_72 : ev d 110 72 lo st h = evS (mx_nw 10 40) d 110 75 lo st h := ev_s n110_72 rfl rfl
theorem n110_75 : mx_ins 110 75 = some (.dup, 1) := mx_ins_of mi110 dX10_init_75 rfl
theorem u110_75 : ev d 110 75 lo st h = evI d 110 75 76 lo st h .dup := ev_u n110_75 rfl
theorem n110_76 : mx_ins 110 76 = some ((.invokespecial 42), 3) := mx_ins_of mi110 dX10_init_76 rfl
theorem u110_76 : ev d 110 76 lo st h = evIn d 110 76 79 10 42 1 false lo st h := ev_inv n110_76 rfl rfl ow110 ia10_42
theorem n110_79 : mx_ins 110 79 = some ((.putfield 43), 3) := mx_ins_of mi110 dX10_init_79 rfl
theorem u110_79 : ev d 110 79 lo st h = evS (mx_pf 10 43 true) d 110 82 lo st h := ev_s n110_79 rfl rfl
theorem n110_82 : mx_ins 110 82 = some ((.aload_n 0), 1) := mx_ins_of mi110 dX10_init_82 rfl
theorem u110_82 : ev d 110 82 lo st h = evS (mx_ldA 0) d 110 83 lo st h := ev_s n110_82 rfl rfl
theorem n110_83 : mx_ins 110 83 = some ((.aload_n 1), 1) := mx_ins_of mi110 dX10_init_83 rfl
theorem u110_83 : ev d 110 83 lo st h = evS (mx_ldA 1) d 110 84 lo st h := ev_s n110_83 rfl rfl
theorem n110_84 : mx_ins 110 84 = some ((.putfield 47), 3) := mx_ins_of mi110 dX10_init_84 rfl
theorem u110_84 : ev d 110 84 lo st h = evS (mx_pf 10 47 true) d 110 87 lo st h := ev_s n110_84 rfl rfl
theorem n110_87 : mx_ins 110 87 = some (.return_, 1) := mx_ins_of mi110 dX10_init_87 rfl
theorem u110_87 : ev d 110 87 lo st h = evI d 110 87 88 lo st h .return_ := ev_u n110_87 rfl
theorem mi111 : mx_mi 111 = some (yX10_read, cX10_read, 3, (none : Option FieldType), 10, 3, []) := rfl
theorem ow111 : mx_own 111 = 10 := mx_mi_own mi111
theorem mm111 : mx_max 111 = 3 := mx_mi_max mi111
theorem rt111 : mx_ret 111 = (none : Option FieldType) := mx_mi_ret mi111
theorem hn111 : mx_hnd 111 = [] := mx_mi_hnd mi111
theorem n111_0 : mx_ins 111 0 = some ((.aload_n 0), 1) := mx_ins_of mi111 dX10_read_0 rfl
theorem u111_0 : ev d 111 0 lo st h = evS (mx_ldA 0) d 111 1 lo st h := ev_s n111_0 rfl rfl
theorem n111_1 : mx_ins 111 1 = some ((.aload_n 1), 1) := mx_ins_of mi111 dX10_read_1 rfl
theorem u111_1 : ev d 111 1 lo st h = evS (mx_ldA 1) d 111 2 lo st h := ev_s n111_1 rfl rfl
theorem n111_2 : mx_ins 111 2 = some ((.iload_n 2), 1) := mx_ins_of mi111 dX10_read_2 rfl
theorem u111_2 : ev d 111 2 lo st h = evS (mx_ldI 2) d 111 3 lo st h := ev_s n111_2 rfl rfl
theorem n111_3 : mx_ins 111 3 = some ((.invokevirtual 178), 3) := mx_ins_of mi111 dX10_read_3 rfl
theorem u111_3 : ev d 111 3 lo st h = evIn d 111 3 6 10 178 3 false lo st h := ev_inv n111_3 rfl rfl ow111 ia10_178
theorem n111_6 : mx_ins 111 6 = some ((.aload_n 0), 1) := mx_ins_of mi111 dX10_read_6 rfl
theorem u111_6 : ev d 111 6 lo st h = evS (mx_ldA 0) d 111 7 lo st h := ev_s n111_6 rfl rfl
theorem n111_7 : mx_ins 111 7 = some ((.getfield 47), 3) := mx_ins_of mi111 dX10_read_7 rfl
theorem u111_7 : ev d 111 7 lo st h = evS (mx_gf 10 47) d 111 10 lo st h := ev_s n111_7 rfl rfl
theorem n111_10 : mx_ins 111 10 = some ((.iconst 0), 1) := mx_ins_of mi111 dX10_read_10 rfl
theorem u111_10 : ev d 111 10 lo st h = ev d 111 11 lo (.int 0 :: st) h := (ev_s (f := mx_push (.int 0)) n111_10 rfl rfl).trans es_push
theorem n111_11 : mx_ins 111 11 = some ((.putfield 162), 3) := mx_ins_of mi111 dX10_read_11 rfl
theorem u111_11 : ev d 111 11 lo st h = evS (mx_pf 10 162 false) d 111 14 lo st h := ev_s n111_11 rfl rfl
theorem n111_14 : mx_ins 111 14 = some ((.aload_n 0), 1) := mx_ins_of mi111 dX10_read_14 rfl
theorem u111_14 : ev d 111 14 lo st h = evS (mx_ldA 0) d 111 15 lo st h := ev_s n111_14 rfl rfl
theorem n111_15 : mx_ins 111 15 = some ((.iconst 0), 1) := mx_ins_of mi111 dX10_read_15 rfl
theorem u111_15 : ev d 111 15 lo st h = ev d 111 16 lo (.int 0 :: st) h := (ev_s (f := mx_push (.int 0)) n111_15 rfl rfl).trans es_push
theorem n111_16 : mx_ins 111 16 = some ((.putfield 116), 3) := mx_ins_of mi111 dX10_read_16 rfl
theorem u111_16 : ev d 111 16 lo st h = evS (mx_pf 10 116 false) d 111 19 lo st h := ev_s n111_16 rfl rfl
theorem n111_19 : mx_ins 111 19 = some ((.aload_n 0), 1) := mx_ins_of mi111 dX10_read_19 rfl
theorem u111_19 : ev d 111 19 lo st h = evS (mx_ldA 0) d 111 20 lo st h := ev_s n111_19 rfl rfl
theorem n111_20 : mx_ins 111 20 = some ((.getfield 51), 3) := mx_ins_of mi111 dX10_read_20 rfl
theorem u111_20 : ev d 111 20 lo st h = evS (mx_gf 10 51) d 111 23 lo st h := ev_s n111_20 rfl rfl
theorem n111_23 : mx_ins 111 23 = some ((.aload_n 0), 1) := mx_ins_of mi111 dX10_read_23 rfl
theorem u111_23 : ev d 111 23 lo st h = evS (mx_ldA 0) d 111 24 lo st h := ev_s n111_23 rfl rfl
theorem n111_24 : mx_ins 111 24 = some ((.getfield 55), 3) := mx_ins_of mi111 dX10_read_24 rfl
theorem u111_24 : ev d 111 24 lo st h = evS (mx_gf 10 55) d 111 27 lo st h := ev_s n111_24 rfl rfl
theorem n111_27 : mx_ins 111 27 = some ((.if_icmp .ge 10), 3) := mx_ins_of mi111 dX10_read_27 rfl
theorem u111_27 : ev d 111 27 lo st h = evK .ge d 111 37 30 lo st h := ev_ic n111_27 rfl rfl
theorem n111_30 : mx_ins 111 30 = some ((.aload_n 0), 1) := mx_ins_of mi111 dX10_read_30 rfl
theorem u111_30 : ev d 111 30 lo st h = evS (mx_ldA 0) d 111 31 lo st h := ev_s n111_30 rfl rfl
theorem n111_31 : mx_ins 111 31 = some ((.invokevirtual 182), 3) := mx_ins_of mi111 dX10_read_31 rfl
theorem u111_31 : ev d 111 31 lo st h = evIn d 111 31 34 10 182 1 false lo st h := ev_inv n111_31 rfl rfl ow111 ia10_182
theorem n111_34 : mx_ins 111 34 = some ((.goto (-15)), 3) := mx_ins_of mi111 dX10_read_34 rfl
theorem u111_34 : ev d 111 34 lo st h = ev d 111 19 lo st h := ev_goto n111_34 rfl
theorem n111_37 : mx_ins 111 37 = some (.return_, 1) := mx_ins_of mi111 dX10_read_37 rfl
theorem u111_37 : ev d 111 37 lo st h = evI d 111 37 38 lo st h .return_ := ev_u n111_37 rfl
theorem mi112 : mx_mi 112 = some (yX10_begins, cX10_begins, 3, (none : Option FieldType), 10, 3, []) := rfl
theorem ow112 : mx_own 112 = 10 := mx_mi_own mi112
theorem mm112 : mx_max 112 = 3 := mx_mi_max mi112
theorem rt112 : mx_ret 112 = (none : Option FieldType) := mx_mi_ret mi112
theorem hn112 : mx_hnd 112 = [] := mx_mi_hnd mi112
theorem n112_0 : mx_ins 112 0 = some ((.aload_n 0), 1) := mx_ins_of mi112 dX10_begins_0 rfl
theorem u112_0 : ev d 112 0 lo st h = evS (mx_ldA 0) d 112 1 lo st h := ev_s n112_0 rfl rfl
theorem n112_1 : mx_ins 112 1 = some ((.aload_n 1), 1) := mx_ins_of mi112 dX10_begins_1 rfl
theorem u112_1 : ev d 112 1 lo st h = evS (mx_ldA 1) d 112 2 lo st h := ev_s n112_1 rfl rfl
theorem n112_2 : mx_ins 112 2 = some ((.putfield 58), 3) := mx_ins_of mi112 dX10_begins_2 rfl
theorem u112_2 : ev d 112 2 lo st h = evS (mx_pf 10 58 false) d 112 5 lo st h := ev_s n112_2 rfl rfl
theorem n112_5 : mx_ins 112 5 = some ((.aload_n 0), 1) := mx_ins_of mi112 dX10_begins_5 rfl
theorem u112_5 : ev d 112 5 lo st h = evS (mx_ldA 0) d 112 6 lo st h := ev_s n112_5 rfl rfl
theorem n112_6 : mx_ins 112 6 = some ((.iload_n 2), 1) := mx_ins_of mi112 dX10_begins_6 rfl
theorem u112_6 : ev d 112 6 lo st h = evS (mx_ldI 2) d 112 7 lo st h := ev_s n112_6 rfl rfl
theorem n112_7 : mx_ins 112 7 = some ((.putfield 55), 3) := mx_ins_of mi112 dX10_begins_7 rfl
theorem u112_7 : ev d 112 7 lo st h = evS (mx_pf 10 55 false) d 112 10 lo st h := ev_s n112_7 rfl rfl
theorem n112_10 : mx_ins 112 10 = some ((.aload_n 0), 1) := mx_ins_of mi112 dX10_begins_10 rfl
theorem u112_10 : ev d 112 10 lo st h = evS (mx_ldA 0) d 112 11 lo st h := ev_s n112_10 rfl rfl
theorem n112_11 : mx_ins 112 11 = some ((.iconst 0), 1) := mx_ins_of mi112 dX10_begins_11 rfl
theorem u112_11 : ev d 112 11 lo st h = ev d 112 12 lo (.int 0 :: st) h := (ev_s (f := mx_push (.int 0)) n112_11 rfl rfl).trans es_push
theorem n112_12 : mx_ins 112 12 = some ((.putfield 62), 3) := mx_ins_of mi112 dX10_begins_12 rfl
theorem u112_12 : ev d 112 12 lo st h = evS (mx_pf 10 62 false) d 112 15 lo st h := ev_s n112_12 rfl rfl
theorem n112_15 : mx_ins 112 15 = some ((.aload_n 0), 1) := mx_ins_of mi112 dX10_begins_15 rfl
theorem u112_15 : ev d 112 15 lo st h = evS (mx_ldA 0) d 112 16 lo st h := ev_s n112_15 rfl rfl
theorem n112_16 : mx_ins 112 16 = some ((.invokevirtual 91), 3) := mx_ins_of mi112 dX10_begins_16 rfl
theorem u112_16 : ev d 112 16 lo st h = evIn d 112 16 19 10 91 1 false lo st h := ev_inv n112_16 rfl rfl ow112 ia10_91
theorem n112_19 : mx_ins 112 19 = some (.return_, 1) := mx_ins_of mi112 dX10_begins_19 rfl
theorem u112_19 : ev d 112 19 lo st h = evI d 112 19 20 lo st h .return_ := ev_u n112_19 rfl
theorem mi113 : mx_mi 113 = some (yX10_next, cX10_next, 3, (none : Option FieldType), 10, 1, []) := rfl
theorem ow113 : mx_own 113 = 10 := mx_mi_own mi113
theorem mm113 : mx_max 113 = 3 := mx_mi_max mi113
theorem rt113 : mx_ret 113 = (none : Option FieldType) := mx_mi_ret mi113
theorem hn113 : mx_hnd 113 = [] := mx_mi_hnd mi113
theorem n113_0 : mx_ins 113 0 = some ((.aload_n 0), 1) := mx_ins_of mi113 dX10_next_0 rfl
theorem u113_0 : ev d 113 0 lo st h = evS (mx_ldA 0) d 113 1 lo st h := ev_s n113_0 rfl rfl
theorem n113_1 : mx_ins 113 1 = some ((.aload_n 0), 1) := mx_ins_of mi113 dX10_next_1 rfl
theorem u113_1 : ev d 113 1 lo st h = evS (mx_ldA 0) d 113 2 lo st h := ev_s n113_1 rfl rfl
theorem n113_2 : mx_ins 113 2 = some ((.getfield 62), 3) := mx_ins_of mi113 dX10_next_2 rfl
theorem u113_2 : ev d 113 2 lo st h = evS (mx_gf 10 62) d 113 5 lo st h := ev_s n113_2 rfl rfl
theorem n113_5 : mx_ins 113 5 = some ((.putfield 51), 3) := mx_ins_of mi113 dX10_next_5 rfl
theorem u113_5 : ev d 113 5 lo st h = evS (mx_pf 10 51 false) d 113 8 lo st h := ev_s n113_5 rfl rfl
theorem n113_8 : mx_ins 113 8 = some ((.aload_n 0), 1) := mx_ins_of mi113 dX10_next_8 rfl
theorem u113_8 : ev d 113 8 lo st h = evS (mx_ldA 0) d 113 9 lo st h := ev_s n113_8 rfl rfl
theorem n113_9 : mx_ins 113 9 = some ((.getfield 51), 3) := mx_ins_of mi113 dX10_next_9 rfl
theorem u113_9 : ev d 113 9 lo st h = evS (mx_gf 10 51) d 113 12 lo st h := ev_s n113_9 rfl rfl
theorem n113_12 : mx_ins 113 12 = some ((.aload_n 0), 1) := mx_ins_of mi113 dX10_next_12 rfl
theorem u113_12 : ev d 113 12 lo st h = evS (mx_ldA 0) d 113 13 lo st h := ev_s n113_12 rfl rfl
theorem n113_13 : mx_ins 113 13 = some ((.getfield 55), 3) := mx_ins_of mi113 dX10_next_13 rfl
theorem u113_13 : ev d 113 13 lo st h = evS (mx_gf 10 55) d 113 16 lo st h := ev_s n113_13 rfl rfl
theorem n113_16 : mx_ins 113 16 = some ((.if_icmp .ge 30), 3) := mx_ins_of mi113 dX10_next_16 rfl
theorem u113_16 : ev d 113 16 lo st h = evK .ge d 113 46 19 lo st h := ev_ic n113_16 rfl rfl
theorem n113_19 : mx_ins 113 19 = some ((.aload_n 0), 1) := mx_ins_of mi113 dX10_next_19 rfl
theorem u113_19 : ev d 113 19 lo st h = evS (mx_ldA 0) d 113 20 lo st h := ev_s n113_19 rfl rfl
theorem n113_20 : mx_ins 113 20 = some ((.getfield 58), 3) := mx_ins_of mi113 dX10_next_20 rfl
theorem u113_20 : ev d 113 20 lo st h = evS (mx_gf 10 58) d 113 23 lo st h := ev_s n113_20 rfl rfl
theorem n113_23 : mx_ins 113 23 = some ((.aload_n 0), 1) := mx_ins_of mi113 dX10_next_23 rfl
theorem u113_23 : ev d 113 23 lo st h = evS (mx_ldA 0) d 113 24 lo st h := ev_s n113_23 rfl rfl
theorem n113_24 : mx_ins 113 24 = some ((.getfield 51), 3) := mx_ins_of mi113 dX10_next_24 rfl
theorem u113_24 : ev d 113 24 lo st h = evS (mx_gf 10 51) d 113 27 lo st h := ev_s n113_24 rfl rfl
theorem n113_27 : mx_ins 113 27 = some (.baload, 1) := mx_ins_of mi113 dX10_next_27 rfl
theorem u113_27 : ev d 113 27 lo st h = evI d 113 27 28 lo st h .baload := ev_u n113_27 rfl
theorem n113_28 : mx_ins 113 28 = some ((.bipush 32), 2) := mx_ins_of mi113 dX10_next_28 rfl
theorem u113_28 : ev d 113 28 lo st h = ev d 113 30 lo (.int 32 :: st) h := (ev_s (f := mx_push (.int 32)) n113_28 rfl rfl).trans es_push
theorem n113_30 : mx_ins 113 30 = some ((.if_icmp .ne 16), 3) := mx_ins_of mi113 dX10_next_30 rfl
theorem u113_30 : ev d 113 30 lo st h = evK .ne d 113 46 33 lo st h := ev_ic n113_30 rfl rfl
theorem n113_33 : mx_ins 113 33 = some ((.aload_n 0), 1) := mx_ins_of mi113 dX10_next_33 rfl
theorem u113_33 : ev d 113 33 lo st h = evS (mx_ldA 0) d 113 34 lo st h := ev_s n113_33 rfl rfl
theorem n113_34 : mx_ins 113 34 = some (.dup, 1) := mx_ins_of mi113 dX10_next_34 rfl
theorem u113_34 : ev d 113 34 lo st h = evI d 113 34 35 lo st h .dup := ev_u n113_34 rfl
theorem n113_35 : mx_ins 113 35 = some ((.getfield 51), 3) := mx_ins_of mi113 dX10_next_35 rfl
theorem u113_35 : ev d 113 35 lo st h = evS (mx_gf 10 51) d 113 38 lo st h := ev_s n113_35 rfl rfl
theorem n113_38 : mx_ins 113 38 = some ((.iconst 1), 1) := mx_ins_of mi113 dX10_next_38 rfl
theorem u113_38 : ev d 113 38 lo st h = ev d 113 39 lo (.int 1 :: st) h := (ev_s (f := mx_push (.int 1)) n113_38 rfl rfl).trans es_push
theorem n113_39 : mx_ins 113 39 = some (.iadd, 1) := mx_ins_of mi113 dX10_next_39 rfl
theorem u113_39 : ev d 113 39 lo st h = evI d 113 39 40 lo st h .iadd := ev_u n113_39 rfl
theorem n113_40 : mx_ins 113 40 = some ((.putfield 51), 3) := mx_ins_of mi113 dX10_next_40 rfl
theorem u113_40 : ev d 113 40 lo st h = evS (mx_pf 10 51 false) d 113 43 lo st h := ev_s n113_40 rfl rfl
theorem n113_43 : mx_ins 113 43 = some ((.goto (-35)), 3) := mx_ins_of mi113 dX10_next_43 rfl
theorem u113_43 : ev d 113 43 lo st h = ev d 113 8 lo st h := ev_goto n113_43 rfl
theorem n113_46 : mx_ins 113 46 = some ((.aload_n 0), 1) := mx_ins_of mi113 dX10_next_46 rfl
theorem u113_46 : ev d 113 46 lo st h = evS (mx_ldA 0) d 113 47 lo st h := ev_s n113_46 rfl rfl
theorem n113_47 : mx_ins 113 47 = some ((.aload_n 0), 1) := mx_ins_of mi113 dX10_next_47 rfl
theorem u113_47 : ev d 113 47 lo st h = evS (mx_ldA 0) d 113 48 lo st h := ev_s n113_47 rfl rfl
theorem n113_48 : mx_ins 113 48 = some ((.getfield 51), 3) := mx_ins_of mi113 dX10_next_48 rfl
theorem u113_48 : ev d 113 48 lo st h = evS (mx_gf 10 51) d 113 51 lo st h := ev_s n113_48 rfl rfl
theorem n113_51 : mx_ins 113 51 = some ((.aload_n 0), 1) := mx_ins_of mi113 dX10_next_51 rfl
theorem u113_51 : ev d 113 51 lo st h = evS (mx_ldA 0) d 113 52 lo st h := ev_s n113_51 rfl rfl
theorem n113_52 : mx_ins 113 52 = some ((.getfield 55), 3) := mx_ins_of mi113 dX10_next_52 rfl
theorem u113_52 : ev d 113 52 lo st h = evS (mx_gf 10 55) d 113 55 lo st h := ev_s n113_52 rfl rfl
theorem n113_55 : mx_ins 113 55 = some ((.if_icmp .ge 12), 3) := mx_ins_of mi113 dX10_next_55 rfl
theorem u113_55 : ev d 113 55 lo st h = evK .ge d 113 67 58 lo st h := ev_ic n113_55 rfl rfl
theorem n113_58 : mx_ins 113 58 = some ((.aload_n 0), 1) := mx_ins_of mi113 dX10_next_58 rfl
theorem u113_58 : ev d 113 58 lo st h = evS (mx_ldA 0) d 113 59 lo st h := ev_s n113_58 rfl rfl
theorem n113_59 : mx_ins 113 59 = some ((.getfield 51), 3) := mx_ins_of mi113 dX10_next_59 rfl
theorem u113_59 : ev d 113 59 lo st h = evS (mx_gf 10 51) d 113 62 lo st h := ev_s n113_59 rfl rfl
theorem n113_62 : mx_ins 113 62 = some ((.iconst 1), 1) := mx_ins_of mi113 dX10_next_62 rfl
theorem u113_62 : ev d 113 62 lo st h = ev d 113 63 lo (.int 1 :: st) h := (ev_s (f := mx_push (.int 1)) n113_62 rfl rfl).trans es_push
theorem n113_63 : mx_ins 113 63 = some (.iadd, 1) := mx_ins_of mi113 dX10_next_63 rfl
theorem u113_63 : ev d 113 63 lo st h = evI d 113 63 64 lo st h .iadd := ev_u n113_63 rfl
theorem n113_64 : mx_ins 113 64 = some ((.goto 7), 3) := mx_ins_of mi113 dX10_next_64 rfl
theorem u113_64 : ev d 113 64 lo st h = ev d 113 71 lo st h := ev_goto n113_64 rfl
theorem n113_67 : mx_ins 113 67 = some ((.aload_n 0), 1) := mx_ins_of mi113 dX10_next_67 rfl
theorem u113_67 : ev d 113 67 lo st h = evS (mx_ldA 0) d 113 68 lo st h := ev_s n113_67 rfl rfl
theorem n113_68 : mx_ins 113 68 = some ((.getfield 51), 3) := mx_ins_of mi113 dX10_next_68 rfl
theorem u113_68 : ev d 113 68 lo st h = evS (mx_gf 10 51) d 113 71 lo st h := ev_s n113_68 rfl rfl
theorem n113_71 : mx_ins 113 71 = some ((.putfield 62), 3) := mx_ins_of mi113 dX10_next_71 rfl
theorem u113_71 : ev d 113 71 lo st h = evS (mx_pf 10 62 false) d 113 74 lo st h := ev_s n113_71 rfl rfl
theorem n113_74 : mx_ins 113 74 = some ((.aload_n 0), 1) := mx_ins_of mi113 dX10_next_74 rfl
theorem u113_74 : ev d 113 74 lo st h = evS (mx_ldA 0) d 113 75 lo st h := ev_s n113_74 rfl rfl
theorem n113_75 : mx_ins 113 75 = some ((.invokevirtual 65), 3) := mx_ins_of mi113 dX10_next_75 rfl
theorem u113_75 : ev d 113 75 lo st h = evIn d 113 75 78 10 65 1 false lo st h := ev_inv n113_75 rfl rfl ow113 ia10_65
theorem n113_78 : mx_ins 113 78 = some ((.invokestatic 69), 3) := mx_ins_of mi113 dX10_next_78 rfl
theorem u113_78 : ev d 113 78 lo st h = evIn d 113 78 81 10 69 1 true lo st h := ev_inv n113_78 rfl rfl ow113 ia10_69
theorem n113_81 : mx_ins 113 81 = some ((.istore_n 1), 1) := mx_ins_of mi113 dX10_next_81 rfl
theorem u113_81 : ev d 113 81 lo st h = evS (mx_stI 1) d 113 82 lo st h := ev_s n113_81 rfl rfl
theorem n113_82 : mx_ins 113 82 = some ((.aload_n 0), 1) := mx_ins_of mi113 dX10_next_82 rfl
theorem u113_82 : ev d 113 82 lo st h = evS (mx_ldA 0) d 113 83 lo st h := ev_s n113_82 rfl rfl
theorem n113_83 : mx_ins 113 83 = some ((.invokevirtual 65), 3) := mx_ins_of mi113 dX10_next_83 rfl
theorem u113_83 : ev d 113 83 lo st h = evIn d 113 83 86 10 65 1 false lo st h := ev_inv n113_83 rfl rfl ow113 ia10_65
theorem n113_86 : mx_ins 113 86 = some ((.invokestatic 73), 3) := mx_ins_of mi113 dX10_next_86 rfl
theorem u113_86 : ev d 113 86 lo st h = evIn d 113 86 89 10 73 1 true lo st h := ev_inv n113_86 rfl rfl ow113 ia10_73
theorem n113_89 : mx_ins 113 89 = some ((.istore_n 2), 1) := mx_ins_of mi113 dX10_next_89 rfl
theorem u113_89 : ev d 113 89 lo st h = evS (mx_stI 2) d 113 90 lo st h := ev_s n113_89 rfl rfl
theorem n113_90 : mx_ins 113 90 = some ((.aload_n 0), 1) := mx_ins_of mi113 dX10_next_90 rfl
theorem u113_90 : ev d 113 90 lo st h = evS (mx_ldA 0) d 113 91 lo st h := ev_s n113_90 rfl rfl
theorem n113_91 : mx_ins 113 91 = some ((.getfield 62), 3) := mx_ins_of mi113 dX10_next_91 rfl
theorem u113_91 : ev d 113 91 lo st h = evS (mx_gf 10 62) d 113 94 lo st h := ev_s n113_91 rfl rfl
theorem n113_94 : mx_ins 113 94 = some ((.aload_n 0), 1) := mx_ins_of mi113 dX10_next_94 rfl
theorem u113_94 : ev d 113 94 lo st h = evS (mx_ldA 0) d 113 95 lo st h := ev_s n113_94 rfl rfl
theorem n113_95 : mx_ins 113 95 = some ((.getfield 55), 3) := mx_ins_of mi113 dX10_next_95 rfl
theorem u113_95 : ev d 113 95 lo st h = evS (mx_gf 10 55) d 113 98 lo st h := ev_s n113_95 rfl rfl
theorem n113_98 : mx_ins 113 98 = some ((.if_icmp .ge 54), 3) := mx_ins_of mi113 dX10_next_98 rfl
theorem u113_98 : ev d 113 98 lo st h = evK .ge d 113 152 101 lo st h := ev_ic n113_98 rfl rfl
theorem n113_101 : mx_ins 113 101 = some ((.iload_n 1), 1) := mx_ins_of mi113 dX10_next_101 rfl
theorem u113_101 : ev d 113 101 lo st h = evS (mx_ldI 1) d 113 102 lo st h := ev_s n113_101 rfl rfl
theorem n113_102 : mx_ins 113 102 = some ((.ifCond .eq 18), 3) := mx_ins_of mi113 dX10_next_102 rfl
theorem u113_102 : ev d 113 102 lo st h = evJ .eq d 113 120 105 lo st h := ev_if n113_102 rfl rfl
theorem n113_105 : mx_ins 113 105 = some ((.aload_n 0), 1) := mx_ins_of mi113 dX10_next_105 rfl
theorem u113_105 : ev d 113 105 lo st h = evS (mx_ldA 0) d 113 106 lo st h := ev_s n113_105 rfl rfl
theorem n113_106 : mx_ins 113 106 = some ((.getfield 58), 3) := mx_ins_of mi113 dX10_next_106 rfl
theorem u113_106 : ev d 113 106 lo st h = evS (mx_gf 10 58) d 113 109 lo st h := ev_s n113_106 rfl rfl
theorem n113_109 : mx_ins 113 109 = some ((.aload_n 0), 1) := mx_ins_of mi113 dX10_next_109 rfl
theorem u113_109 : ev d 113 109 lo st h = evS (mx_ldA 0) d 113 110 lo st h := ev_s n113_109 rfl rfl
theorem n113_110 : mx_ins 113 110 = some ((.getfield 62), 3) := mx_ins_of mi113 dX10_next_110 rfl
theorem u113_110 : ev d 113 110 lo st h = evS (mx_gf 10 62) d 113 113 lo st h := ev_s n113_110 rfl rfl
theorem n113_113 : mx_ins 113 113 = some (.baload, 1) := mx_ins_of mi113 dX10_next_113 rfl
theorem u113_113 : ev d 113 113 lo st h = evI d 113 113 114 lo st h .baload := ev_u n113_113 rfl
theorem n113_114 : mx_ins 113 114 = some ((.invokestatic 69), 3) := mx_ins_of mi113 dX10_next_114 rfl
theorem u113_114 : ev d 113 114 lo st h = evIn d 113 114 117 10 69 1 true lo st h := ev_inv n113_114 rfl rfl ow113 ia10_69
theorem n113_117 : mx_ins 113 117 = some ((.ifCond .ne 22), 3) := mx_ins_of mi113 dX10_next_117 rfl
theorem u113_117 : ev d 113 117 lo st h = evJ .ne d 113 139 120 lo st h := ev_if n113_117 rfl rfl
theorem n113_120 : mx_ins 113 120 = some ((.iload_n 2), 1) := mx_ins_of mi113 dX10_next_120 rfl
theorem u113_120 : ev d 113 120 lo st h = evS (mx_ldI 2) d 113 121 lo st h := ev_s n113_120 rfl rfl
theorem n113_121 : mx_ins 113 121 = some ((.ifCond .eq 31), 3) := mx_ins_of mi113 dX10_next_121 rfl
theorem u113_121 : ev d 113 121 lo st h = evJ .eq d 113 152 124 lo st h := ev_if n113_121 rfl rfl
theorem n113_124 : mx_ins 113 124 = some ((.aload_n 0), 1) := mx_ins_of mi113 dX10_next_124 rfl
theorem u113_124 : ev d 113 124 lo st h = evS (mx_ldA 0) d 113 125 lo st h := ev_s n113_124 rfl rfl
theorem n113_125 : mx_ins 113 125 = some ((.getfield 58), 3) := mx_ins_of mi113 dX10_next_125 rfl
theorem u113_125 : ev d 113 125 lo st h = evS (mx_gf 10 58) d 113 128 lo st h := ev_s n113_125 rfl rfl
theorem n113_128 : mx_ins 113 128 = some ((.aload_n 0), 1) := mx_ins_of mi113 dX10_next_128 rfl
theorem u113_128 : ev d 113 128 lo st h = evS (mx_ldA 0) d 113 129 lo st h := ev_s n113_128 rfl rfl
theorem n113_129 : mx_ins 113 129 = some ((.getfield 62), 3) := mx_ins_of mi113 dX10_next_129 rfl
theorem u113_129 : ev d 113 129 lo st h = evS (mx_gf 10 62) d 113 132 lo st h := ev_s n113_129 rfl rfl
theorem n113_132 : mx_ins 113 132 = some (.baload, 1) := mx_ins_of mi113 dX10_next_132 rfl
theorem u113_132 : ev d 113 132 lo st h = evI d 113 132 133 lo st h .baload := ev_u n113_132 rfl
theorem n113_133 : mx_ins 113 133 = some ((.invokestatic 73), 3) := mx_ins_of mi113 dX10_next_133 rfl
theorem u113_133 : ev d 113 133 lo st h = evIn d 113 133 136 10 73 1 true lo st h := ev_inv n113_133 rfl rfl ow113 ia10_73
theorem n113_136 : mx_ins 113 136 = some ((.ifCond .eq 16), 3) := mx_ins_of mi113 dX10_next_136 rfl
theorem u113_136 : ev d 113 136 lo st h = evJ .eq d 113 152 139 lo st h := ev_if n113_136 rfl rfl
theorem n113_139 : mx_ins 113 139 = some ((.aload_n 0), 1) := mx_ins_of mi113 dX10_next_139 rfl
theorem u113_139 : ev d 113 139 lo st h = evS (mx_ldA 0) d 113 140 lo st h := ev_s n113_139 rfl rfl
theorem n113_140 : mx_ins 113 140 = some (.dup, 1) := mx_ins_of mi113 dX10_next_140 rfl
theorem u113_140 : ev d 113 140 lo st h = evI d 113 140 141 lo st h .dup := ev_u n113_140 rfl
theorem n113_141 : mx_ins 113 141 = some ((.getfield 62), 3) := mx_ins_of mi113 dX10_next_141 rfl
theorem u113_141 : ev d 113 141 lo st h = evS (mx_gf 10 62) d 113 144 lo st h := ev_s n113_141 rfl rfl
theorem n113_144 : mx_ins 113 144 = some ((.iconst 1), 1) := mx_ins_of mi113 dX10_next_144 rfl
theorem u113_144 : ev d 113 144 lo st h = ev d 113 145 lo (.int 1 :: st) h := (ev_s (f := mx_push (.int 1)) n113_144 rfl rfl).trans es_push
theorem n113_145 : mx_ins 113 145 = some (.iadd, 1) := mx_ins_of mi113 dX10_next_145 rfl
theorem u113_145 : ev d 113 145 lo st h = evI d 113 145 146 lo st h .iadd := ev_u n113_145 rfl
theorem n113_146 : mx_ins 113 146 = some ((.putfield 62), 3) := mx_ins_of mi113 dX10_next_146 rfl
theorem u113_146 : ev d 113 146 lo st h = evS (mx_pf 10 62 false) d 113 149 lo st h := ev_s n113_146 rfl rfl
theorem n113_149 : mx_ins 113 149 = some ((.goto (-59)), 3) := mx_ins_of mi113 dX10_next_149 rfl
theorem u113_149 : ev d 113 149 lo st h = ev d 113 90 lo st h := ev_goto n113_149 rfl
theorem n113_152 : mx_ins 113 152 = some (.return_, 1) := mx_ins_of mi113 dX10_next_152 rfl
theorem u113_152 : ev d 113 152 lo st h = evI d 113 152 153 lo st h .return_ := ev_u n113_152 rfl
theorem mi114 : mx_mi 114 = some (yX10_here, cX10_here, 1, (Option.some Jvm.ClassFile.FieldType.int), 10, 1, []) := rfl
theorem ow114 : mx_own 114 = 10 := mx_mi_own mi114
theorem mm114 : mx_max 114 = 1 := mx_mi_max mi114
theorem rt114 : mx_ret 114 = (Option.some Jvm.ClassFile.FieldType.int) := mx_mi_ret mi114
theorem hn114 : mx_hnd 114 = [] := mx_mi_hnd mi114
theorem n114_0 : mx_ins 114 0 = some ((.aload_n 0), 1) := mx_ins_of mi114 dX10_here_0 rfl
theorem u114_0 : ev d 114 0 lo st h = evS (mx_ldA 0) d 114 1 lo st h := ev_s n114_0 rfl rfl
theorem n114_1 : mx_ins 114 1 = some ((.getfield 51), 3) := mx_ins_of mi114 dX10_here_1 rfl
theorem u114_1 : ev d 114 1 lo st h = evS (mx_gf 10 51) d 114 4 lo st h := ev_s n114_1 rfl rfl
theorem n114_4 : mx_ins 114 4 = some ((.aload_n 0), 1) := mx_ins_of mi114 dX10_here_4 rfl
theorem u114_4 : ev d 114 4 lo st h = evS (mx_ldA 0) d 114 5 lo st h := ev_s n114_4 rfl rfl
theorem n114_5 : mx_ins 114 5 = some ((.getfield 55), 3) := mx_ins_of mi114 dX10_here_5 rfl
theorem u114_5 : ev d 114 5 lo st h = evS (mx_gf 10 55) d 114 8 lo st h := ev_s n114_5 rfl rfl
theorem n114_8 : mx_ins 114 8 = some ((.if_icmp .ge 15), 3) := mx_ins_of mi114 dX10_here_8 rfl
theorem u114_8 : ev d 114 8 lo st h = evK .ge d 114 23 11 lo st h := ev_ic n114_8 rfl rfl
theorem n114_11 : mx_ins 114 11 = some ((.aload_n 0), 1) := mx_ins_of mi114 dX10_here_11 rfl
theorem u114_11 : ev d 114 11 lo st h = evS (mx_ldA 0) d 114 12 lo st h := ev_s n114_11 rfl rfl
theorem n114_12 : mx_ins 114 12 = some ((.getfield 58), 3) := mx_ins_of mi114 dX10_here_12 rfl
theorem u114_12 : ev d 114 12 lo st h = evS (mx_gf 10 58) d 114 15 lo st h := ev_s n114_12 rfl rfl
theorem n114_15 : mx_ins 114 15 = some ((.aload_n 0), 1) := mx_ins_of mi114 dX10_here_15 rfl
theorem u114_15 : ev d 114 15 lo st h = evS (mx_ldA 0) d 114 16 lo st h := ev_s n114_15 rfl rfl
theorem n114_16 : mx_ins 114 16 = some ((.getfield 51), 3) := mx_ins_of mi114 dX10_here_16 rfl
theorem u114_16 : ev d 114 16 lo st h = evS (mx_gf 10 51) d 114 19 lo st h := ev_s n114_16 rfl rfl
theorem n114_19 : mx_ins 114 19 = some (.baload, 1) := mx_ins_of mi114 dX10_here_19 rfl
theorem u114_19 : ev d 114 19 lo st h = evI d 114 19 20 lo st h .baload := ev_u n114_19 rfl
theorem n114_20 : mx_ins 114 20 = some ((.goto 4), 3) := mx_ins_of mi114 dX10_here_20 rfl
theorem u114_20 : ev d 114 20 lo st h = ev d 114 24 lo st h := ev_goto n114_20 rfl
theorem n114_23 : mx_ins 114 23 = some ((.iconst (-1)), 1) := mx_ins_of mi114 dX10_here_23 rfl
theorem u114_23 : ev d 114 23 lo st h = ev d 114 24 lo (.int (-1) :: st) h := (ev_s (f := mx_push (.int (-1))) n114_23 rfl rfl).trans es_push
theorem n114_24 : mx_ins 114 24 = some (.ireturn, 1) := mx_ins_of mi114 dX10_here_24 rfl
theorem u114_24 : ev d 114 24 lo st h = evI d 114 24 25 lo st h .ireturn := ev_u n114_24 rfl
theorem mi115 : mx_mi 115 = some (yX10_isLetter, cX10_isLetter, 1, (Option.some Jvm.ClassFile.FieldType.boolean), 10, 1, []) := rfl
theorem ow115 : mx_own 115 = 10 := mx_mi_own mi115
theorem mm115 : mx_max 115 = 1 := mx_mi_max mi115
theorem rt115 : mx_ret 115 = (Option.some Jvm.ClassFile.FieldType.boolean) := mx_mi_ret mi115
theorem hn115 : mx_hnd 115 = [] := mx_mi_hnd mi115
theorem n115_0 : mx_ins 115 0 = some ((.iload_n 0), 1) := mx_ins_of mi115 dX10_isLetter_0 rfl
theorem u115_0 : ev d 115 0 lo st h = evS (mx_ldI 0) d 115 1 lo st h := ev_s n115_0 rfl rfl
theorem n115_1 : mx_ins 115 1 = some ((.bipush 97), 2) := mx_ins_of mi115 dX10_isLetter_1 rfl
theorem u115_1 : ev d 115 1 lo st h = ev d 115 3 lo (.int 97 :: st) h := (ev_s (f := mx_push (.int 97)) n115_1 rfl rfl).trans es_push
theorem n115_3 : mx_ins 115 3 = some ((.if_icmp .lt 13), 3) := mx_ins_of mi115 dX10_isLetter_3 rfl
theorem u115_3 : ev d 115 3 lo st h = evK .lt d 115 16 6 lo st h := ev_ic n115_3 rfl rfl
theorem n115_6 : mx_ins 115 6 = some ((.iload_n 0), 1) := mx_ins_of mi115 dX10_isLetter_6 rfl
theorem u115_6 : ev d 115 6 lo st h = evS (mx_ldI 0) d 115 7 lo st h := ev_s n115_6 rfl rfl
theorem n115_7 : mx_ins 115 7 = some ((.bipush 122), 2) := mx_ins_of mi115 dX10_isLetter_7 rfl
theorem u115_7 : ev d 115 7 lo st h = ev d 115 9 lo (.int 122 :: st) h := (ev_s (f := mx_push (.int 122)) n115_7 rfl rfl).trans es_push
theorem n115_9 : mx_ins 115 9 = some ((.if_icmp .gt 7), 3) := mx_ins_of mi115 dX10_isLetter_9 rfl
theorem u115_9 : ev d 115 9 lo st h = evK .gt d 115 16 12 lo st h := ev_ic n115_9 rfl rfl
theorem n115_12 : mx_ins 115 12 = some ((.iconst 1), 1) := mx_ins_of mi115 dX10_isLetter_12 rfl
theorem u115_12 : ev d 115 12 lo st h = ev d 115 13 lo (.int 1 :: st) h := (ev_s (f := mx_push (.int 1)) n115_12 rfl rfl).trans es_push
theorem n115_13 : mx_ins 115 13 = some ((.goto 4), 3) := mx_ins_of mi115 dX10_isLetter_13 rfl
theorem u115_13 : ev d 115 13 lo st h = ev d 115 17 lo st h := ev_goto n115_13 rfl
theorem n115_16 : mx_ins 115 16 = some ((.iconst 0), 1) := mx_ins_of mi115 dX10_isLetter_16 rfl
theorem u115_16 : ev d 115 16 lo st h = ev d 115 17 lo (.int 0 :: st) h := (ev_s (f := mx_push (.int 0)) n115_16 rfl rfl).trans es_push
theorem n115_17 : mx_ins 115 17 = some (.ireturn, 1) := mx_ins_of mi115 dX10_isLetter_17 rfl
theorem u115_17 : ev d 115 17 lo st h = evI d 115 17 18 lo st h .ireturn := ev_u n115_17 rfl
theorem mi116 : mx_mi 116 = some (yX10_isDigit, cX10_isDigit, 1, (Option.some Jvm.ClassFile.FieldType.boolean), 10, 1, []) := rfl
theorem ow116 : mx_own 116 = 10 := mx_mi_own mi116
theorem mm116 : mx_max 116 = 1 := mx_mi_max mi116
theorem rt116 : mx_ret 116 = (Option.some Jvm.ClassFile.FieldType.boolean) := mx_mi_ret mi116
theorem hn116 : mx_hnd 116 = [] := mx_mi_hnd mi116
theorem n116_0 : mx_ins 116 0 = some ((.iload_n 0), 1) := mx_ins_of mi116 dX10_isDigit_0 rfl
theorem u116_0 : ev d 116 0 lo st h = evS (mx_ldI 0) d 116 1 lo st h := ev_s n116_0 rfl rfl
theorem n116_1 : mx_ins 116 1 = some ((.bipush 48), 2) := mx_ins_of mi116 dX10_isDigit_1 rfl
theorem u116_1 : ev d 116 1 lo st h = ev d 116 3 lo (.int 48 :: st) h := (ev_s (f := mx_push (.int 48)) n116_1 rfl rfl).trans es_push
theorem n116_3 : mx_ins 116 3 = some ((.if_icmp .lt 13), 3) := mx_ins_of mi116 dX10_isDigit_3 rfl
theorem u116_3 : ev d 116 3 lo st h = evK .lt d 116 16 6 lo st h := ev_ic n116_3 rfl rfl
theorem n116_6 : mx_ins 116 6 = some ((.iload_n 0), 1) := mx_ins_of mi116 dX10_isDigit_6 rfl
theorem u116_6 : ev d 116 6 lo st h = evS (mx_ldI 0) d 116 7 lo st h := ev_s n116_6 rfl rfl
theorem n116_7 : mx_ins 116 7 = some ((.bipush 57), 2) := mx_ins_of mi116 dX10_isDigit_7 rfl
theorem u116_7 : ev d 116 7 lo st h = ev d 116 9 lo (.int 57 :: st) h := (ev_s (f := mx_push (.int 57)) n116_7 rfl rfl).trans es_push
theorem n116_9 : mx_ins 116 9 = some ((.if_icmp .gt 7), 3) := mx_ins_of mi116 dX10_isDigit_9 rfl
theorem u116_9 : ev d 116 9 lo st h = evK .gt d 116 16 12 lo st h := ev_ic n116_9 rfl rfl
theorem n116_12 : mx_ins 116 12 = some ((.iconst 1), 1) := mx_ins_of mi116 dX10_isDigit_12 rfl
theorem u116_12 : ev d 116 12 lo st h = ev d 116 13 lo (.int 1 :: st) h := (ev_s (f := mx_push (.int 1)) n116_12 rfl rfl).trans es_push
theorem n116_13 : mx_ins 116 13 = some ((.goto 4), 3) := mx_ins_of mi116 dX10_isDigit_13 rfl
theorem u116_13 : ev d 116 13 lo st h = ev d 116 17 lo st h := ev_goto n116_13 rfl
theorem n116_16 : mx_ins 116 16 = some ((.iconst 0), 1) := mx_ins_of mi116 dX10_isDigit_16 rfl
theorem u116_16 : ev d 116 16 lo st h = ev d 116 17 lo (.int 0 :: st) h := (ev_s (f := mx_push (.int 0)) n116_16 rfl rfl).trans es_push
theorem n116_17 : mx_ins 116 17 = some (.ireturn, 1) := mx_ins_of mi116 dX10_isDigit_17 rfl
theorem u116_17 : ev d 116 17 lo st h = evI d 116 17 18 lo st h .ireturn := ev_u n116_17 rfl
theorem mi117 : mx_mi 117 = some (yX10_clause, cX10_clause, 2, (none : Option FieldType), 10, 1, []) := rfl
theorem ow117 : mx_own 117 = 10 := mx_mi_own mi117
theorem mm117 : mx_max 117 = 2 := mx_mi_max mi117
theorem rt117 : mx_ret 117 = (none : Option FieldType) := mx_mi_ret mi117
theorem hn117 : mx_hnd 117 = [] := mx_mi_hnd mi117
theorem n117_0 : mx_ins 117 0 = some ((.iconst 0), 1) := mx_ins_of mi117 dX10_clause_0 rfl
theorem u117_0 : ev d 117 0 lo st h = ev d 117 1 lo (.int 0 :: st) h := (ev_s (f := mx_push (.int 0)) n117_0 rfl rfl).trans es_push
theorem n117_1 : mx_ins 117 1 = some ((.istore_n 1), 1) := mx_ins_of mi117 dX10_clause_1 rfl
theorem u117_1 : ev d 117 1 lo st h = evS (mx_stI 1) d 117 2 lo st h := ev_s n117_1 rfl rfl
theorem n117_2 : mx_ins 117 2 = some ((.iload_n 1), 1) := mx_ins_of mi117 dX10_clause_2 rfl
theorem u117_2 : ev d 117 2 lo st h = evS (mx_ldI 1) d 117 3 lo st h := ev_s n117_2 rfl rfl
theorem n117_3 : mx_ins 117 3 = some ((.iconst 4), 1) := mx_ins_of mi117 dX10_clause_3 rfl
theorem u117_3 : ev d 117 3 lo st h = ev d 117 4 lo (.int 4 :: st) h := (ev_s (f := mx_push (.int 4)) n117_3 rfl rfl).trans es_push
theorem n117_4 : mx_ins 117 4 = some ((.if_icmp .ge 22), 3) := mx_ins_of mi117 dX10_clause_4 rfl
theorem u117_4 : ev d 117 4 lo st h = evK .ge d 117 26 7 lo st h := ev_ic n117_4 rfl rfl
theorem n117_7 : mx_ins 117 7 = some ((.aload_n 0), 1) := mx_ins_of mi117 dX10_clause_7 rfl
theorem u117_7 : ev d 117 7 lo st h = evS (mx_ldA 0) d 117 8 lo st h := ev_s n117_7 rfl rfl
theorem n117_8 : mx_ins 117 8 = some ((.aload_n 0), 1) := mx_ins_of mi117 dX10_clause_8 rfl
theorem u117_8 : ev d 117 8 lo st h = evS (mx_ldA 0) d 117 9 lo st h := ev_s n117_8 rfl rfl
theorem n117_9 : mx_ins 117 9 = some ((.getfield 37), 3) := mx_ins_of mi117 dX10_clause_9 rfl
theorem u117_9 : ev d 117 9 lo st h = evS (mx_gf 10 37) d 117 12 lo st h := ev_s n117_9 rfl rfl
theorem n117_12 : mx_ins 117 12 = some ((.iload_n 1), 1) := mx_ins_of mi117 dX10_clause_12 rfl
theorem u117_12 : ev d 117 12 lo st h = evS (mx_ldI 1) d 117 13 lo st h := ev_s n117_12 rfl rfl
theorem n117_13 : mx_ins 117 13 = some (.aaload, 1) := mx_ins_of mi117 dX10_clause_13 rfl
theorem u117_13 : ev d 117 13 lo st h = evI d 117 13 14 lo st h .aaload := ev_u n117_13 rfl
theorem n117_14 : mx_ins 117 14 = some ((.invokevirtual 87), 3) := mx_ins_of mi117 dX10_clause_14 rfl
theorem u117_14 : ev d 117 14 lo st h = evIn d 117 14 17 10 87 2 false lo st h := ev_inv n117_14 rfl rfl ow117 ia10_87
theorem n117_17 : mx_ins 117 17 = some ((.ifCond .ne 9), 3) := mx_ins_of mi117 dX10_clause_17 rfl
theorem u117_17 : ev d 117 17 lo st h = evJ .ne d 117 26 20 lo st h := ev_if n117_17 rfl rfl
theorem n117_20 : mx_ins 117 20 = some ((.iinc 1 1), 3) := mx_ins_of mi117 dX10_clause_20 rfl
theorem u117_20 : ev d 117 20 lo st h = evS (mx_inc 1 (1)) d 117 23 lo st h := ev_s n117_20 rfl rfl
theorem n117_23 : mx_ins 117 23 = some ((.goto (-21)), 3) := mx_ins_of mi117 dX10_clause_23 rfl
theorem u117_23 : ev d 117 23 lo st h = ev d 117 2 lo st h := ev_goto n117_23 rfl
theorem n117_26 : mx_ins 117 26 = some ((.aload_n 0), 1) := mx_ins_of mi117 dX10_clause_26 rfl
theorem u117_26 : ev d 117 26 lo st h = evS (mx_ldA 0) d 117 27 lo st h := ev_s n117_26 rfl rfl
theorem n117_27 : mx_ins 117 27 = some ((.iload_n 1), 1) := mx_ins_of mi117 dX10_clause_27 rfl
theorem u117_27 : ev d 117 27 lo st h = evS (mx_ldI 1) d 117 28 lo st h := ev_s n117_27 rfl rfl
theorem n117_28 : mx_ins 117 28 = some ((.iconst 4), 1) := mx_ins_of mi117 dX10_clause_28 rfl
theorem u117_28 : ev d 117 28 lo st h = ev d 117 29 lo (.int 4 :: st) h := (ev_s (f := mx_push (.int 4)) n117_28 rfl rfl).trans es_push
theorem n117_29 : mx_ins 117 29 = some ((.if_icmp .lt 12), 3) := mx_ins_of mi117 dX10_clause_29 rfl
theorem u117_29 : ev d 117 29 lo st h = evK .lt d 117 41 32 lo st h := ev_ic n117_29 rfl rfl
theorem n117_32 : mx_ins 117 32 = some ((.aload_n 0), 1) := mx_ins_of mi117 dX10_clause_32 rfl
theorem u117_32 : ev d 117 32 lo st h = evS (mx_ldA 0) d 117 33 lo st h := ev_s n117_32 rfl rfl
theorem n117_33 : mx_ins 117 33 = some ((.ldc 160), 2) := mx_ins_of mi117 dX10_clause_33 rfl
theorem u117_33 : ev d 117 33 lo st h = ev d 117 35 lo (.float 15 :: st) h := (ev_s (f := mx_push (.float 15)) n117_33 rfl rfl).trans es_push
theorem n117_35 : mx_ins 117 35 = some ((.invokevirtual 87), 3) := mx_ins_of mi117 dX10_clause_35 rfl
theorem u117_35 : ev d 117 35 lo st h = evIn d 117 35 38 10 87 2 false lo st h := ev_inv n117_35 rfl rfl ow117 ia10_87
theorem n117_38 : mx_ins 117 38 = some ((.ifCond .eq 19), 3) := mx_ins_of mi117 dX10_clause_38 rfl
theorem u117_38 : ev d 117 38 lo st h = evJ .eq d 117 57 41 lo st h := ev_if n117_38 rfl rfl
theorem n117_41 : mx_ins 117 41 = some ((.aload_n 0), 1) := mx_ins_of mi117 dX10_clause_41 rfl
theorem u117_41 : ev d 117 41 lo st h = evS (mx_ldA 0) d 117 42 lo st h := ev_s n117_41 rfl rfl
theorem n117_42 : mx_ins 117 42 = some ((.getfield 47), 3) := mx_ins_of mi117 dX10_clause_42 rfl
theorem u117_42 : ev d 117 42 lo st h = evS (mx_gf 10 47) d 117 45 lo st h := ev_s n117_42 rfl rfl
theorem n117_45 : mx_ins 117 45 = some ((.getfield 162), 3) := mx_ins_of mi117 dX10_clause_45 rfl
theorem u117_45 : ev d 117 45 lo st h = evS (mx_gf 10 162) d 117 48 lo st h := ev_s n117_45 rfl rfl
theorem n117_48 : mx_ins 117 48 = some ((.bipush 8), 2) := mx_ins_of mi117 dX10_clause_48 rfl
theorem u117_48 : ev d 117 48 lo st h = ev d 117 50 lo (.int 8 :: st) h := (ev_s (f := mx_push (.int 8)) n117_48 rfl rfl).trans es_push
theorem n117_50 : mx_ins 117 50 = some ((.if_icmp .ge 7), 3) := mx_ins_of mi117 dX10_clause_50 rfl
theorem u117_50 : ev d 117 50 lo st h = evK .ge d 117 57 53 lo st h := ev_ic n117_50 rfl rfl
theorem n117_53 : mx_ins 117 53 = some ((.iconst 1), 1) := mx_ins_of mi117 dX10_clause_53 rfl
theorem u117_53 : ev d 117 53 lo st h = ev d 117 54 lo (.int 1 :: st) h := (ev_s (f := mx_push (.int 1)) n117_53 rfl rfl).trans es_push
theorem n117_54 : mx_ins 117 54 = some ((.goto 4), 3) := mx_ins_of mi117 dX10_clause_54 rfl
theorem u117_54 : ev d 117 54 lo st h = ev d 117 58 lo st h := ev_goto n117_54 rfl
theorem n117_57 : mx_ins 117 57 = some ((.iconst 0), 1) := mx_ins_of mi117 dX10_clause_57 rfl
theorem u117_57 : ev d 117 57 lo st h = ev d 117 58 lo (.int 0 :: st) h := (ev_s (f := mx_push (.int 0)) n117_57 rfl rfl).trans es_push
theorem n117_58 : mx_ins 117 58 = some ((.invokevirtual 94), 3) := mx_ins_of mi117 dX10_clause_58 rfl
theorem u117_58 : ev d 117 58 lo st h = evIn d 117 58 61 10 94 2 false lo st h := ev_inv n117_58 rfl rfl ow117 ia10_94
theorem n117_61 : mx_ins 117 61 = some ((.aload_n 0), 1) := mx_ins_of mi117 dX10_clause_61 rfl
theorem u117_61 : ev d 117 61 lo st h = evS (mx_ldA 0) d 117 62 lo st h := ev_s n117_61 rfl rfl
theorem n117_62 : mx_ins 117 62 = some ((.invokevirtual 91), 3) := mx_ins_of mi117 dX10_clause_62 rfl
theorem u117_62 : ev d 117 62 lo st h = evIn d 117 62 65 10 91 1 false lo st h := ev_inv n117_62 rfl rfl ow117 ia10_91
theorem n117_65 : mx_ins 117 65 = some ((.aload_n 0), 1) := mx_ins_of mi117 dX10_clause_65 rfl
theorem u117_65 : ev d 117 65 lo st h = evS (mx_ldA 0) d 117 66 lo st h := ev_s n117_65 rfl rfl
theorem n117_66 : mx_ins 117 66 = some ((.ldc 167), 2) := mx_ins_of mi117 dX10_clause_66 rfl
theorem u117_66 : ev d 117 66 lo st h = ev d 117 68 lo (.float 16 :: st) h := (ev_s (f := mx_push (.float 16)) n117_66 rfl rfl).trans es_push
theorem n117_68 : mx_ins 117 68 = some ((.invokevirtual 125), 3) := mx_ins_of mi117 dX10_clause_68 rfl
theorem u117_68 : ev d 117 68 lo st h = evIn d 117 68 71 10 125 2 false lo st h := ev_inv n117_68 rfl rfl ow117 ia10_125
theorem n117_71 : mx_ins 117 71 = some ((.aload_n 0), 1) := mx_ins_of mi117 dX10_clause_71 rfl
theorem u117_71 : ev d 117 71 lo st h = evS (mx_ldA 0) d 117 72 lo st h := ev_s n117_71 rfl rfl
theorem n117_72 : mx_ins 117 72 = some ((.getfield 47), 3) := mx_ins_of mi117 dX10_clause_72 rfl
theorem u117_72 : ev d 117 72 lo st h = evS (mx_gf 10 47) d 117 75 lo st h := ev_s n117_72 rfl rfl
theorem n117_75 : mx_ins 117 75 = some ((.getfield 169), 3) := mx_ins_of mi117 dX10_clause_75 rfl
theorem u117_75 : ev d 117 75 lo st h = evS (mx_gf 10 169) d 117 78 lo st h := ev_s n117_75 rfl rfl
theorem n117_78 : mx_ins 117 78 = some ((.aload_n 0), 1) := mx_ins_of mi117 dX10_clause_78 rfl
theorem u117_78 : ev d 117 78 lo st h = evS (mx_ldA 0) d 117 79 lo st h := ev_s n117_78 rfl rfl
theorem n117_79 : mx_ins 117 79 = some ((.getfield 47), 3) := mx_ins_of mi117 dX10_clause_79 rfl
theorem u117_79 : ev d 117 79 lo st h = evS (mx_gf 10 47) d 117 82 lo st h := ev_s n117_79 rfl rfl
theorem n117_82 : mx_ins 117 82 = some ((.getfield 162), 3) := mx_ins_of mi117 dX10_clause_82 rfl
theorem u117_82 : ev d 117 82 lo st h = evS (mx_gf 10 162) d 117 85 lo st h := ev_s n117_82 rfl rfl
theorem n117_85 : mx_ins 117 85 = some ((.iload_n 1), 1) := mx_ins_of mi117 dX10_clause_85 rfl
theorem u117_85 : ev d 117 85 lo st h = evS (mx_ldI 1) d 117 86 lo st h := ev_s n117_85 rfl rfl
theorem n117_86 : mx_ins 117 86 = some ((.iconst 4), 1) := mx_ins_of mi117 dX10_clause_86 rfl
theorem u117_86 : ev d 117 86 lo st h = ev d 117 87 lo (.int 4 :: st) h := (ev_s (f := mx_push (.int 4)) n117_86 rfl rfl).trans es_push
theorem n117_87 : mx_ins 117 87 = some ((.if_icmp .ge 7), 3) := mx_ins_of mi117 dX10_clause_87 rfl
theorem u117_87 : ev d 117 87 lo st h = evK .ge d 117 94 90 lo st h := ev_ic n117_87 rfl rfl
theorem n117_90 : mx_ins 117 90 = some ((.iload_n 1), 1) := mx_ins_of mi117 dX10_clause_90 rfl
theorem u117_90 : ev d 117 90 lo st h = evS (mx_ldI 1) d 117 91 lo st h := ev_s n117_90 rfl rfl
theorem n117_91 : mx_ins 117 91 = some ((.goto 4), 3) := mx_ins_of mi117 dX10_clause_91 rfl
theorem u117_91 : ev d 117 91 lo st h = ev d 117 95 lo st h := ev_goto n117_91 rfl
theorem n117_94 : mx_ins 117 94 = some ((.iconst (-1)), 1) := mx_ins_of mi117 dX10_clause_94 rfl
theorem u117_94 : ev d 117 94 lo st h = ev d 117 95 lo (.int (-1) :: st) h := (ev_s (f := mx_push (.int (-1))) n117_94 rfl rfl).trans es_push
theorem n117_95 : mx_ins 117 95 = some (.iastore, 1) := mx_ins_of mi117 dX10_clause_95 rfl
theorem u117_95 : ev d 117 95 lo st h = evI d 117 95 96 lo st h .iastore := ev_u n117_95 rfl
theorem n117_96 : mx_ins 117 96 = some ((.aload_n 0), 1) := mx_ins_of mi117 dX10_clause_96 rfl
theorem u117_96 : ev d 117 96 lo st h = evS (mx_ldA 0) d 117 97 lo st h := ev_s n117_96 rfl rfl
theorem n117_97 : mx_ins 117 97 = some ((.getfield 47), 3) := mx_ins_of mi117 dX10_clause_97 rfl
theorem u117_97 : ev d 117 97 lo st h = evS (mx_gf 10 47) d 117 100 lo st h := ev_s n117_97 rfl rfl
theorem n117_100 : mx_ins 117 100 = some ((.getfield 172), 3) := mx_ins_of mi117 dX10_clause_100 rfl
theorem u117_100 : ev d 117 100 lo st h = evS (mx_gf 10 172) d 117 103 lo st h := ev_s n117_100 rfl rfl
theorem n117_103 : mx_ins 117 103 = some ((.aload_n 0), 1) := mx_ins_of mi117 dX10_clause_103 rfl
theorem u117_103 : ev d 117 103 lo st h = evS (mx_ldA 0) d 117 104 lo st h := ev_s n117_103 rfl rfl
theorem n117_104 : mx_ins 117 104 = some ((.getfield 47), 3) := mx_ins_of mi117 dX10_clause_104 rfl
theorem u117_104 : ev d 117 104 lo st h = evS (mx_gf 10 47) d 117 107 lo st h := ev_s n117_104 rfl rfl
theorem n117_107 : mx_ins 117 107 = some ((.getfield 162), 3) := mx_ins_of mi117 dX10_clause_107 rfl
theorem u117_107 : ev d 117 107 lo st h = evS (mx_gf 10 162) d 117 110 lo st h := ev_s n117_107 rfl rfl
theorem n117_110 : mx_ins 117 110 = some ((.aload_n 0), 1) := mx_ins_of mi117 dX10_clause_110 rfl
theorem u117_110 : ev d 117 110 lo st h = evS (mx_ldA 0) d 117 111 lo st h := ev_s n117_110 rfl rfl
theorem n117_111 : mx_ins 117 111 = some ((.invokevirtual 119), 3) := mx_ins_of mi117 dX10_clause_111 rfl
theorem u117_111 : ev d 117 111 lo st h = evIn d 117 111 114 10 119 1 false lo st h := ev_inv n117_111 rfl rfl ow117 ia10_119
theorem n117_114 : mx_ins 117 114 = some (.aastore, 1) := mx_ins_of mi117 dX10_clause_114 rfl
theorem u117_114 : ev d 117 114 lo st h = evI d 117 114 115 lo st h .aastore := ev_u n117_114 rfl
theorem n117_115 : mx_ins 117 115 = some ((.aload_n 0), 1) := mx_ins_of mi117 dX10_clause_115 rfl
theorem u117_115 : ev d 117 115 lo st h = evS (mx_ldA 0) d 117 116 lo st h := ev_s n117_115 rfl rfl
theorem n117_116 : mx_ins 117 116 = some ((.ldc 176), 2) := mx_ins_of mi117 dX10_clause_116 rfl
theorem u117_116 : ev d 117 116 lo st h = ev d 117 118 lo (.float 17 :: st) h := (ev_s (f := mx_push (.float 17)) n117_116 rfl rfl).trans es_push
theorem n117_118 : mx_ins 117 118 = some ((.invokevirtual 125), 3) := mx_ins_of mi117 dX10_clause_118 rfl
theorem u117_118 : ev d 117 118 lo st h = evIn d 117 118 121 10 125 2 false lo st h := ev_inv n117_118 rfl rfl ow117 ia10_125
theorem n117_121 : mx_ins 117 121 = some ((.aload_n 0), 1) := mx_ins_of mi117 dX10_clause_121 rfl
theorem u117_121 : ev d 117 121 lo st h = evS (mx_ldA 0) d 117 122 lo st h := ev_s n117_121 rfl rfl
theorem n117_122 : mx_ins 117 122 = some ((.getfield 47), 3) := mx_ins_of mi117 dX10_clause_122 rfl
theorem u117_122 : ev d 117 122 lo st h = evS (mx_gf 10 47) d 117 125 lo st h := ev_s n117_122 rfl rfl
theorem n117_125 : mx_ins 117 125 = some (.dup, 1) := mx_ins_of mi117 dX10_clause_125 rfl
theorem u117_125 : ev d 117 125 lo st h = evI d 117 125 126 lo st h .dup := ev_u n117_125 rfl
theorem n117_126 : mx_ins 117 126 = some ((.getfield 162), 3) := mx_ins_of mi117 dX10_clause_126 rfl
theorem u117_126 : ev d 117 126 lo st h = evS (mx_gf 10 162) d 117 129 lo st h := ev_s n117_126 rfl rfl
theorem n117_129 : mx_ins 117 129 = some ((.iconst 1), 1) := mx_ins_of mi117 dX10_clause_129 rfl
theorem u117_129 : ev d 117 129 lo st h = ev d 117 130 lo (.int 1 :: st) h := (ev_s (f := mx_push (.int 1)) n117_129 rfl rfl).trans es_push
theorem n117_130 : mx_ins 117 130 = some (.iadd, 1) := mx_ins_of mi117 dX10_clause_130 rfl
theorem u117_130 : ev d 117 130 lo st h = evI d 117 130 131 lo st h .iadd := ev_u n117_130 rfl
theorem n117_131 : mx_ins 117 131 = some ((.putfield 162), 3) := mx_ins_of mi117 dX10_clause_131 rfl
theorem u117_131 : ev d 117 131 lo st h = evS (mx_pf 10 162 false) d 117 134 lo st h := ev_s n117_131 rfl rfl
theorem n117_134 : mx_ins 117 134 = some (.return_, 1) := mx_ins_of mi117 dX10_clause_134 rfl
theorem u117_134 : ev d 117 134 lo st h = evI d 117 134 135 lo st h .return_ := ev_u n117_134 rfl
theorem mi118 : mx_mi 118 = some (yX10_isWord, cX10_isWord, 4, (Option.some Jvm.ClassFile.FieldType.boolean), 10, 2, []) := rfl
theorem ow118 : mx_own 118 = 10 := mx_mi_own mi118
theorem mm118 : mx_max 118 = 4 := mx_mi_max mi118
theorem rt118 : mx_ret 118 = (Option.some Jvm.ClassFile.FieldType.boolean) := mx_mi_ret mi118
theorem hn118 : mx_hnd 118 = [] := mx_mi_hnd mi118
theorem n118_0 : mx_ins 118 0 = some ((.aload_n 0), 1) := mx_ins_of mi118 dX10_isWord_0 rfl
theorem u118_0 : ev d 118 0 lo st h = evS (mx_ldA 0) d 118 1 lo st h := ev_s n118_0 rfl rfl
theorem n118_1 : mx_ins 118 1 = some ((.getfield 62), 3) := mx_ins_of mi118 dX10_isWord_1 rfl
theorem u118_1 : ev d 118 1 lo st h = evS (mx_gf 10 62) d 118 4 lo st h := ev_s n118_1 rfl rfl
theorem n118_4 : mx_ins 118 4 = some ((.aload_n 0), 1) := mx_ins_of mi118 dX10_isWord_4 rfl
theorem u118_4 : ev d 118 4 lo st h = evS (mx_ldA 0) d 118 5 lo st h := ev_s n118_4 rfl rfl
theorem n118_5 : mx_ins 118 5 = some ((.getfield 51), 3) := mx_ins_of mi118 dX10_isWord_5 rfl
theorem u118_5 : ev d 118 5 lo st h = evS (mx_gf 10 51) d 118 8 lo st h := ev_s n118_5 rfl rfl
theorem n118_8 : mx_ins 118 8 = some (.isub, 1) := mx_ins_of mi118 dX10_isWord_8 rfl
theorem u118_8 : ev d 118 8 lo st h = evI d 118 8 9 lo st h .isub := ev_u n118_8 rfl
theorem n118_9 : mx_ins 118 9 = some ((.aload_n 1), 1) := mx_ins_of mi118 dX10_isWord_9 rfl
theorem u118_9 : ev d 118 9 lo st h = evS (mx_ldA 1) d 118 10 lo st h := ev_s n118_9 rfl rfl
theorem n118_10 : mx_ins 118 10 = some ((.invokevirtual 80), 3) := mx_ins_of mi118 dX10_isWord_10 rfl
theorem u118_10 : ev d 118 10 lo st h = evIn d 118 10 13 10 80 1 true lo st h := ev_inv n118_10 rfl rfl ow118 ia10_80
theorem n118_13 : mx_ins 118 13 = some ((.if_icmp .ne 7), 3) := mx_ins_of mi118 dX10_isWord_13 rfl
theorem u118_13 : ev d 118 13 lo st h = evK .ne d 118 20 16 lo st h := ev_ic n118_13 rfl rfl
theorem n118_16 : mx_ins 118 16 = some ((.iconst 1), 1) := mx_ins_of mi118 dX10_isWord_16 rfl
theorem u118_16 : ev d 118 16 lo st h = ev d 118 17 lo (.int 1 :: st) h := (ev_s (f := mx_push (.int 1)) n118_16 rfl rfl).trans es_push
theorem n118_17 : mx_ins 118 17 = some ((.goto 4), 3) := mx_ins_of mi118 dX10_isWord_17 rfl
theorem u118_17 : ev d 118 17 lo st h = ev d 118 21 lo st h := ev_goto n118_17 rfl
theorem n118_20 : mx_ins 118 20 = some ((.iconst 0), 1) := mx_ins_of mi118 dX10_isWord_20 rfl
theorem u118_20 : ev d 118 20 lo st h = ev d 118 21 lo (.int 0 :: st) h := (ev_s (f := mx_push (.int 0)) n118_20 rfl rfl).trans es_push
theorem n118_21 : mx_ins 118 21 = some ((.istore_n 2), 1) := mx_ins_of mi118 dX10_isWord_21 rfl
theorem u118_21 : ev d 118 21 lo st h = evS (mx_stI 2) d 118 22 lo st h := ev_s n118_21 rfl rfl
theorem n118_22 : mx_ins 118 22 = some ((.iconst 0), 1) := mx_ins_of mi118 dX10_isWord_22 rfl
theorem u118_22 : ev d 118 22 lo st h = ev d 118 23 lo (.int 0 :: st) h := (ev_s (f := mx_push (.int 0)) n118_22 rfl rfl).trans es_push
theorem n118_23 : mx_ins 118 23 = some ((.istore_n 3), 1) := mx_ins_of mi118 dX10_isWord_23 rfl
theorem u118_23 : ev d 118 23 lo st h = evS (mx_stI 3) d 118 24 lo st h := ev_s n118_23 rfl rfl
theorem n118_24 : mx_ins 118 24 = some ((.iload_n 3), 1) := mx_ins_of mi118 dX10_isWord_24 rfl
theorem u118_24 : ev d 118 24 lo st h = evS (mx_ldI 3) d 118 25 lo st h := ev_s n118_24 rfl rfl
theorem n118_25 : mx_ins 118 25 = some ((.aload_n 1), 1) := mx_ins_of mi118 dX10_isWord_25 rfl
theorem u118_25 : ev d 118 25 lo st h = evS (mx_ldA 1) d 118 26 lo st h := ev_s n118_25 rfl rfl
theorem n118_26 : mx_ins 118 26 = some ((.invokevirtual 80), 3) := mx_ins_of mi118 dX10_isWord_26 rfl
theorem u118_26 : ev d 118 26 lo st h = evIn d 118 26 29 10 80 1 true lo st h := ev_inv n118_26 rfl rfl ow118 ia10_80
theorem n118_29 : mx_ins 118 29 = some ((.if_icmp .ge 38), 3) := mx_ins_of mi118 dX10_isWord_29 rfl
theorem u118_29 : ev d 118 29 lo st h = evK .ge d 118 67 32 lo st h := ev_ic n118_29 rfl rfl
theorem n118_32 : mx_ins 118 32 = some ((.iload_n 2), 1) := mx_ins_of mi118 dX10_isWord_32 rfl
theorem u118_32 : ev d 118 32 lo st h = evS (mx_ldI 2) d 118 33 lo st h := ev_s n118_32 rfl rfl
theorem n118_33 : mx_ins 118 33 = some ((.ifCond .eq 34), 3) := mx_ins_of mi118 dX10_isWord_33 rfl
theorem u118_33 : ev d 118 33 lo st h = evJ .eq d 118 67 36 lo st h := ev_if n118_33 rfl rfl
theorem n118_36 : mx_ins 118 36 = some ((.aload_n 0), 1) := mx_ins_of mi118 dX10_isWord_36 rfl
theorem u118_36 : ev d 118 36 lo st h = evS (mx_ldA 0) d 118 37 lo st h := ev_s n118_36 rfl rfl
theorem n118_37 : mx_ins 118 37 = some ((.getfield 58), 3) := mx_ins_of mi118 dX10_isWord_37 rfl
theorem u118_37 : ev d 118 37 lo st h = evS (mx_gf 10 58) d 118 40 lo st h := ev_s n118_37 rfl rfl
theorem n118_40 : mx_ins 118 40 = some ((.aload_n 0), 1) := mx_ins_of mi118 dX10_isWord_40 rfl
theorem u118_40 : ev d 118 40 lo st h = evS (mx_ldA 0) d 118 41 lo st h := ev_s n118_40 rfl rfl
theorem n118_41 : mx_ins 118 41 = some ((.getfield 51), 3) := mx_ins_of mi118 dX10_isWord_41 rfl
theorem u118_41 : ev d 118 41 lo st h = evS (mx_gf 10 51) d 118 44 lo st h := ev_s n118_41 rfl rfl
theorem n118_44 : mx_ins 118 44 = some ((.iload_n 3), 1) := mx_ins_of mi118 dX10_isWord_44 rfl
theorem u118_44 : ev d 118 44 lo st h = evS (mx_ldI 3) d 118 45 lo st h := ev_s n118_44 rfl rfl
theorem n118_45 : mx_ins 118 45 = some (.iadd, 1) := mx_ins_of mi118 dX10_isWord_45 rfl
theorem u118_45 : ev d 118 45 lo st h = evI d 118 45 46 lo st h .iadd := ev_u n118_45 rfl
theorem n118_46 : mx_ins 118 46 = some (.baload, 1) := mx_ins_of mi118 dX10_isWord_46 rfl
theorem u118_46 : ev d 118 46 lo st h = evI d 118 46 47 lo st h .baload := ev_u n118_46 rfl
theorem n118_47 : mx_ins 118 47 = some ((.aload_n 1), 1) := mx_ins_of mi118 dX10_isWord_47 rfl
theorem u118_47 : ev d 118 47 lo st h = evS (mx_ldA 1) d 118 48 lo st h := ev_s n118_47 rfl rfl
theorem n118_48 : mx_ins 118 48 = some ((.iload_n 3), 1) := mx_ins_of mi118 dX10_isWord_48 rfl
theorem u118_48 : ev d 118 48 lo st h = evS (mx_ldI 3) d 118 49 lo st h := ev_s n118_48 rfl rfl
theorem n118_49 : mx_ins 118 49 = some ((.invokevirtual 83), 3) := mx_ins_of mi118 dX10_isWord_49 rfl
theorem u118_49 : ev d 118 49 lo st h = evIn d 118 49 52 10 83 2 true lo st h := ev_inv n118_49 rfl rfl ow118 ia10_83
theorem n118_52 : mx_ins 118 52 = some ((.if_icmp .ne 7), 3) := mx_ins_of mi118 dX10_isWord_52 rfl
theorem u118_52 : ev d 118 52 lo st h = evK .ne d 118 59 55 lo st h := ev_ic n118_52 rfl rfl
theorem n118_55 : mx_ins 118 55 = some ((.iconst 1), 1) := mx_ins_of mi118 dX10_isWord_55 rfl
theorem u118_55 : ev d 118 55 lo st h = ev d 118 56 lo (.int 1 :: st) h := (ev_s (f := mx_push (.int 1)) n118_55 rfl rfl).trans es_push
theorem n118_56 : mx_ins 118 56 = some ((.goto 4), 3) := mx_ins_of mi118 dX10_isWord_56 rfl
theorem u118_56 : ev d 118 56 lo st h = ev d 118 60 lo st h := ev_goto n118_56 rfl
theorem n118_59 : mx_ins 118 59 = some ((.iconst 0), 1) := mx_ins_of mi118 dX10_isWord_59 rfl
theorem u118_59 : ev d 118 59 lo st h = ev d 118 60 lo (.int 0 :: st) h := (ev_s (f := mx_push (.int 0)) n118_59 rfl rfl).trans es_push
theorem n118_60 : mx_ins 118 60 = some ((.istore_n 2), 1) := mx_ins_of mi118 dX10_isWord_60 rfl
theorem u118_60 : ev d 118 60 lo st h = evS (mx_stI 2) d 118 61 lo st h := ev_s n118_60 rfl rfl
theorem n118_61 : mx_ins 118 61 = some ((.iinc 3 1), 3) := mx_ins_of mi118 dX10_isWord_61 rfl
theorem u118_61 : ev d 118 61 lo st h = evS (mx_inc 3 (1)) d 118 64 lo st h := ev_s n118_61 rfl rfl
theorem n118_64 : mx_ins 118 64 = some ((.goto (-40)), 3) := mx_ins_of mi118 dX10_isWord_64 rfl
theorem u118_64 : ev d 118 64 lo st h = ev d 118 24 lo st h := ev_goto n118_64 rfl
theorem n118_67 : mx_ins 118 67 = some ((.iload_n 2), 1) := mx_ins_of mi118 dX10_isWord_67 rfl
theorem u118_67 : ev d 118 67 lo st h = evS (mx_ldI 2) d 118 68 lo st h := ev_s n118_67 rfl rfl
theorem n118_68 : mx_ins 118 68 = some (.ireturn, 1) := mx_ins_of mi118 dX10_isWord_68 rfl
theorem u118_68 : ev d 118 68 lo st h = evI d 118 68 69 lo st h .ireturn := ev_u n118_68 rfl
theorem mi119 : mx_mi 119 = some (yX10_need, cX10_need, 2, (none : Option FieldType), 10, 2, []) := rfl
theorem ow119 : mx_own 119 = 10 := mx_mi_own mi119
theorem mm119 : mx_max 119 = 2 := mx_mi_max mi119
theorem rt119 : mx_ret 119 = (none : Option FieldType) := mx_mi_ret mi119
theorem hn119 : mx_hnd 119 = [] := mx_mi_hnd mi119
theorem n119_0 : mx_ins 119 0 = some ((.iload_n 1), 1) := mx_ins_of mi119 dX10_need_0 rfl
theorem u119_0 : ev d 119 0 lo st h = evS (mx_ldI 1) d 119 1 lo st h := ev_s n119_0 rfl rfl
theorem n119_1 : mx_ins 119 1 = some ((.ifCond .ne 15), 3) := mx_ins_of mi119 dX10_need_1 rfl
theorem u119_1 : ev d 119 1 lo st h = evJ .ne d 119 16 4 lo st h := ev_if n119_1 rfl rfl
theorem n119_4 : mx_ins 119 4 = some ((.aload_n 0), 1) := mx_ins_of mi119 dX10_need_4 rfl
theorem u119_4 : ev d 119 4 lo st h = evS (mx_ldA 0) d 119 5 lo st h := ev_s n119_4 rfl rfl
theorem n119_5 : mx_ins 119 5 = some ((.getfield 43), 3) := mx_ins_of mi119 dX10_need_5 rfl
theorem u119_5 : ev d 119 5 lo st h = evS (mx_gf 10 43) d 119 8 lo st h := ev_s n119_5 rfl rfl
theorem n119_8 : mx_ins 119 8 = some ((.aload_n 0), 1) := mx_ins_of mi119 dX10_need_8 rfl
theorem u119_8 : ev d 119 8 lo st h = evS (mx_ldA 0) d 119 9 lo st h := ev_s n119_8 rfl rfl
theorem n119_9 : mx_ins 119 9 = some ((.getfield 51), 3) := mx_ins_of mi119 dX10_need_9 rfl
theorem u119_9 : ev d 119 9 lo st h = evS (mx_gf 10 51) d 119 12 lo st h := ev_s n119_9 rfl rfl
theorem n119_12 : mx_ins 119 12 = some ((.invokevirtual 76), 3) := mx_ins_of mi119 dX10_need_12 rfl
theorem u119_12 : ev d 119 12 lo st h = evIn d 119 12 15 10 76 2 false lo st h := ev_inv n119_12 rfl rfl ow119 ia10_76
theorem n119_15 : mx_ins 119 15 = some (.athrow, 1) := mx_ins_of mi119 dX10_need_15 rfl
theorem u119_15 : ev d 119 15 lo st h = evI d 119 15 16 lo st h .athrow := ev_u n119_15 rfl
theorem n119_16 : mx_ins 119 16 = some (.return_, 1) := mx_ins_of mi119 dX10_need_16 rfl
theorem u119_16 : ev d 119 16 lo st h = evI d 119 16 17 lo st h .return_ := ev_u n119_16 rfl
theorem mi120 : mx_mi 120 = some (yX10_must, cX10_must, 2, (none : Option FieldType), 10, 2, []) := rfl
theorem ow120 : mx_own 120 = 10 := mx_mi_own mi120
theorem mm120 : mx_max 120 = 2 := mx_mi_max mi120
theorem rt120 : mx_ret 120 = (none : Option FieldType) := mx_mi_ret mi120
theorem hn120 : mx_hnd 120 = [] := mx_mi_hnd mi120
theorem n120_0 : mx_ins 120 0 = some ((.aload_n 0), 1) := mx_ins_of mi120 dX10_must_0 rfl
theorem u120_0 : ev d 120 0 lo st h = evS (mx_ldA 0) d 120 1 lo st h := ev_s n120_0 rfl rfl
theorem n120_1 : mx_ins 120 1 = some ((.aload_n 0), 1) := mx_ins_of mi120 dX10_must_1 rfl
theorem u120_1 : ev d 120 1 lo st h = evS (mx_ldA 0) d 120 2 lo st h := ev_s n120_1 rfl rfl
theorem n120_2 : mx_ins 120 2 = some ((.aload_n 1), 1) := mx_ins_of mi120 dX10_must_2 rfl
theorem u120_2 : ev d 120 2 lo st h = evS (mx_ldA 1) d 120 3 lo st h := ev_s n120_2 rfl rfl
theorem n120_3 : mx_ins 120 3 = some ((.invokevirtual 87), 3) := mx_ins_of mi120 dX10_must_3 rfl
theorem u120_3 : ev d 120 3 lo st h = evIn d 120 3 6 10 87 2 false lo st h := ev_inv n120_3 rfl rfl ow120 ia10_87
theorem n120_6 : mx_ins 120 6 = some ((.invokevirtual 94), 3) := mx_ins_of mi120 dX10_must_6 rfl
theorem u120_6 : ev d 120 6 lo st h = evIn d 120 6 9 10 94 2 false lo st h := ev_inv n120_6 rfl rfl ow120 ia10_94
theorem n120_9 : mx_ins 120 9 = some ((.aload_n 0), 1) := mx_ins_of mi120 dX10_must_9 rfl
theorem u120_9 : ev d 120 9 lo st h = evS (mx_ldA 0) d 120 10 lo st h := ev_s n120_9 rfl rfl
theorem n120_10 : mx_ins 120 10 = some ((.invokevirtual 91), 3) := mx_ins_of mi120 dX10_must_10 rfl
theorem u120_10 : ev d 120 10 lo st h = evIn d 120 10 13 10 91 1 false lo st h := ev_inv n120_10 rfl rfl ow120 ia10_91
theorem n120_13 : mx_ins 120 13 = some (.return_, 1) := mx_ins_of mi120 dX10_must_13 rfl
theorem u120_13 : ev d 120 13 lo st h = evI d 120 13 14 lo st h .return_ := ev_u n120_13 rfl
theorem mi121 : mx_mi 121 = some (yX10_any, cX10_any, 2, (Option.some (Jvm.ClassFile.FieldType.object "ColdBox$Cond")), 10, 1, []) := rfl
theorem ow121 : mx_own 121 = 10 := mx_mi_own mi121
theorem mm121 : mx_max 121 = 2 := mx_mi_max mi121
theorem rt121 : mx_ret 121 = (Option.some (Jvm.ClassFile.FieldType.object "ColdBox$Cond")) := mx_mi_ret mi121
theorem hn121 : mx_hnd 121 = [] := mx_mi_hnd mi121
theorem rr121 : mx_rr 121 = true := by unfold mx_rr; rw [rt121]
theorem n121_0 : mx_ins 121 0 = some ((.aload_n 0), 1) := mx_ins_of mi121 dX10_any_0 rfl
theorem u121_0 : ev d 121 0 lo st h = evS (mx_ldA 0) d 121 1 lo st h := ev_s n121_0 rfl rfl
theorem n121_1 : mx_ins 121 1 = some ((.invokevirtual 152), 3) := mx_ins_of mi121 dX10_any_1 rfl
theorem u121_1 : ev d 121 1 lo st h = evIn d 121 1 4 10 152 1 false lo st h := ev_inv n121_1 rfl rfl ow121 ia10_152
theorem n121_4 : mx_ins 121 4 = some ((.astore_n 1), 1) := mx_ins_of mi121 dX10_any_4 rfl
theorem u121_4 : ev d 121 4 lo st h = evS (mx_stA 1) d 121 5 lo st h := ev_s n121_4 rfl rfl
theorem n121_5 : mx_ins 121 5 = some ((.aload_n 0), 1) := mx_ins_of mi121 dX10_any_5 rfl
theorem u121_5 : ev d 121 5 lo st h = evS (mx_ldA 0) d 121 6 lo st h := ev_s n121_5 rfl rfl
theorem n121_6 : mx_ins 121 6 = some ((.ldc 155), 2) := mx_ins_of mi121 dX10_any_6 rfl
theorem u121_6 : ev d 121 6 lo st h = ev d 121 8 lo (.float 14 :: st) h := (ev_s (f := mx_push (.float 14)) n121_6 rfl rfl).trans es_push
theorem n121_8 : mx_ins 121 8 = some ((.invokevirtual 111), 3) := mx_ins_of mi121 dX10_any_8 rfl
theorem u121_8 : ev d 121 8 lo st h = evIn d 121 8 11 10 111 2 false lo st h := ev_inv n121_8 rfl rfl ow121 ia10_111
theorem n121_11 : mx_ins 121 11 = some ((.ifCond .eq 19), 3) := mx_ins_of mi121 dX10_any_11 rfl
theorem u121_11 : ev d 121 11 lo st h = evJ .eq d 121 30 14 lo st h := ev_if n121_11 rfl rfl
theorem n121_14 : mx_ins 121 14 = some ((.new 157), 3) := mx_ins_of mi121 dX10_any_14 rfl
theorem u121_14 : ev d 121 14 lo st h = evS (mx_nw 10 157) d 121 17 lo st h := ev_s n121_14 rfl rfl
theorem n121_17 : mx_ins 121 17 = some (.dup, 1) := mx_ins_of mi121 dX10_any_17 rfl
theorem u121_17 : ev d 121 17 lo st h = evI d 121 17 18 lo st h .dup := ev_u n121_17 rfl
theorem n121_18 : mx_ins 121 18 = some ((.aload_n 1), 1) := mx_ins_of mi121 dX10_any_18 rfl
theorem u121_18 : ev d 121 18 lo st h = evS (mx_ldA 1) d 121 19 lo st h := ev_s n121_18 rfl rfl
theorem n121_19 : mx_ins 121 19 = some ((.aload_n 0), 1) := mx_ins_of mi121 dX10_any_19 rfl
theorem u121_19 : ev d 121 19 lo st h = evS (mx_ldA 0) d 121 20 lo st h := ev_s n121_19 rfl rfl
theorem n121_20 : mx_ins 121 20 = some ((.invokevirtual 152), 3) := mx_ins_of mi121 dX10_any_20 rfl
theorem u121_20 : ev d 121 20 lo st h = evIn d 121 20 23 10 152 1 false lo st h := ev_inv n121_20 rfl rfl ow121 ia10_152
theorem n121_23 : mx_ins 121 23 = some ((.invokespecial 159), 3) := mx_ins_of mi121 dX10_any_23 rfl
theorem u121_23 : ev d 121 23 lo st h = evIn d 121 23 26 10 159 3 false lo st h := ev_inv n121_23 rfl rfl ow121 ia10_159
theorem n121_26 : mx_ins 121 26 = some ((.astore_n 1), 1) := mx_ins_of mi121 dX10_any_26 rfl
theorem u121_26 : ev d 121 26 lo st h = evS (mx_stA 1) d 121 27 lo st h := ev_s n121_26 rfl rfl
theorem n121_27 : mx_ins 121 27 = some ((.goto (-22)), 3) := mx_ins_of mi121 dX10_any_27 rfl
theorem u121_27 : ev d 121 27 lo st h = ev d 121 5 lo st h := ev_goto n121_27 rfl
theorem n121_30 : mx_ins 121 30 = some ((.aload_n 1), 1) := mx_ins_of mi121 dX10_any_30 rfl
theorem u121_30 : ev d 121 30 lo st h = evS (mx_ldA 1) d 121 31 lo st h := ev_s n121_30 rfl rfl
theorem n121_31 : mx_ins 121 31 = some (.areturn, 1) := mx_ins_of mi121 dX10_any_31 rfl
theorem u121_31 : ev d 121 31 lo st h = evI d 121 31 32 lo st h .areturn := ev_u n121_31 rfl
theorem mi122 : mx_mi 122 = some (yX10_all, cX10_all, 2, (Option.some (Jvm.ClassFile.FieldType.object "ColdBox$Cond")), 10, 1, []) := rfl
theorem ow122 : mx_own 122 = 10 := mx_mi_own mi122
theorem mm122 : mx_max 122 = 2 := mx_mi_max mi122
theorem rt122 : mx_ret 122 = (Option.some (Jvm.ClassFile.FieldType.object "ColdBox$Cond")) := mx_mi_ret mi122
theorem hn122 : mx_hnd 122 = [] := mx_mi_hnd mi122
theorem rr122 : mx_rr 122 = true := by unfold mx_rr; rw [rt122]
theorem n122_0 : mx_ins 122 0 = some ((.aload_n 0), 1) := mx_ins_of mi122 dX10_all_0 rfl
theorem u122_0 : ev d 122 0 lo st h = evS (mx_ldA 0) d 122 1 lo st h := ev_s n122_0 rfl rfl
theorem n122_1 : mx_ins 122 1 = some ((.invokevirtual 142), 3) := mx_ins_of mi122 dX10_all_1 rfl
theorem u122_1 : ev d 122 1 lo st h = evIn d 122 1 4 10 142 1 false lo st h := ev_inv n122_1 rfl rfl ow122 ia10_142
theorem n122_4 : mx_ins 122 4 = some ((.astore_n 1), 1) := mx_ins_of mi122 dX10_all_4 rfl
theorem u122_4 : ev d 122 4 lo st h = evS (mx_stA 1) d 122 5 lo st h := ev_s n122_4 rfl rfl
theorem n122_5 : mx_ins 122 5 = some ((.aload_n 0), 1) := mx_ins_of mi122 dX10_all_5 rfl
theorem u122_5 : ev d 122 5 lo st h = evS (mx_ldA 0) d 122 6 lo st h := ev_s n122_5 rfl rfl
theorem n122_6 : mx_ins 122 6 = some ((.ldc 145), 2) := mx_ins_of mi122 dX10_all_6 rfl
theorem u122_6 : ev d 122 6 lo st h = ev d 122 8 lo (.float 13 :: st) h := (ev_s (f := mx_push (.float 13)) n122_6 rfl rfl).trans es_push
theorem n122_8 : mx_ins 122 8 = some ((.invokevirtual 111), 3) := mx_ins_of mi122 dX10_all_8 rfl
theorem u122_8 : ev d 122 8 lo st h = evIn d 122 8 11 10 111 2 false lo st h := ev_inv n122_8 rfl rfl ow122 ia10_111
theorem n122_11 : mx_ins 122 11 = some ((.ifCond .eq 19), 3) := mx_ins_of mi122 dX10_all_11 rfl
theorem u122_11 : ev d 122 11 lo st h = evJ .eq d 122 30 14 lo st h := ev_if n122_11 rfl rfl
theorem n122_14 : mx_ins 122 14 = some ((.new 147), 3) := mx_ins_of mi122 dX10_all_14 rfl
theorem u122_14 : ev d 122 14 lo st h = evS (mx_nw 10 147) d 122 17 lo st h := ev_s n122_14 rfl rfl
theorem n122_17 : mx_ins 122 17 = some (.dup, 1) := mx_ins_of mi122 dX10_all_17 rfl
theorem u122_17 : ev d 122 17 lo st h = evI d 122 17 18 lo st h .dup := ev_u n122_17 rfl
theorem n122_18 : mx_ins 122 18 = some ((.aload_n 1), 1) := mx_ins_of mi122 dX10_all_18 rfl
theorem u122_18 : ev d 122 18 lo st h = evS (mx_ldA 1) d 122 19 lo st h := ev_s n122_18 rfl rfl
theorem n122_19 : mx_ins 122 19 = some ((.aload_n 0), 1) := mx_ins_of mi122 dX10_all_19 rfl
theorem u122_19 : ev d 122 19 lo st h = evS (mx_ldA 0) d 122 20 lo st h := ev_s n122_19 rfl rfl
theorem n122_20 : mx_ins 122 20 = some ((.invokevirtual 142), 3) := mx_ins_of mi122 dX10_all_20 rfl
theorem u122_20 : ev d 122 20 lo st h = evIn d 122 20 23 10 142 1 false lo st h := ev_inv n122_20 rfl rfl ow122 ia10_142
theorem n122_23 : mx_ins 122 23 = some ((.invokespecial 149), 3) := mx_ins_of mi122 dX10_all_23 rfl
theorem u122_23 : ev d 122 23 lo st h = evIn d 122 23 26 10 149 3 false lo st h := ev_inv n122_23 rfl rfl ow122 ia10_149
theorem n122_26 : mx_ins 122 26 = some ((.astore_n 1), 1) := mx_ins_of mi122 dX10_all_26 rfl
theorem u122_26 : ev d 122 26 lo st h = evS (mx_stA 1) d 122 27 lo st h := ev_s n122_26 rfl rfl
theorem n122_27 : mx_ins 122 27 = some ((.goto (-22)), 3) := mx_ins_of mi122 dX10_all_27 rfl
theorem u122_27 : ev d 122 27 lo st h = ev d 122 5 lo st h := ev_goto n122_27 rfl
theorem n122_30 : mx_ins 122 30 = some ((.aload_n 1), 1) := mx_ins_of mi122 dX10_all_30 rfl
theorem u122_30 : ev d 122 30 lo st h = evS (mx_ldA 1) d 122 31 lo st h := ev_s n122_30 rfl rfl
theorem n122_31 : mx_ins 122 31 = some (.areturn, 1) := mx_ins_of mi122 dX10_all_31 rfl
theorem u122_31 : ev d 122 31 lo st h = evI d 122 31 32 lo st h .areturn := ev_u n122_31 rfl
theorem mi123 : mx_mi 123 = some (yX10_one, cX10_one, 5, (Option.some (Jvm.ClassFile.FieldType.object "ColdBox$Cond")), 10, 1, []) := rfl
theorem ow123 : mx_own 123 = 10 := mx_mi_own mi123
theorem mm123 : mx_max 123 = 5 := mx_mi_max mi123
theorem rt123 : mx_ret 123 = (Option.some (Jvm.ClassFile.FieldType.object "ColdBox$Cond")) := mx_mi_ret mi123
theorem hn123 : mx_hnd 123 = [] := mx_mi_hnd mi123
theorem rr123 : mx_rr 123 = true := by unfold mx_rr; rw [rt123]
theorem n123_0 : mx_ins 123 0 = some ((.iconst 0), 1) := mx_ins_of mi123 dX10_one_0 rfl
theorem u123_0 : ev d 123 0 lo st h = ev d 123 1 lo (.int 0 :: st) h := (ev_s (f := mx_push (.int 0)) n123_0 rfl rfl).trans es_push
theorem n123_1 : mx_ins 123 1 = some ((.istore_n 1), 1) := mx_ins_of mi123 dX10_one_1 rfl
theorem u123_1 : ev d 123 1 lo st h = evS (mx_stI 1) d 123 2 lo st h := ev_s n123_1 rfl rfl
theorem n123_2 : mx_ins 123 2 = some ((.aload_n 0), 1) := mx_ins_of mi123 dX10_one_2 rfl
theorem u123_2 : ev d 123 2 lo st h = evS (mx_ldA 0) d 123 3 lo st h := ev_s n123_2 rfl rfl
theorem n123_3 : mx_ins 123 3 = some ((.ldc 109), 2) := mx_ins_of mi123 dX10_one_3 rfl
theorem u123_3 : ev d 123 3 lo st h = ev d 123 5 lo (.float 10 :: st) h := (ev_s (f := mx_push (.float 10)) n123_3 rfl rfl).trans es_push
theorem n123_5 : mx_ins 123 5 = some ((.invokevirtual 111), 3) := mx_ins_of mi123 dX10_one_5 rfl
theorem u123_5 : ev d 123 5 lo st h = evIn d 123 5 8 10 111 2 false lo st h := ev_inv n123_5 rfl rfl ow123 ia10_111
theorem n123_8 : mx_ins 123 8 = some ((.ifCond .eq 16), 3) := mx_ins_of mi123 dX10_one_8 rfl
theorem u123_8 : ev d 123 8 lo st h = evJ .eq d 123 24 11 lo st h := ev_if n123_8 rfl rfl
theorem n123_11 : mx_ins 123 11 = some ((.iload_n 1), 1) := mx_ins_of mi123 dX10_one_11 rfl
theorem u123_11 : ev d 123 11 lo st h = evS (mx_ldI 1) d 123 12 lo st h := ev_s n123_11 rfl rfl
theorem n123_12 : mx_ins 123 12 = some ((.ifCond .ne 7), 3) := mx_ins_of mi123 dX10_one_12 rfl
theorem u123_12 : ev d 123 12 lo st h = evJ .ne d 123 19 15 lo st h := ev_if n123_12 rfl rfl
theorem n123_15 : mx_ins 123 15 = some ((.iconst 1), 1) := mx_ins_of mi123 dX10_one_15 rfl
theorem u123_15 : ev d 123 15 lo st h = ev d 123 16 lo (.int 1 :: st) h := (ev_s (f := mx_push (.int 1)) n123_15 rfl rfl).trans es_push
theorem n123_16 : mx_ins 123 16 = some ((.goto 4), 3) := mx_ins_of mi123 dX10_one_16 rfl
theorem u123_16 : ev d 123 16 lo st h = ev d 123 20 lo st h := ev_goto n123_16 rfl
theorem n123_19 : mx_ins 123 19 = some ((.iconst 0), 1) := mx_ins_of mi123 dX10_one_19 rfl
theorem u123_19 : ev d 123 19 lo st h = ev d 123 20 lo (.int 0 :: st) h := (ev_s (f := mx_push (.int 0)) n123_19 rfl rfl).trans es_push
theorem n123_20 : mx_ins 123 20 = some ((.istore_n 1), 1) := mx_ins_of mi123 dX10_one_20 rfl
theorem u123_20 : ev d 123 20 lo st h = evS (mx_stI 1) d 123 21 lo st h := ev_s n123_20 rfl rfl
theorem n123_21 : mx_ins 123 21 = some ((.goto (-19)), 3) := mx_ins_of mi123 dX10_one_21 rfl
theorem u123_21 : ev d 123 21 lo st h = ev d 123 2 lo st h := ev_goto n123_21 rfl
theorem n123_24 : mx_ins 123 24 = some ((.aload_n 0), 1) := mx_ins_of mi123 dX10_one_24 rfl
theorem u123_24 : ev d 123 24 lo st h = evS (mx_ldA 0) d 123 25 lo st h := ev_s n123_24 rfl rfl
theorem n123_25 : mx_ins 123 25 = some ((.ldc 114), 2) := mx_ins_of mi123 dX10_one_25 rfl
theorem u123_25 : ev d 123 25 lo st h = ev d 123 27 lo (.float 11 :: st) h := (ev_s (f := mx_push (.float 11)) n123_25 rfl rfl).trans es_push
theorem n123_27 : mx_ins 123 27 = some ((.invokevirtual 87), 3) := mx_ins_of mi123 dX10_one_27 rfl
theorem u123_27 : ev d 123 27 lo st h = evIn d 123 27 30 10 87 2 false lo st h := ev_inv n123_27 rfl rfl ow123 ia10_87
theorem n123_30 : mx_ins 123 30 = some ((.ifCond .eq 58), 3) := mx_ins_of mi123 dX10_one_30 rfl
theorem u123_30 : ev d 123 30 lo st h = evJ .eq d 123 88 33 lo st h := ev_if n123_30 rfl rfl
theorem n123_33 : mx_ins 123 33 = some ((.aload_n 0), 1) := mx_ins_of mi123 dX10_one_33 rfl
theorem u123_33 : ev d 123 33 lo st h = evS (mx_ldA 0) d 123 34 lo st h := ev_s n123_33 rfl rfl
theorem n123_34 : mx_ins 123 34 = some ((.aload_n 0), 1) := mx_ins_of mi123 dX10_one_34 rfl
theorem u123_34 : ev d 123 34 lo st h = evS (mx_ldA 0) d 123 35 lo st h := ev_s n123_34 rfl rfl
theorem n123_35 : mx_ins 123 35 = some ((.getfield 116), 3) := mx_ins_of mi123 dX10_one_35 rfl
theorem u123_35 : ev d 123 35 lo st h = evS (mx_gf 10 116) d 123 38 lo st h := ev_s n123_35 rfl rfl
theorem n123_38 : mx_ins 123 38 = some ((.iconst 3), 1) := mx_ins_of mi123 dX10_one_38 rfl
theorem u123_38 : ev d 123 38 lo st h = ev d 123 39 lo (.int 3 :: st) h := (ev_s (f := mx_push (.int 3)) n123_38 rfl rfl).trans es_push
theorem n123_39 : mx_ins 123 39 = some ((.if_icmp .ge 7), 3) := mx_ins_of mi123 dX10_one_39 rfl
theorem u123_39 : ev d 123 39 lo st h = evK .ge d 123 46 42 lo st h := ev_ic n123_39 rfl rfl
theorem n123_42 : mx_ins 123 42 = some ((.iconst 1), 1) := mx_ins_of mi123 dX10_one_42 rfl
theorem u123_42 : ev d 123 42 lo st h = ev d 123 43 lo (.int 1 :: st) h := (ev_s (f := mx_push (.int 1)) n123_42 rfl rfl).trans es_push
theorem n123_43 : mx_ins 123 43 = some ((.goto 4), 3) := mx_ins_of mi123 dX10_one_43 rfl
theorem u123_43 : ev d 123 43 lo st h = ev d 123 47 lo st h := ev_goto n123_43 rfl
theorem n123_46 : mx_ins 123 46 = some ((.iconst 0), 1) := mx_ins_of mi123 dX10_one_46 rfl
theorem u123_46 : ev d 123 46 lo st h = ev d 123 47 lo (.int 0 :: st) h := (ev_s (f := mx_push (.int 0)) n123_46 rfl rfl).trans es_push
theorem n123_47 : mx_ins 123 47 = some ((.invokevirtual 94), 3) := mx_ins_of mi123 dX10_one_47 rfl
theorem u123_47 : ev d 123 47 lo st h = evIn d 123 47 50 10 94 2 false lo st h := ev_inv n123_47 rfl rfl ow123 ia10_94
theorem n123_50 : mx_ins 123 50 = some ((.aload_n 0), 1) := mx_ins_of mi123 dX10_one_50 rfl
theorem u123_50 : ev d 123 50 lo st h = evS (mx_ldA 0) d 123 51 lo st h := ev_s n123_50 rfl rfl
theorem n123_51 : mx_ins 123 51 = some ((.invokevirtual 91), 3) := mx_ins_of mi123 dX10_one_51 rfl
theorem u123_51 : ev d 123 51 lo st h = evIn d 123 51 54 10 91 1 false lo st h := ev_inv n123_51 rfl rfl ow123 ia10_91
theorem n123_54 : mx_ins 123 54 = some ((.aload_n 0), 1) := mx_ins_of mi123 dX10_one_54 rfl
theorem u123_54 : ev d 123 54 lo st h = evS (mx_ldA 0) d 123 55 lo st h := ev_s n123_54 rfl rfl
theorem n123_55 : mx_ins 123 55 = some (.dup, 1) := mx_ins_of mi123 dX10_one_55 rfl
theorem u123_55 : ev d 123 55 lo st h = evI d 123 55 56 lo st h .dup := ev_u n123_55 rfl
theorem n123_56 : mx_ins 123 56 = some ((.getfield 116), 3) := mx_ins_of mi123 dX10_one_56 rfl
theorem u123_56 : ev d 123 56 lo st h = evS (mx_gf 10 116) d 123 59 lo st h := ev_s n123_56 rfl rfl
theorem n123_59 : mx_ins 123 59 = some ((.iconst 1), 1) := mx_ins_of mi123 dX10_one_59 rfl
theorem u123_59 : ev d 123 59 lo st h = ev d 123 60 lo (.int 1 :: st) h := (ev_s (f := mx_push (.int 1)) n123_59 rfl rfl).trans es_push
theorem n123_60 : mx_ins 123 60 = some (.iadd, 1) := mx_ins_of mi123 dX10_one_60 rfl
theorem u123_60 : ev d 123 60 lo st h = evI d 123 60 61 lo st h .iadd := ev_u n123_60 rfl
theorem n123_61 : mx_ins 123 61 = some ((.putfield 116), 3) := mx_ins_of mi123 dX10_one_61 rfl
theorem u123_61 : ev d 123 61 lo st h = evS (mx_pf 10 116 false) d 123 64 lo st h := ev_s n123_61 rfl rfl
theorem n123_64 : mx_ins 123 64 = some ((.aload_n 0), 1) := mx_ins_of mi123 dX10_one_64 rfl
theorem u123_64 : ev d 123 64 lo st h = evS (mx_ldA 0) d 123 65 lo st h := ev_s n123_64 rfl rfl
theorem n123_65 : mx_ins 123 65 = some ((.invokevirtual 119), 3) := mx_ins_of mi123 dX10_one_65 rfl
theorem u123_65 : ev d 123 65 lo st h = evIn d 123 65 68 10 119 1 false lo st h := ev_inv n123_65 rfl rfl ow123 ia10_119
theorem n123_68 : mx_ins 123 68 = some ((.astore_n 2), 1) := mx_ins_of mi123 dX10_one_68 rfl
theorem u123_68 : ev d 123 68 lo st h = evS (mx_stA 2) d 123 69 lo st h := ev_s n123_68 rfl rfl
theorem n123_69 : mx_ins 123 69 = some ((.aload_n 0), 1) := mx_ins_of mi123 dX10_one_69 rfl
theorem u123_69 : ev d 123 69 lo st h = evS (mx_ldA 0) d 123 70 lo st h := ev_s n123_69 rfl rfl
theorem n123_70 : mx_ins 123 70 = some ((.ldc 123), 2) := mx_ins_of mi123 dX10_one_70 rfl
theorem u123_70 : ev d 123 70 lo st h = ev d 123 72 lo (.float 12 :: st) h := (ev_s (f := mx_push (.float 12)) n123_70 rfl rfl).trans es_push
theorem n123_72 : mx_ins 123 72 = some ((.invokevirtual 125), 3) := mx_ins_of mi123 dX10_one_72 rfl
theorem u123_72 : ev d 123 72 lo st h = evIn d 123 72 75 10 125 2 false lo st h := ev_inv n123_72 rfl rfl ow123 ia10_125
theorem n123_75 : mx_ins 123 75 = some ((.aload_n 0), 1) := mx_ins_of mi123 dX10_one_75 rfl
theorem u123_75 : ev d 123 75 lo st h = evS (mx_ldA 0) d 123 76 lo st h := ev_s n123_75 rfl rfl
theorem n123_76 : mx_ins 123 76 = some (.dup, 1) := mx_ins_of mi123 dX10_one_76 rfl
theorem u123_76 : ev d 123 76 lo st h = evI d 123 76 77 lo st h .dup := ev_u n123_76 rfl
theorem n123_77 : mx_ins 123 77 = some ((.getfield 116), 3) := mx_ins_of mi123 dX10_one_77 rfl
theorem u123_77 : ev d 123 77 lo st h = evS (mx_gf 10 116) d 123 80 lo st h := ev_s n123_77 rfl rfl
theorem n123_80 : mx_ins 123 80 = some ((.iconst 1), 1) := mx_ins_of mi123 dX10_one_80 rfl
theorem u123_80 : ev d 123 80 lo st h = ev d 123 81 lo (.int 1 :: st) h := (ev_s (f := mx_push (.int 1)) n123_80 rfl rfl).trans es_push
theorem n123_81 : mx_ins 123 81 = some (.isub, 1) := mx_ins_of mi123 dX10_one_81 rfl
theorem u123_81 : ev d 123 81 lo st h = evI d 123 81 82 lo st h .isub := ev_u n123_81 rfl
theorem n123_82 : mx_ins 123 82 = some ((.putfield 116), 3) := mx_ins_of mi123 dX10_one_82 rfl
theorem u123_82 : ev d 123 82 lo st h = evS (mx_pf 10 116 false) d 123 85 lo st h := ev_s n123_82 rfl rfl
theorem n123_85 : mx_ins 123 85 = some ((.goto 63), 3) := mx_ins_of mi123 dX10_one_85 rfl
theorem u123_85 : ev d 123 85 lo st h = ev d 123 148 lo st h := ev_goto n123_85 rfl
theorem n123_88 : mx_ins 123 88 = some ((.aload_n 0), 1) := mx_ins_of mi123 dX10_one_88 rfl
theorem u123_88 : ev d 123 88 lo st h = evS (mx_ldA 0) d 123 89 lo st h := ev_s n123_88 rfl rfl
theorem n123_89 : mx_ins 123 89 = some ((.invokevirtual 129), 3) := mx_ins_of mi123 dX10_one_89 rfl
theorem u123_89 : ev d 123 89 lo st h = evIn d 123 89 92 10 129 1 false lo st h := ev_inv n123_89 rfl rfl ow123 ia10_129
theorem n123_92 : mx_ins 123 92 = some ((.istore_n 3), 1) := mx_ins_of mi123 dX10_one_92 rfl
theorem u123_92 : ev d 123 92 lo st h = evS (mx_stI 3) d 123 93 lo st h := ev_s n123_92 rfl rfl
theorem n123_93 : mx_ins 123 93 = some ((.aload_n 0), 1) := mx_ins_of mi123 dX10_one_93 rfl
theorem u123_93 : ev d 123 93 lo st h = evS (mx_ldA 0) d 123 94 lo st h := ev_s n123_93 rfl rfl
theorem n123_94 : mx_ins 123 94 = some ((.invokevirtual 65), 3) := mx_ins_of mi123 dX10_one_94 rfl
theorem u123_94 : ev d 123 94 lo st h = evIn d 123 94 97 10 65 1 false lo st h := ev_inv n123_94 rfl rfl ow123 ia10_65
theorem n123_97 : mx_ins 123 97 = some ((.istore 4), 2) := mx_ins_of mi123 dX10_one_97 rfl
theorem u123_97 : ev d 123 97 lo st h = evS (mx_stI 4) d 123 99 lo st h := ev_s n123_97 rfl rfl
theorem n123_99 : mx_ins 123 99 = some ((.aload_n 0), 1) := mx_ins_of mi123 dX10_one_99 rfl
theorem u123_99 : ev d 123 99 lo st h = evS (mx_ldA 0) d 123 100 lo st h := ev_s n123_99 rfl rfl
theorem n123_100 : mx_ins 123 100 = some ((.iload 4), 2) := mx_ins_of mi123 dX10_one_100 rfl
theorem u123_100 : ev d 123 100 lo st h = evS (mx_ldI 4) d 123 102 lo st h := ev_s n123_100 rfl rfl
theorem n123_102 : mx_ins 123 102 = some ((.bipush 60), 2) := mx_ins_of mi123 dX10_one_102 rfl
theorem u123_102 : ev d 123 102 lo st h = ev d 123 104 lo (.int 60 :: st) h := (ev_s (f := mx_push (.int 60)) n123_102 rfl rfl).trans es_push
theorem n123_104 : mx_ins 123 104 = some ((.if_icmp .eq 17), 3) := mx_ins_of mi123 dX10_one_104 rfl
theorem u123_104 : ev d 123 104 lo st h = evK .eq d 123 121 107 lo st h := ev_ic n123_104 rfl rfl
theorem n123_107 : mx_ins 123 107 = some ((.iload 4), 2) := mx_ins_of mi123 dX10_one_107 rfl
theorem u123_107 : ev d 123 107 lo st h = evS (mx_ldI 4) d 123 109 lo st h := ev_s n123_107 rfl rfl
theorem n123_109 : mx_ins 123 109 = some ((.bipush 61), 2) := mx_ins_of mi123 dX10_one_109 rfl
theorem u123_109 : ev d 123 109 lo st h = ev d 123 111 lo (.int 61 :: st) h := (ev_s (f := mx_push (.int 61)) n123_109 rfl rfl).trans es_push
theorem n123_111 : mx_ins 123 111 = some ((.if_icmp .eq 10), 3) := mx_ins_of mi123 dX10_one_111 rfl
theorem u123_111 : ev d 123 111 lo st h = evK .eq d 123 121 114 lo st h := ev_ic n123_111 rfl rfl
theorem n123_114 : mx_ins 123 114 = some ((.iload 4), 2) := mx_ins_of mi123 dX10_one_114 rfl
theorem u123_114 : ev d 123 114 lo st h = evS (mx_ldI 4) d 123 116 lo st h := ev_s n123_114 rfl rfl
theorem n123_116 : mx_ins 123 116 = some ((.bipush 62), 2) := mx_ins_of mi123 dX10_one_116 rfl
theorem u123_116 : ev d 123 116 lo st h = ev d 123 118 lo (.int 62 :: st) h := (ev_s (f := mx_push (.int 62)) n123_116 rfl rfl).trans es_push
theorem n123_118 : mx_ins 123 118 = some ((.if_icmp .ne 7), 3) := mx_ins_of mi123 dX10_one_118 rfl
theorem u123_118 : ev d 123 118 lo st h = evK .ne d 123 125 121 lo st h := ev_ic n123_118 rfl rfl
theorem n123_121 : mx_ins 123 121 = some ((.iconst 1), 1) := mx_ins_of mi123 dX10_one_121 rfl
theorem u123_121 : ev d 123 121 lo st h = ev d 123 122 lo (.int 1 :: st) h := (ev_s (f := mx_push (.int 1)) n123_121 rfl rfl).trans es_push
theorem n123_122 : mx_ins 123 122 = some ((.goto 4), 3) := mx_ins_of mi123 dX10_one_122 rfl
theorem u123_122 : ev d 123 122 lo st h = ev d 123 126 lo st h := ev_goto n123_122 rfl
theorem n123_125 : mx_ins 123 125 = some ((.iconst 0), 1) := mx_ins_of mi123 dX10_one_125 rfl
theorem u123_125 : ev d 123 125 lo st h = ev d 123 126 lo (.int 0 :: st) h := (ev_s (f := mx_push (.int 0)) n123_125 rfl rfl).trans es_push
theorem n123_126 : mx_ins 123 126 = some ((.invokevirtual 94), 3) := mx_ins_of mi123 dX10_one_126 rfl
theorem u123_126 : ev d 123 126 lo st h = evIn d 123 126 129 10 94 2 false lo st h := ev_inv n123_126 rfl rfl ow123 ia10_94
theorem n123_129 : mx_ins 123 129 = some ((.aload_n 0), 1) := mx_ins_of mi123 dX10_one_129 rfl
theorem u123_129 : ev d 123 129 lo st h = evS (mx_ldA 0) d 123 130 lo st h := ev_s n123_129 rfl rfl
theorem n123_130 : mx_ins 123 130 = some ((.invokevirtual 91), 3) := mx_ins_of mi123 dX10_one_130 rfl
theorem u123_130 : ev d 123 130 lo st h = evIn d 123 130 133 10 91 1 false lo st h := ev_inv n123_130 rfl rfl ow123 ia10_91
theorem n123_133 : mx_ins 123 133 = some ((.new 132), 3) := mx_ins_of mi123 dX10_one_133 rfl
theorem u123_133 : ev d 123 133 lo st h = evS (mx_nw 10 132) d 123 136 lo st h := ev_s n123_133 rfl rfl
theorem n123_136 : mx_ins 123 136 = some (.dup, 1) := mx_ins_of mi123 dX10_one_136 rfl
theorem u123_136 : ev d 123 136 lo st h = evI d 123 136 137 lo st h .dup := ev_u n123_136 rfl
theorem n123_137 : mx_ins 123 137 = some ((.iload_n 3), 1) := mx_ins_of mi123 dX10_one_137 rfl
theorem u123_137 : ev d 123 137 lo st h = evS (mx_ldI 3) d 123 138 lo st h := ev_s n123_137 rfl rfl
theorem n123_138 : mx_ins 123 138 = some ((.iload 4), 2) := mx_ins_of mi123 dX10_one_138 rfl
theorem u123_138 : ev d 123 138 lo st h = evS (mx_ldI 4) d 123 140 lo st h := ev_s n123_138 rfl rfl
theorem n123_140 : mx_ins 123 140 = some ((.aload_n 0), 1) := mx_ins_of mi123 dX10_one_140 rfl
theorem u123_140 : ev d 123 140 lo st h = evS (mx_ldA 0) d 123 141 lo st h := ev_s n123_140 rfl rfl
theorem n123_141 : mx_ins 123 141 = some ((.invokevirtual 129), 3) := mx_ins_of mi123 dX10_one_141 rfl
theorem u123_141 : ev d 123 141 lo st h = evIn d 123 141 144 10 129 1 false lo st h := ev_inv n123_141 rfl rfl ow123 ia10_129
theorem n123_144 : mx_ins 123 144 = some ((.invokespecial 134), 3) := mx_ins_of mi123 dX10_one_144 rfl
theorem u123_144 : ev d 123 144 lo st h = evIn d 123 144 147 10 134 4 false lo st h := ev_inv n123_144 rfl rfl ow123 ia10_134
theorem n123_147 : mx_ins 123 147 = some ((.astore_n 2), 1) := mx_ins_of mi123 dX10_one_147 rfl
theorem u123_147 : ev d 123 147 lo st h = evS (mx_stA 2) d 123 148 lo st h := ev_s n123_147 rfl rfl
theorem n123_148 : mx_ins 123 148 = some ((.iload_n 1), 1) := mx_ins_of mi123 dX10_one_148 rfl
theorem u123_148 : ev d 123 148 lo st h = evS (mx_ldI 1) d 123 149 lo st h := ev_s n123_148 rfl rfl
theorem n123_149 : mx_ins 123 149 = some ((.ifCond .eq 14), 3) := mx_ins_of mi123 dX10_one_149 rfl
theorem u123_149 : ev d 123 149 lo st h = evJ .eq d 123 163 152 lo st h := ev_if n123_149 rfl rfl
theorem n123_152 : mx_ins 123 152 = some ((.new 137), 3) := mx_ins_of mi123 dX10_one_152 rfl
theorem u123_152 : ev d 123 152 lo st h = evS (mx_nw 10 137) d 123 155 lo st h := ev_s n123_152 rfl rfl
theorem n123_155 : mx_ins 123 155 = some (.dup, 1) := mx_ins_of mi123 dX10_one_155 rfl
theorem u123_155 : ev d 123 155 lo st h = evI d 123 155 156 lo st h .dup := ev_u n123_155 rfl
theorem n123_156 : mx_ins 123 156 = some ((.aload_n 2), 1) := mx_ins_of mi123 dX10_one_156 rfl
theorem u123_156 : ev d 123 156 lo st h = evS (mx_ldA 2) d 123 157 lo st h := ev_s n123_156 rfl rfl
theorem n123_157 : mx_ins 123 157 = some ((.invokespecial 139), 3) := mx_ins_of mi123 dX10_one_157 rfl
theorem u123_157 : ev d 123 157 lo st h = evIn d 123 157 160 10 139 2 false lo st h := ev_inv n123_157 rfl rfl ow123 ia10_139
theorem n123_160 : mx_ins 123 160 = some ((.goto 4), 3) := mx_ins_of mi123 dX10_one_160 rfl
theorem u123_160 : ev d 123 160 lo st h = ev d 123 164 lo st h := ev_goto n123_160 rfl
theorem n123_163 : mx_ins 123 163 = some ((.aload_n 2), 1) := mx_ins_of mi123 dX10_one_163 rfl
theorem u123_163 : ev d 123 163 lo st h = evS (mx_ldA 2) d 123 164 lo st h := ev_s n123_163 rfl rfl
theorem n123_164 : mx_ins 123 164 = some (.areturn, 1) := mx_ins_of mi123 dX10_one_164 rfl
theorem u123_164 : ev d 123 164 lo st h = evI d 123 164 165 lo st h .areturn := ev_u n123_164 rfl
theorem mi124 : mx_mi 124 = some (yX10_may, cX10_may, 2, (Option.some Jvm.ClassFile.FieldType.boolean), 10, 2, []) := rfl
theorem ow124 : mx_own 124 = 10 := mx_mi_own mi124
theorem mm124 : mx_max 124 = 2 := mx_mi_max mi124
theorem rt124 : mx_ret 124 = (Option.some Jvm.ClassFile.FieldType.boolean) := mx_mi_ret mi124
theorem hn124 : mx_hnd 124 = [] := mx_mi_hnd mi124
theorem n124_0 : mx_ins 124 0 = some ((.aload_n 0), 1) := mx_ins_of mi124 dX10_may_0 rfl
theorem u124_0 : ev d 124 0 lo st h = evS (mx_ldA 0) d 124 1 lo st h := ev_s n124_0 rfl rfl
theorem n124_1 : mx_ins 124 1 = some ((.aload_n 1), 1) := mx_ins_of mi124 dX10_may_1 rfl
theorem u124_1 : ev d 124 1 lo st h = evS (mx_ldA 1) d 124 2 lo st h := ev_s n124_1 rfl rfl
theorem n124_2 : mx_ins 124 2 = some ((.invokevirtual 87), 3) := mx_ins_of mi124 dX10_may_2 rfl
theorem u124_2 : ev d 124 2 lo st h = evIn d 124 2 5 10 87 2 false lo st h := ev_inv n124_2 rfl rfl ow124 ia10_87
theorem n124_5 : mx_ins 124 5 = some ((.ifCond .ne 5), 3) := mx_ins_of mi124 dX10_may_5 rfl
theorem u124_5 : ev d 124 5 lo st h = evJ .ne d 124 10 8 lo st h := ev_if n124_5 rfl rfl
theorem n124_8 : mx_ins 124 8 = some ((.iconst 0), 1) := mx_ins_of mi124 dX10_may_8 rfl
theorem u124_8 : ev d 124 8 lo st h = ev d 124 9 lo (.int 0 :: st) h := (ev_s (f := mx_push (.int 0)) n124_8 rfl rfl).trans es_push
theorem n124_9 : mx_ins 124 9 = some (.ireturn, 1) := mx_ins_of mi124 dX10_may_9 rfl
theorem u124_9 : ev d 124 9 lo st h = evI d 124 9 10 lo st h .ireturn := ev_u n124_9 rfl
theorem n124_10 : mx_ins 124 10 = some ((.aload_n 0), 1) := mx_ins_of mi124 dX10_may_10 rfl
theorem u124_10 : ev d 124 10 lo st h = evS (mx_ldA 0) d 124 11 lo st h := ev_s n124_10 rfl rfl
theorem n124_11 : mx_ins 124 11 = some ((.invokevirtual 91), 3) := mx_ins_of mi124 dX10_may_11 rfl
theorem u124_11 : ev d 124 11 lo st h = evIn d 124 11 14 10 91 1 false lo st h := ev_inv n124_11 rfl rfl ow124 ia10_91
theorem n124_14 : mx_ins 124 14 = some ((.iconst 1), 1) := mx_ins_of mi124 dX10_may_14 rfl
theorem u124_14 : ev d 124 14 lo st h = ev d 124 15 lo (.int 1 :: st) h := (ev_s (f := mx_push (.int 1)) n124_14 rfl rfl).trans es_push
theorem n124_15 : mx_ins 124 15 = some (.ireturn, 1) := mx_ins_of mi124 dX10_may_15 rfl
theorem u124_15 : ev d 124 15 lo st h = evI d 124 15 16 lo st h .ireturn := ev_u n124_15 rfl
theorem mi125 : mx_mi 125 = some (yX10_value, cX10_value, 2, (Option.some Jvm.ClassFile.FieldType.int), 10, 1, []) := rfl
theorem ow125 : mx_own 125 = 10 := mx_mi_own mi125
theorem mm125 : mx_max 125 = 2 := mx_mi_max mi125
theorem rt125 : mx_ret 125 = (Option.some Jvm.ClassFile.FieldType.int) := mx_mi_ret mi125
theorem hn125 : mx_hnd 125 = [] := mx_mi_hnd mi125
theorem n125_0 : mx_ins 125 0 = some ((.aload_n 0), 1) := mx_ins_of mi125 dX10_value_0 rfl
theorem u125_0 : ev d 125 0 lo st h = evS (mx_ldA 0) d 125 1 lo st h := ev_s n125_0 rfl rfl
theorem n125_1 : mx_ins 125 1 = some ((.invokevirtual 65), 3) := mx_ins_of mi125 dX10_value_1 rfl
theorem u125_1 : ev d 125 1 lo st h = evIn d 125 1 4 10 65 1 false lo st h := ev_inv n125_1 rfl rfl ow125 ia10_65
theorem n125_4 : mx_ins 125 4 = some ((.invokestatic 73), 3) := mx_ins_of mi125 dX10_value_4 rfl
theorem u125_4 : ev d 125 4 lo st h = evIn d 125 4 7 10 73 1 true lo st h := ev_inv n125_4 rfl rfl ow125 ia10_73
theorem n125_7 : mx_ins 125 7 = some ((.ifCond .eq 12), 3) := mx_ins_of mi125 dX10_value_7 rfl
theorem u125_7 : ev d 125 7 lo st h = evJ .eq d 125 19 10 lo st h := ev_if n125_7 rfl rfl
theorem n125_10 : mx_ins 125 10 = some ((.aload_n 0), 1) := mx_ins_of mi125 dX10_value_10 rfl
theorem u125_10 : ev d 125 10 lo st h = evS (mx_ldA 0) d 125 11 lo st h := ev_s n125_10 rfl rfl
theorem n125_11 : mx_ins 125 11 = some ((.iconst 0), 1) := mx_ins_of mi125 dX10_value_11 rfl
theorem u125_11 : ev d 125 11 lo st h = ev d 125 12 lo (.int 0 :: st) h := (ev_s (f := mx_push (.int 0)) n125_11 rfl rfl).trans es_push
theorem n125_12 : mx_ins 125 12 = some ((.sipush 9999), 3) := mx_ins_of mi125 dX10_value_12 rfl
theorem u125_12 : ev d 125 12 lo st h = ev d 125 15 lo (.int 9999 :: st) h := (ev_s (f := mx_push (.int 9999)) n125_12 rfl rfl).trans es_push
theorem n125_15 : mx_ins 125 15 = some ((.invokevirtual 106), 3) := mx_ins_of mi125 dX10_value_15 rfl
theorem u125_15 : ev d 125 15 lo st h = evIn d 125 15 18 10 106 3 false lo st h := ev_inv n125_15 rfl rfl ow125 ia10_106
theorem n125_18 : mx_ins 125 18 = some (.ireturn, 1) := mx_ins_of mi125 dX10_value_18 rfl
theorem u125_18 : ev d 125 18 lo st h = evI d 125 18 19 lo st h .ireturn := ev_u n125_18 rfl
theorem n125_19 : mx_ins 125 19 = some ((.iconst 0), 1) := mx_ins_of mi125 dX10_value_19 rfl
theorem u125_19 : ev d 125 19 lo st h = ev d 125 20 lo (.int 0 :: st) h := (ev_s (f := mx_push (.int 0)) n125_19 rfl rfl).trans es_push
theorem n125_20 : mx_ins 125 20 = some ((.istore_n 1), 1) := mx_ins_of mi125 dX10_value_20 rfl
theorem u125_20 : ev d 125 20 lo st h = evS (mx_stI 1) d 125 21 lo st h := ev_s n125_20 rfl rfl
theorem n125_21 : mx_ins 125 21 = some ((.iload_n 1), 1) := mx_ins_of mi125 dX10_value_21 rfl
theorem u125_21 : ev d 125 21 lo st h = evS (mx_ldI 1) d 125 22 lo st h := ev_s n125_21 rfl rfl
theorem n125_22 : mx_ins 125 22 = some ((.aload_n 0), 1) := mx_ins_of mi125 dX10_value_22 rfl
theorem u125_22 : ev d 125 22 lo st h = evS (mx_ldA 0) d 125 23 lo st h := ev_s n125_22 rfl rfl
theorem n125_23 : mx_ins 125 23 = some ((.getfield 23), 3) := mx_ins_of mi125 dX10_value_23 rfl
theorem u125_23 : ev d 125 23 lo st h = evS (mx_gf 10 23) d 125 26 lo st h := ev_s n125_23 rfl rfl
theorem n125_26 : mx_ins 125 26 = some (.arraylength, 1) := mx_ins_of mi125 dX10_value_26 rfl
theorem u125_26 : ev d 125 26 lo st h = evI d 125 26 27 lo st h .arraylength := ev_u n125_26 rfl
theorem n125_27 : mx_ins 125 27 = some ((.if_icmp .ge 22), 3) := mx_ins_of mi125 dX10_value_27 rfl
theorem u125_27 : ev d 125 27 lo st h = evK .ge d 125 49 30 lo st h := ev_ic n125_27 rfl rfl
theorem n125_30 : mx_ins 125 30 = some ((.aload_n 0), 1) := mx_ins_of mi125 dX10_value_30 rfl
theorem u125_30 : ev d 125 30 lo st h = evS (mx_ldA 0) d 125 31 lo st h := ev_s n125_30 rfl rfl
theorem n125_31 : mx_ins 125 31 = some ((.aload_n 0), 1) := mx_ins_of mi125 dX10_value_31 rfl
theorem u125_31 : ev d 125 31 lo st h = evS (mx_ldA 0) d 125 32 lo st h := ev_s n125_31 rfl rfl
theorem n125_32 : mx_ins 125 32 = some ((.getfield 23), 3) := mx_ins_of mi125 dX10_value_32 rfl
theorem u125_32 : ev d 125 32 lo st h = evS (mx_gf 10 23) d 125 35 lo st h := ev_s n125_32 rfl rfl
theorem n125_35 : mx_ins 125 35 = some ((.iload_n 1), 1) := mx_ins_of mi125 dX10_value_35 rfl
theorem u125_35 : ev d 125 35 lo st h = evS (mx_ldI 1) d 125 36 lo st h := ev_s n125_35 rfl rfl
theorem n125_36 : mx_ins 125 36 = some (.aaload, 1) := mx_ins_of mi125 dX10_value_36 rfl
theorem u125_36 : ev d 125 36 lo st h = evI d 125 36 37 lo st h .aaload := ev_u n125_36 rfl
theorem n125_37 : mx_ins 125 37 = some ((.invokevirtual 87), 3) := mx_ins_of mi125 dX10_value_37 rfl
theorem u125_37 : ev d 125 37 lo st h = evIn d 125 37 40 10 87 2 false lo st h := ev_inv n125_37 rfl rfl ow125 ia10_87
theorem n125_40 : mx_ins 125 40 = some ((.ifCond .ne 9), 3) := mx_ins_of mi125 dX10_value_40 rfl
theorem u125_40 : ev d 125 40 lo st h = evJ .ne d 125 49 43 lo st h := ev_if n125_40 rfl rfl
theorem n125_43 : mx_ins 125 43 = some ((.iinc 1 1), 3) := mx_ins_of mi125 dX10_value_43 rfl
theorem u125_43 : ev d 125 43 lo st h = evS (mx_inc 1 (1)) d 125 46 lo st h := ev_s n125_43 rfl rfl
theorem n125_46 : mx_ins 125 46 = some ((.goto (-25)), 3) := mx_ins_of mi125 dX10_value_46 rfl
theorem u125_46 : ev d 125 46 lo st h = ev d 125 21 lo st h := ev_goto n125_46 rfl
theorem n125_49 : mx_ins 125 49 = some ((.aload_n 0), 1) := mx_ins_of mi125 dX10_value_49 rfl
theorem u125_49 : ev d 125 49 lo st h = evS (mx_ldA 0) d 125 50 lo st h := ev_s n125_49 rfl rfl
theorem n125_50 : mx_ins 125 50 = some ((.iload_n 1), 1) := mx_ins_of mi125 dX10_value_50 rfl
theorem u125_50 : ev d 125 50 lo st h = evS (mx_ldI 1) d 125 51 lo st h := ev_s n125_50 rfl rfl
theorem n125_51 : mx_ins 125 51 = some ((.aload_n 0), 1) := mx_ins_of mi125 dX10_value_51 rfl
theorem u125_51 : ev d 125 51 lo st h = evS (mx_ldA 0) d 125 52 lo st h := ev_s n125_51 rfl rfl
theorem n125_52 : mx_ins 125 52 = some ((.getfield 23), 3) := mx_ins_of mi125 dX10_value_52 rfl
theorem u125_52 : ev d 125 52 lo st h = evS (mx_gf 10 23) d 125 55 lo st h := ev_s n125_52 rfl rfl
theorem n125_55 : mx_ins 125 55 = some (.arraylength, 1) := mx_ins_of mi125 dX10_value_55 rfl
theorem u125_55 : ev d 125 55 lo st h = evI d 125 55 56 lo st h .arraylength := ev_u n125_55 rfl
theorem n125_56 : mx_ins 125 56 = some ((.if_icmp .ge 7), 3) := mx_ins_of mi125 dX10_value_56 rfl
theorem u125_56 : ev d 125 56 lo st h = evK .ge d 125 63 59 lo st h := ev_ic n125_56 rfl rfl
theorem n125_59 : mx_ins 125 59 = some ((.iconst 1), 1) := mx_ins_of mi125 dX10_value_59 rfl
theorem u125_59 : ev d 125 59 lo st h = ev d 125 60 lo (.int 1 :: st) h := (ev_s (f := mx_push (.int 1)) n125_59 rfl rfl).trans es_push
theorem n125_60 : mx_ins 125 60 = some ((.goto 4), 3) := mx_ins_of mi125 dX10_value_60 rfl
theorem u125_60 : ev d 125 60 lo st h = ev d 125 64 lo st h := ev_goto n125_60 rfl
theorem n125_63 : mx_ins 125 63 = some ((.iconst 0), 1) := mx_ins_of mi125 dX10_value_63 rfl
theorem u125_63 : ev d 125 63 lo st h = ev d 125 64 lo (.int 0 :: st) h := (ev_s (f := mx_push (.int 0)) n125_63 rfl rfl).trans es_push
theorem n125_64 : mx_ins 125 64 = some ((.invokevirtual 94), 3) := mx_ins_of mi125 dX10_value_64 rfl
theorem u125_64 : ev d 125 64 lo st h = evIn d 125 64 67 10 94 2 false lo st h := ev_inv n125_64 rfl rfl ow125 ia10_94
theorem n125_67 : mx_ins 125 67 = some ((.aload_n 0), 1) := mx_ins_of mi125 dX10_value_67 rfl
theorem u125_67 : ev d 125 67 lo st h = evS (mx_ldA 0) d 125 68 lo st h := ev_s n125_67 rfl rfl
theorem n125_68 : mx_ins 125 68 = some ((.invokevirtual 91), 3) := mx_ins_of mi125 dX10_value_68 rfl
theorem u125_68 : ev d 125 68 lo st h = evIn d 125 68 71 10 91 1 false lo st h := ev_inv n125_68 rfl rfl ow125 ia10_91
theorem n125_71 : mx_ins 125 71 = some ((.iconst (-1)), 1) := mx_ins_of mi125 dX10_value_71 rfl
theorem u125_71 : ev d 125 71 lo st h = ev d 125 72 lo (.int (-1) :: st) h := (ev_s (f := mx_push (.int (-1))) n125_71 rfl rfl).trans es_push
theorem n125_72 : mx_ins 125 72 = some ((.iload_n 1), 1) := mx_ins_of mi125 dX10_value_72 rfl
theorem u125_72 : ev d 125 72 lo st h = evS (mx_ldI 1) d 125 73 lo st h := ev_s n125_72 rfl rfl
theorem n125_73 : mx_ins 125 73 = some (.isub, 1) := mx_ins_of mi125 dX10_value_73 rfl
theorem u125_73 : ev d 125 73 lo st h = evI d 125 73 74 lo st h .isub := ev_u n125_73 rfl
theorem n125_74 : mx_ins 125 74 = some (.ireturn, 1) := mx_ins_of mi125 dX10_value_74 rfl
theorem u125_74 : ev d 125 74 lo st h = evI d 125 74 75 lo st h .ireturn := ev_u n125_74 rfl
theorem mi126 : mx_mi 126 = some (yX10_number, cX10_number, 4, (Option.some Jvm.ClassFile.FieldType.int), 10, 3, []) := rfl
theorem ow126 : mx_own 126 = 10 := mx_mi_own mi126
theorem mm126 : mx_max 126 = 4 := mx_mi_max mi126
theorem rt126 : mx_ret 126 = (Option.some Jvm.ClassFile.FieldType.int) := mx_mi_ret mi126
theorem hn126 : mx_hnd 126 = [] := mx_mi_hnd mi126
theorem n126_0 : mx_ins 126 0 = some ((.aload_n 0), 1) := mx_ins_of mi126 dX10_number_0 rfl
theorem u126_0 : ev d 126 0 lo st h = evS (mx_ldA 0) d 126 1 lo st h := ev_s n126_0 rfl rfl
theorem n126_1 : mx_ins 126 1 = some ((.iload_n 1), 1) := mx_ins_of mi126 dX10_number_1 rfl
theorem u126_1 : ev d 126 1 lo st h = evS (mx_ldI 1) d 126 2 lo st h := ev_s n126_1 rfl rfl
theorem n126_2 : mx_ins 126 2 = some ((.iload_n 2), 1) := mx_ins_of mi126 dX10_number_2 rfl
theorem u126_2 : ev d 126 2 lo st h = evS (mx_ldI 2) d 126 3 lo st h := ev_s n126_2 rfl rfl
theorem n126_3 : mx_ins 126 3 = some ((.invokevirtual 102), 3) := mx_ins_of mi126 dX10_number_3 rfl
theorem u126_3 : ev d 126 3 lo st h = evIn d 126 3 6 10 102 3 false lo st h := ev_inv n126_3 rfl rfl ow126 ia10_102
theorem n126_6 : mx_ins 126 6 = some ((.istore_n 3), 1) := mx_ins_of mi126 dX10_number_6 rfl
theorem u126_6 : ev d 126 6 lo st h = evS (mx_stI 3) d 126 7 lo st h := ev_s n126_6 rfl rfl
theorem n126_7 : mx_ins 126 7 = some ((.aload_n 0), 1) := mx_ins_of mi126 dX10_number_7 rfl
theorem u126_7 : ev d 126 7 lo st h = evS (mx_ldA 0) d 126 8 lo st h := ev_s n126_7 rfl rfl
theorem n126_8 : mx_ins 126 8 = some ((.invokevirtual 91), 3) := mx_ins_of mi126 dX10_number_8 rfl
theorem u126_8 : ev d 126 8 lo st h = evIn d 126 8 11 10 91 1 false lo st h := ev_inv n126_8 rfl rfl ow126 ia10_91
theorem n126_11 : mx_ins 126 11 = some ((.iload_n 3), 1) := mx_ins_of mi126 dX10_number_11 rfl
theorem u126_11 : ev d 126 11 lo st h = evS (mx_ldI 3) d 126 12 lo st h := ev_s n126_11 rfl rfl
theorem n126_12 : mx_ins 126 12 = some (.ireturn, 1) := mx_ins_of mi126 dX10_number_12 rfl
theorem u126_12 : ev d 126 12 lo st h = evI d 126 12 13 lo st h .ireturn := ev_u n126_12 rfl
theorem mi127 : mx_mi 127 = some (yX10_seen, cX10_seen, 5, (Option.some Jvm.ClassFile.FieldType.int), 10, 3, []) := rfl
theorem ow127 : mx_own 127 = 10 := mx_mi_own mi127
theorem mm127 : mx_max 127 = 5 := mx_mi_max mi127
theorem rt127 : mx_ret 127 = (Option.some Jvm.ClassFile.FieldType.int) := mx_mi_ret mi127
theorem hn127 : mx_hnd 127 = [] := mx_mi_hnd mi127
theorem n127_0 : mx_ins 127 0 = some ((.aload_n 0), 1) := mx_ins_of mi127 dX10_seen_0 rfl
theorem u127_0 : ev d 127 0 lo st h = evS (mx_ldA 0) d 127 1 lo st h := ev_s n127_0 rfl rfl
theorem n127_1 : mx_ins 127 1 = some ((.aload_n 0), 1) := mx_ins_of mi127 dX10_seen_1 rfl
theorem u127_1 : ev d 127 1 lo st h = evS (mx_ldA 0) d 127 2 lo st h := ev_s n127_1 rfl rfl
theorem n127_2 : mx_ins 127 2 = some ((.invokevirtual 65), 3) := mx_ins_of mi127 dX10_seen_2 rfl
theorem u127_2 : ev d 127 2 lo st h = evIn d 127 2 5 10 65 1 false lo st h := ev_inv n127_2 rfl rfl ow127 ia10_65
theorem n127_5 : mx_ins 127 5 = some ((.invokestatic 73), 3) := mx_ins_of mi127 dX10_seen_5 rfl
theorem u127_5 : ev d 127 5 lo st h = evIn d 127 5 8 10 73 1 true lo st h := ev_inv n127_5 rfl rfl ow127 ia10_73
theorem n127_8 : mx_ins 127 8 = some ((.ifCond .eq 20), 3) := mx_ins_of mi127 dX10_seen_8 rfl
theorem u127_8 : ev d 127 8 lo st h = evJ .eq d 127 28 11 lo st h := ev_if n127_8 rfl rfl
theorem n127_11 : mx_ins 127 11 = some ((.aload_n 0), 1) := mx_ins_of mi127 dX10_seen_11 rfl
theorem u127_11 : ev d 127 11 lo st h = evS (mx_ldA 0) d 127 12 lo st h := ev_s n127_11 rfl rfl
theorem n127_12 : mx_ins 127 12 = some ((.getfield 62), 3) := mx_ins_of mi127 dX10_seen_12 rfl
theorem u127_12 : ev d 127 12 lo st h = evS (mx_gf 10 62) d 127 15 lo st h := ev_s n127_12 rfl rfl
theorem n127_15 : mx_ins 127 15 = some ((.aload_n 0), 1) := mx_ins_of mi127 dX10_seen_15 rfl
theorem u127_15 : ev d 127 15 lo st h = evS (mx_ldA 0) d 127 16 lo st h := ev_s n127_15 rfl rfl
theorem n127_16 : mx_ins 127 16 = some ((.getfield 51), 3) := mx_ins_of mi127 dX10_seen_16 rfl
theorem u127_16 : ev d 127 16 lo st h = evS (mx_gf 10 51) d 127 19 lo st h := ev_s n127_16 rfl rfl
theorem n127_19 : mx_ins 127 19 = some (.isub, 1) := mx_ins_of mi127 dX10_seen_19 rfl
theorem u127_19 : ev d 127 19 lo st h = evI d 127 19 20 lo st h .isub := ev_u n127_19 rfl
theorem n127_20 : mx_ins 127 20 = some ((.iconst 4), 1) := mx_ins_of mi127 dX10_seen_20 rfl
theorem u127_20 : ev d 127 20 lo st h = ev d 127 21 lo (.int 4 :: st) h := (ev_s (f := mx_push (.int 4)) n127_20 rfl rfl).trans es_push
theorem n127_21 : mx_ins 127 21 = some ((.if_icmp .gt 7), 3) := mx_ins_of mi127 dX10_seen_21 rfl
theorem u127_21 : ev d 127 21 lo st h = evK .gt d 127 28 24 lo st h := ev_ic n127_21 rfl rfl
theorem n127_24 : mx_ins 127 24 = some ((.iconst 1), 1) := mx_ins_of mi127 dX10_seen_24 rfl
theorem u127_24 : ev d 127 24 lo st h = ev d 127 25 lo (.int 1 :: st) h := (ev_s (f := mx_push (.int 1)) n127_24 rfl rfl).trans es_push
theorem n127_25 : mx_ins 127 25 = some ((.goto 4), 3) := mx_ins_of mi127 dX10_seen_25 rfl
theorem u127_25 : ev d 127 25 lo st h = ev d 127 29 lo st h := ev_goto n127_25 rfl
theorem n127_28 : mx_ins 127 28 = some ((.iconst 0), 1) := mx_ins_of mi127 dX10_seen_28 rfl
theorem u127_28 : ev d 127 28 lo st h = ev d 127 29 lo (.int 0 :: st) h := (ev_s (f := mx_push (.int 0)) n127_28 rfl rfl).trans es_push
theorem n127_29 : mx_ins 127 29 = some ((.invokevirtual 94), 3) := mx_ins_of mi127 dX10_seen_29 rfl
theorem u127_29 : ev d 127 29 lo st h = evIn d 127 29 32 10 94 2 false lo st h := ev_inv n127_29 rfl rfl ow127 ia10_94
theorem n127_32 : mx_ins 127 32 = some ((.iconst 0), 1) := mx_ins_of mi127 dX10_seen_32 rfl
theorem u127_32 : ev d 127 32 lo st h = ev d 127 33 lo (.int 0 :: st) h := (ev_s (f := mx_push (.int 0)) n127_32 rfl rfl).trans es_push
theorem n127_33 : mx_ins 127 33 = some ((.istore_n 3), 1) := mx_ins_of mi127 dX10_seen_33 rfl
theorem u127_33 : ev d 127 33 lo st h = evS (mx_stI 3) d 127 34 lo st h := ev_s n127_33 rfl rfl
theorem n127_34 : mx_ins 127 34 = some ((.aload_n 0), 1) := mx_ins_of mi127 dX10_seen_34 rfl
theorem u127_34 : ev d 127 34 lo st h = evS (mx_ldA 0) d 127 35 lo st h := ev_s n127_34 rfl rfl
theorem n127_35 : mx_ins 127 35 = some ((.getfield 51), 3) := mx_ins_of mi127 dX10_seen_35 rfl
theorem u127_35 : ev d 127 35 lo st h = evS (mx_gf 10 51) d 127 38 lo st h := ev_s n127_35 rfl rfl
theorem n127_38 : mx_ins 127 38 = some ((.istore 4), 2) := mx_ins_of mi127 dX10_seen_38 rfl
theorem u127_38 : ev d 127 38 lo st h = evS (mx_stI 4) d 127 40 lo st h := ev_s n127_38 rfl rfl
theorem n127_40 : mx_ins 127 40 = some ((.iload 4), 2) := mx_ins_of mi127 dX10_seen_40 rfl
theorem u127_40 : ev d 127 40 lo st h = evS (mx_ldI 4) d 127 42 lo st h := ev_s n127_40 rfl rfl
theorem n127_42 : mx_ins 127 42 = some ((.aload_n 0), 1) := mx_ins_of mi127 dX10_seen_42 rfl
theorem u127_42 : ev d 127 42 lo st h = evS (mx_ldA 0) d 127 43 lo st h := ev_s n127_42 rfl rfl
theorem n127_43 : mx_ins 127 43 = some ((.getfield 62), 3) := mx_ins_of mi127 dX10_seen_43 rfl
theorem u127_43 : ev d 127 43 lo st h = evS (mx_gf 10 62) d 127 46 lo st h := ev_s n127_43 rfl rfl
theorem n127_46 : mx_ins 127 46 = some ((.if_icmp .ge 25), 3) := mx_ins_of mi127 dX10_seen_46 rfl
theorem u127_46 : ev d 127 46 lo st h = evK .ge d 127 71 49 lo st h := ev_ic n127_46 rfl rfl
theorem n127_49 : mx_ins 127 49 = some ((.bipush 10), 2) := mx_ins_of mi127 dX10_seen_49 rfl
theorem u127_49 : ev d 127 49 lo st h = ev d 127 51 lo (.int 10 :: st) h := (ev_s (f := mx_push (.int 10)) n127_49 rfl rfl).trans es_push
theorem n127_51 : mx_ins 127 51 = some ((.iload_n 3), 1) := mx_ins_of mi127 dX10_seen_51 rfl
theorem u127_51 : ev d 127 51 lo st h = evS (mx_ldI 3) d 127 52 lo st h := ev_s n127_51 rfl rfl
theorem n127_52 : mx_ins 127 52 = some (.imul, 1) := mx_ins_of mi127 dX10_seen_52 rfl
theorem u127_52 : ev d 127 52 lo st h = evI d 127 52 53 lo st h .imul := ev_u n127_52 rfl
theorem n127_53 : mx_ins 127 53 = some ((.aload_n 0), 1) := mx_ins_of mi127 dX10_seen_53 rfl
theorem u127_53 : ev d 127 53 lo st h = evS (mx_ldA 0) d 127 54 lo st h := ev_s n127_53 rfl rfl
theorem n127_54 : mx_ins 127 54 = some ((.getfield 58), 3) := mx_ins_of mi127 dX10_seen_54 rfl
theorem u127_54 : ev d 127 54 lo st h = evS (mx_gf 10 58) d 127 57 lo st h := ev_s n127_54 rfl rfl
theorem n127_57 : mx_ins 127 57 = some ((.iload 4), 2) := mx_ins_of mi127 dX10_seen_57 rfl
theorem u127_57 : ev d 127 57 lo st h = evS (mx_ldI 4) d 127 59 lo st h := ev_s n127_57 rfl rfl
theorem n127_59 : mx_ins 127 59 = some (.baload, 1) := mx_ins_of mi127 dX10_seen_59 rfl
theorem u127_59 : ev d 127 59 lo st h = evI d 127 59 60 lo st h .baload := ev_u n127_59 rfl
theorem n127_60 : mx_ins 127 60 = some (.iadd, 1) := mx_ins_of mi127 dX10_seen_60 rfl
theorem u127_60 : ev d 127 60 lo st h = evI d 127 60 61 lo st h .iadd := ev_u n127_60 rfl
theorem n127_61 : mx_ins 127 61 = some ((.bipush 48), 2) := mx_ins_of mi127 dX10_seen_61 rfl
theorem u127_61 : ev d 127 61 lo st h = ev d 127 63 lo (.int 48 :: st) h := (ev_s (f := mx_push (.int 48)) n127_61 rfl rfl).trans es_push
theorem n127_63 : mx_ins 127 63 = some (.isub, 1) := mx_ins_of mi127 dX10_seen_63 rfl
theorem u127_63 : ev d 127 63 lo st h = evI d 127 63 64 lo st h .isub := ev_u n127_63 rfl
theorem n127_64 : mx_ins 127 64 = some ((.istore_n 3), 1) := mx_ins_of mi127 dX10_seen_64 rfl
theorem u127_64 : ev d 127 64 lo st h = evS (mx_stI 3) d 127 65 lo st h := ev_s n127_64 rfl rfl
theorem n127_65 : mx_ins 127 65 = some ((.iinc 4 1), 3) := mx_ins_of mi127 dX10_seen_65 rfl
theorem u127_65 : ev d 127 65 lo st h = evS (mx_inc 4 (1)) d 127 68 lo st h := ev_s n127_65 rfl rfl
theorem n127_68 : mx_ins 127 68 = some ((.goto (-28)), 3) := mx_ins_of mi127 dX10_seen_68 rfl
theorem u127_68 : ev d 127 68 lo st h = ev d 127 40 lo st h := ev_goto n127_68 rfl
theorem n127_71 : mx_ins 127 71 = some ((.aload_n 0), 1) := mx_ins_of mi127 dX10_seen_71 rfl
theorem u127_71 : ev d 127 71 lo st h = evS (mx_ldA 0) d 127 72 lo st h := ev_s n127_71 rfl rfl
theorem n127_72 : mx_ins 127 72 = some ((.iload_n 3), 1) := mx_ins_of mi127 dX10_seen_72 rfl
theorem u127_72 : ev d 127 72 lo st h = evS (mx_ldI 3) d 127 73 lo st h := ev_s n127_72 rfl rfl
theorem n127_73 : mx_ins 127 73 = some ((.iload_n 1), 1) := mx_ins_of mi127 dX10_seen_73 rfl
theorem u127_73 : ev d 127 73 lo st h = evS (mx_ldI 1) d 127 74 lo st h := ev_s n127_73 rfl rfl
theorem n127_74 : mx_ins 127 74 = some ((.iload_n 2), 1) := mx_ins_of mi127 dX10_seen_74 rfl
theorem u127_74 : ev d 127 74 lo st h = evS (mx_ldI 2) d 127 75 lo st h := ev_s n127_74 rfl rfl
theorem n127_75 : mx_ins 127 75 = some ((.invokestatic 98), 3) := mx_ins_of mi127 dX10_seen_75 rfl
theorem u127_75 : ev d 127 75 lo st h = evIn d 127 75 78 10 98 3 true lo st h := ev_inv n127_75 rfl rfl ow127 ia10_98
theorem n127_78 : mx_ins 127 78 = some ((.invokevirtual 94), 3) := mx_ins_of mi127 dX10_seen_78 rfl
theorem u127_78 : ev d 127 78 lo st h = evIn d 127 78 81 10 94 2 false lo st h := ev_inv n127_78 rfl rfl ow127 ia10_94
theorem n127_81 : mx_ins 127 81 = some ((.iload_n 3), 1) := mx_ins_of mi127 dX10_seen_81 rfl
theorem u127_81 : ev d 127 81 lo st h = evS (mx_ldI 3) d 127 82 lo st h := ev_s n127_81 rfl rfl
theorem n127_82 : mx_ins 127 82 = some (.ireturn, 1) := mx_ins_of mi127 dX10_seen_82 rfl
theorem u127_82 : ev d 127 82 lo st h = evI d 127 82 83 lo st h .ireturn := ev_u n127_82 rfl
theorem mi128 : mx_mi 128 = some (yX11_init, cX11_init, 1, (none : Option FieldType), 11, 1, []) := rfl
theorem ow128 : mx_own 128 = 11 := mx_mi_own mi128
theorem mm128 : mx_max 128 = 1 := mx_mi_max mi128
theorem rt128 : mx_ret 128 = (none : Option FieldType) := mx_mi_ret mi128
theorem hn128 : mx_hnd 128 = [] := mx_mi_hnd mi128
theorem n128_0 : mx_ins 128 0 = some ((.aload_n 0), 1) := mx_ins_of mi128 dX11_init_0 rfl
theorem u128_0 : ev d 128 0 lo st h = evS (mx_ldA 0) d 128 1 lo st h := ev_s n128_0 rfl rfl
theorem n128_1 : mx_ins 128 1 = some (.aconst_null, 1) := mx_ins_of mi128 dX11_init_1 rfl
theorem u128_1 : ev d 128 1 lo st h = evI d 128 1 2 lo st h .aconst_null := ev_u n128_1 rfl
theorem n128_2 : mx_ins 128 2 = some (.aconst_null, 1) := mx_ins_of mi128 dX11_init_2 rfl
theorem u128_2 : ev d 128 2 lo st h = evI d 128 2 3 lo st h .aconst_null := ev_u n128_2 rfl
theorem n128_3 : mx_ins 128 3 = some ((.iconst 0), 1) := mx_ins_of mi128 dX11_init_3 rfl
theorem u128_3 : ev d 128 3 lo st h = ev d 128 4 lo (.int 0 :: st) h := (ev_s (f := mx_push (.int 0)) n128_3 rfl rfl).trans es_push
theorem n128_4 : mx_ins 128 4 = some ((.iconst 0), 1) := mx_ins_of mi128 dX11_init_4 rfl
theorem u128_4 : ev d 128 4 lo st h = ev d 128 5 lo (.int 0 :: st) h := (ev_s (f := mx_push (.int 0)) n128_4 rfl rfl).trans es_push
theorem n128_5 : mx_ins 128 5 = some ((.invokespecial 1), 3) := mx_ins_of mi128 dX11_init_5 rfl
theorem u128_5 : ev d 128 5 lo st h = evIn d 128 5 8 11 1 5 true lo st h := ev_inv n128_5 rfl rfl ow128 ia11_1
theorem n128_8 : mx_ins 128 8 = some (.return_, 1) := mx_ins_of mi128 dX11_init_8 rfl
theorem u128_8 : ev d 128 8 lo st h = evI d 128 8 9 lo st h .return_ := ev_u n128_8 rfl
theorem mi129 : mx_mi 129 = some (yX11_at, cX11_at, 2, (Option.some (Jvm.ClassFile.FieldType.object "ColdBox$Fault")), 11, 2, []) := rfl
theorem ow129 : mx_own 129 = 11 := mx_mi_own mi129
theorem mm129 : mx_max 129 = 2 := mx_mi_max mi129
theorem rt129 : mx_ret 129 = (Option.some (Jvm.ClassFile.FieldType.object "ColdBox$Fault")) := mx_mi_ret mi129
theorem hn129 : mx_hnd 129 = [] := mx_mi_hnd mi129
theorem rr129 : mx_rr 129 = true := by unfold mx_rr; rw [rt129]
theorem n129_0 : mx_ins 129 0 = some ((.aload_n 0), 1) := mx_ins_of mi129 dX11_at_0 rfl
theorem u129_0 : ev d 129 0 lo st h = evS (mx_ldA 0) d 129 1 lo st h := ev_s n129_0 rfl rfl
theorem n129_1 : mx_ins 129 1 = some ((.iload_n 1), 1) := mx_ins_of mi129 dX11_at_1 rfl
theorem u129_1 : ev d 129 1 lo st h = evS (mx_ldI 1) d 129 2 lo st h := ev_s n129_1 rfl rfl
theorem n129_2 : mx_ins 129 2 = some ((.putfield 7), 3) := mx_ins_of mi129 dX11_at_2 rfl
theorem u129_2 : ev d 129 2 lo st h = evS (mx_pf 11 7 false) d 129 5 lo st h := ev_s n129_2 rfl rfl
theorem n129_5 : mx_ins 129 5 = some ((.aload_n 0), 1) := mx_ins_of mi129 dX11_at_5 rfl
theorem u129_5 : ev d 129 5 lo st h = evS (mx_ldA 0) d 129 6 lo st h := ev_s n129_5 rfl rfl
theorem n129_6 : mx_ins 129 6 = some (.areturn, 1) := mx_ins_of mi129 dX11_at_6 rfl
theorem u129_6 : ev d 129 6 lo st h = evI d 129 6 7 lo st h .areturn := ev_u n129_6 rfl
theorem mi130 : mx_mi 130 = some (yX12_init, cX12_init, 2, (none : Option FieldType), 12, 2, []) := rfl
theorem ow130 : mx_own 130 = 12 := mx_mi_own mi130
theorem mm130 : mx_max 130 = 2 := mx_mi_max mi130
theorem rt130 : mx_ret 130 = (none : Option FieldType) := mx_mi_ret mi130
theorem hn130 : mx_hnd 130 = [] := mx_mi_hnd mi130
theorem n130_0 : mx_ins 130 0 = some ((.aload_n 0), 1) := mx_ins_of mi130 dX12_init_0 rfl
theorem u130_0 : ev d 130 0 lo st h = evS (mx_ldA 0) d 130 1 lo st h := ev_s n130_0 rfl rfl
theorem n130_1 : mx_ins 130 1 = some ((.aload_n 1), 1) := mx_ins_of mi130 dX12_init_1 rfl
theorem u130_1 : ev d 130 1 lo st h = evS (mx_ldA 1) d 130 2 lo st h := ev_s n130_1 rfl rfl
theorem n130_2 : mx_ins 130 2 = some ((.putfield 3), 3) := mx_ins_of mi130 dX12_init_2 rfl
theorem u130_2 : ev d 130 2 lo st h = evS (mx_pf 12 3 true) d 130 5 lo st h := ev_s n130_2 rfl rfl
theorem n130_5 : mx_ins 130 5 = some ((.aload_n 0), 1) := mx_ins_of mi130 dX12_init_5 rfl
theorem u130_5 : ev d 130 5 lo st h = evS (mx_ldA 0) d 130 6 lo st h := ev_s n130_5 rfl rfl
theorem n130_6 : mx_ins 130 6 = some ((.invokespecial 9), 3) := mx_ins_of mi130 dX12_init_6 rfl
theorem u130_6 : ev d 130 6 lo st h = evIn d 130 6 9 12 9 1 true lo st h := ev_inv n130_6 rfl rfl ow130 ia12_9
theorem n130_9 : mx_ins 130 9 = some (.return_, 1) := mx_ins_of mi130 dX12_init_9 rfl
theorem u130_9 : ev d 130 9 lo st h = evI d 130 9 10 lo st h .return_ := ev_u n130_9 rfl
theorem mi131 : mx_mi 131 = some (yX12_goes, cX12_goes, 6, (Option.some Jvm.ClassFile.FieldType.boolean), 12, 2, []) := rfl
theorem ow131 : mx_own 131 = 12 := mx_mi_own mi131
theorem mm131 : mx_max 131 = 6 := mx_mi_max mi131
theorem rt131 : mx_ret 131 = (Option.some Jvm.ClassFile.FieldType.boolean) := mx_mi_ret mi131
theorem hn131 : mx_hnd 131 = [] := mx_mi_hnd mi131
theorem n131_0 : mx_ins 131 0 = some ((.aload_n 1), 1) := mx_ins_of mi131 dX12_goes_0 rfl
theorem u131_0 : ev d 131 0 lo st h = evS (mx_ldA 1) d 131 1 lo st h := ev_s n131_0 rfl rfl
theorem n131_1 : mx_ins 131 1 = some ((.invokevirtual 15), 3) := mx_ins_of mi131 dX12_goes_1 rfl
theorem u131_1 : ev d 131 1 lo st h = evIn d 131 1 4 12 15 1 false lo st h := ev_inv n131_1 rfl rfl ow131 ia12_15
theorem n131_4 : mx_ins 131 4 = some ((.istore_n 2), 1) := mx_ins_of mi131 dX12_goes_4 rfl
theorem u131_4 : ev d 131 4 lo st h = evS (mx_stI 2) d 131 5 lo st h := ev_s n131_4 rfl rfl
theorem n131_5 : mx_ins 131 5 = some ((.aload_n 0), 1) := mx_ins_of mi131 dX12_goes_5 rfl
theorem u131_5 : ev d 131 5 lo st h = evS (mx_ldA 0) d 131 6 lo st h := ev_s n131_5 rfl rfl
theorem n131_6 : mx_ins 131 6 = some ((.iconst 0), 1) := mx_ins_of mi131 dX12_goes_6 rfl
theorem u131_6 : ev d 131 6 lo st h = ev d 131 7 lo (.int 0 :: st) h := (ev_s (f := mx_push (.int 0)) n131_6 rfl rfl).trans es_push
theorem n131_7 : mx_ins 131 7 = some ((.putfield 21), 3) := mx_ins_of mi131 dX12_goes_7 rfl
theorem u131_7 : ev d 131 7 lo st h = evS (mx_pf 12 21 false) d 131 10 lo st h := ev_s n131_7 rfl rfl
theorem n131_10 : mx_ins 131 10 = some ((.iconst 1), 1) := mx_ins_of mi131 dX12_goes_10 rfl
theorem u131_10 : ev d 131 10 lo st h = ev d 131 11 lo (.int 1 :: st) h := (ev_s (f := mx_push (.int 1)) n131_10 rfl rfl).trans es_push
theorem n131_11 : mx_ins 131 11 = some ((.istore_n 3), 1) := mx_ins_of mi131 dX12_goes_11 rfl
theorem u131_11 : ev d 131 11 lo st h = evS (mx_stI 3) d 131 12 lo st h := ev_s n131_11 rfl rfl
theorem n131_12 : mx_ins 131 12 = some ((.iload_n 3), 1) := mx_ins_of mi131 dX12_goes_12 rfl
theorem u131_12 : ev d 131 12 lo st h = evS (mx_ldI 3) d 131 13 lo st h := ev_s n131_12 rfl rfl
theorem n131_13 : mx_ins 131 13 = some ((.ifCond .eq 132), 3) := mx_ins_of mi131 dX12_goes_13 rfl
theorem u131_13 : ev d 131 13 lo st h = evJ .eq d 131 145 16 lo st h := ev_if n131_13 rfl rfl
theorem n131_16 : mx_ins 131 16 = some ((.aload_n 1), 1) := mx_ins_of mi131 dX12_goes_16 rfl
theorem u131_16 : ev d 131 16 lo st h = evS (mx_ldA 1) d 131 17 lo st h := ev_s n131_16 rfl rfl
theorem n131_17 : mx_ins 131 17 = some ((.getfield 25), 3) := mx_ins_of mi131 dX12_goes_17 rfl
theorem u131_17 : ev d 131 17 lo st h = evS (mx_gf 12 25) d 131 20 lo st h := ev_s n131_17 rfl rfl
theorem n131_20 : mx_ins 131 20 = some ((.bipush 24), 2) := mx_ins_of mi131 dX12_goes_20 rfl
theorem u131_20 : ev d 131 20 lo st h = ev d 131 22 lo (.int 24 :: st) h := (ev_s (f := mx_push (.int 24)) n131_20 rfl rfl).trans es_push
theorem n131_22 : mx_ins 131 22 = some ((.if_icmp .ge 123), 3) := mx_ins_of mi131 dX12_goes_22 rfl
theorem u131_22 : ev d 131 22 lo st h = evK .ge d 131 145 25 lo st h := ev_ic n131_22 rfl rfl
theorem n131_25 : mx_ins 131 25 = some ((.aload_n 1), 1) := mx_ins_of mi131 dX12_goes_25 rfl
theorem u131_25 : ev d 131 25 lo st h = evS (mx_ldA 1) d 131 26 lo st h := ev_s n131_25 rfl rfl
theorem n131_26 : mx_ins 131 26 = some ((.invokevirtual 28), 3) := mx_ins_of mi131 dX12_goes_26 rfl
theorem u131_26 : ev d 131 26 lo st h = evIn d 131 26 29 12 28 1 false lo st h := ev_inv n131_26 rfl rfl ow131 ia12_28
theorem n131_29 : mx_ins 131 29 = some ((.ifCond .eq 116), 3) := mx_ins_of mi131 dX12_goes_29 rfl
theorem u131_29 : ev d 131 29 lo st h = evJ .eq d 131 145 32 lo st h := ev_if n131_29 rfl rfl
theorem n131_32 : mx_ins 131 32 = some ((.aload_n 0), 1) := mx_ins_of mi131 dX12_goes_32 rfl
theorem u131_32 : ev d 131 32 lo st h = evS (mx_ldA 0) d 131 33 lo st h := ev_s n131_32 rfl rfl
theorem n131_33 : mx_ins 131 33 = some ((.getfield 3), 3) := mx_ins_of mi131 dX12_goes_33 rfl
theorem u131_33 : ev d 131 33 lo st h = evS (mx_gf 12 3) d 131 36 lo st h := ev_s n131_33 rfl rfl
theorem n131_36 : mx_ins 131 36 = some ((.aload_n 1), 1) := mx_ins_of mi131 dX12_goes_36 rfl
theorem u131_36 : ev d 131 36 lo st h = evS (mx_ldA 1) d 131 37 lo st h := ev_s n131_36 rfl rfl
theorem n131_37 : mx_ins 131 37 = some ((.iload_n 2), 1) := mx_ins_of mi131 dX12_goes_37 rfl
theorem u131_37 : ev d 131 37 lo st h = evS (mx_ldI 2) d 131 38 lo st h := ev_s n131_37 rfl rfl
theorem n131_38 : mx_ins 131 38 = some ((.invokevirtual 32), 3) := mx_ins_of mi131 dX12_goes_38 rfl
theorem u131_38 : ev d 131 38 lo st h = evIn d 131 38 41 12 32 3 false lo st h := ev_inv n131_38 rfl rfl ow131 ia12_32
theorem n131_41 : mx_ins 131 41 = some ((.istore 4), 2) := mx_ins_of mi131 dX12_goes_41 rfl
theorem u131_41 : ev d 131 41 lo st h = evS (mx_stI 4) d 131 43 lo st h := ev_s n131_41 rfl rfl
theorem n131_43 : mx_ins 131 43 = some ((.iload 4), 2) := mx_ins_of mi131 dX12_goes_43 rfl
theorem u131_43 : ev d 131 43 lo st h = evS (mx_ldI 4) d 131 45 lo st h := ev_s n131_43 rfl rfl
theorem n131_45 : mx_ins 131 45 = some ((.ifCond .lt 22), 3) := mx_ins_of mi131 dX12_goes_45 rfl
theorem u131_45 : ev d 131 45 lo st h = evJ .lt d 131 67 48 lo st h := ev_if n131_45 rfl rfl
theorem n131_48 : mx_ins 131 48 = some ((.aload_n 0), 1) := mx_ins_of mi131 dX12_goes_48 rfl
theorem u131_48 : ev d 131 48 lo st h = evS (mx_ldA 0) d 131 49 lo st h := ev_s n131_48 rfl rfl
theorem n131_49 : mx_ins 131 49 = some ((.getfield 3), 3) := mx_ins_of mi131 dX12_goes_49 rfl
theorem u131_49 : ev d 131 49 lo st h = evS (mx_gf 12 3) d 131 52 lo st h := ev_s n131_49 rfl rfl
theorem n131_52 : mx_ins 131 52 = some ((.getfield 36), 3) := mx_ins_of mi131 dX12_goes_52 rfl
theorem u131_52 : ev d 131 52 lo st h = evS (mx_gf 12 36) d 131 55 lo st h := ev_s n131_52 rfl rfl
theorem n131_55 : mx_ins 131 55 = some ((.getfield 40), 3) := mx_ins_of mi131 dX12_goes_55 rfl
theorem u131_55 : ev d 131 55 lo st h = evS (mx_gf 12 40) d 131 58 lo st h := ev_s n131_55 rfl rfl
theorem n131_58 : mx_ins 131 58 = some ((.iload 4), 2) := mx_ins_of mi131 dX12_goes_58 rfl
theorem u131_58 : ev d 131 58 lo st h = evS (mx_ldI 4) d 131 60 lo st h := ev_s n131_58 rfl rfl
theorem n131_60 : mx_ins 131 60 = some (.iaload, 1) := mx_ins_of mi131 dX12_goes_60 rfl
theorem u131_60 : ev d 131 60 lo st h = evI d 131 60 61 lo st h .iaload := ev_u n131_60 rfl
theorem n131_61 : mx_ins 131 61 = some ((.iconst (-1)), 1) := mx_ins_of mi131 dX12_goes_61 rfl
theorem u131_61 : ev d 131 61 lo st h = ev d 131 62 lo (.int (-1) :: st) h := (ev_s (f := mx_push (.int (-1))) n131_61 rfl rfl).trans es_push
theorem n131_62 : mx_ins 131 62 = some ((.if_icmp .ne 5), 3) := mx_ins_of mi131 dX12_goes_62 rfl
theorem u131_62 : ev d 131 62 lo st h = evK .ne d 131 67 65 lo st h := ev_ic n131_62 rfl rfl
theorem n131_65 : mx_ins 131 65 = some ((.iconst 1), 1) := mx_ins_of mi131 dX12_goes_65 rfl
theorem u131_65 : ev d 131 65 lo st h = ev d 131 66 lo (.int 1 :: st) h := (ev_s (f := mx_push (.int 1)) n131_65 rfl rfl).trans es_push
theorem n131_66 : mx_ins 131 66 = some (.ireturn, 1) := mx_ins_of mi131 dX12_goes_66 rfl
theorem u131_66 : ev d 131 66 lo st h = evI d 131 66 67 lo st h .ireturn := ev_u n131_66 rfl
theorem n131_67 : mx_ins 131 67 = some ((.aload_n 1), 1) := mx_ins_of mi131 dX12_goes_67 rfl
theorem u131_67 : ev d 131 67 lo st h = evS (mx_ldA 1) d 131 68 lo st h := ev_s n131_67 rfl rfl
theorem n131_68 : mx_ins 131 68 = some ((.iload 4), 2) := mx_ins_of mi131 dX12_goes_68 rfl
theorem u131_68 : ev d 131 68 lo st h = evS (mx_ldI 4) d 131 70 lo st h := ev_s n131_68 rfl rfl
theorem n131_70 : mx_ins 131 70 = some ((.ifCond .ge 10), 3) := mx_ins_of mi131 dX12_goes_70 rfl
theorem u131_70 : ev d 131 70 lo st h = evJ .ge d 131 80 73 lo st h := ev_if n131_70 rfl rfl
theorem n131_73 : mx_ins 131 73 = some ((.aload_n 1), 1) := mx_ins_of mi131 dX12_goes_73 rfl
theorem u131_73 : ev d 131 73 lo st h = evS (mx_ldA 1) d 131 74 lo st h := ev_s n131_73 rfl rfl
theorem n131_74 : mx_ins 131 74 = some ((.getfield 46), 3) := mx_ins_of mi131 dX12_goes_74 rfl
theorem u131_74 : ev d 131 74 lo st h = evS (mx_gf 12 46) d 131 77 lo st h := ev_s n131_74 rfl rfl
theorem n131_77 : mx_ins 131 77 = some ((.goto 16), 3) := mx_ins_of mi131 dX12_goes_77 rfl
theorem u131_77 : ev d 131 77 lo st h = ev d 131 93 lo st h := ev_goto n131_77 rfl
theorem n131_80 : mx_ins 131 80 = some ((.aload_n 0), 1) := mx_ins_of mi131 dX12_goes_80 rfl
theorem u131_80 : ev d 131 80 lo st h = evS (mx_ldA 0) d 131 81 lo st h := ev_s n131_80 rfl rfl
theorem n131_81 : mx_ins 131 81 = some ((.getfield 3), 3) := mx_ins_of mi131 dX12_goes_81 rfl
theorem u131_81 : ev d 131 81 lo st h = evS (mx_gf 12 3) d 131 84 lo st h := ev_s n131_81 rfl rfl
theorem n131_84 : mx_ins 131 84 = some ((.getfield 36), 3) := mx_ins_of mi131 dX12_goes_84 rfl
theorem u131_84 : ev d 131 84 lo st h = evS (mx_gf 12 36) d 131 87 lo st h := ev_s n131_84 rfl rfl
theorem n131_87 : mx_ins 131 87 = some ((.getfield 40), 3) := mx_ins_of mi131 dX12_goes_87 rfl
theorem u131_87 : ev d 131 87 lo st h = evS (mx_gf 12 40) d 131 90 lo st h := ev_s n131_87 rfl rfl
theorem n131_90 : mx_ins 131 90 = some ((.iload 4), 2) := mx_ins_of mi131 dX12_goes_90 rfl
theorem u131_90 : ev d 131 90 lo st h = evS (mx_ldI 4) d 131 92 lo st h := ev_s n131_90 rfl rfl
theorem n131_92 : mx_ins 131 92 = some (.iaload, 1) := mx_ins_of mi131 dX12_goes_92 rfl
theorem u131_92 : ev d 131 92 lo st h = evI d 131 92 93 lo st h .iaload := ev_u n131_92 rfl
theorem n131_93 : mx_ins 131 93 = some ((.putfield 46), 3) := mx_ins_of mi131 dX12_goes_93 rfl
theorem u131_93 : ev d 131 93 lo st h = evS (mx_pf 12 46 false) d 131 96 lo st h := ev_s n131_93 rfl rfl
theorem n131_96 : mx_ins 131 96 = some ((.aload_n 0), 1) := mx_ins_of mi131 dX12_goes_96 rfl
theorem u131_96 : ev d 131 96 lo st h = evS (mx_ldA 0) d 131 97 lo st h := ev_s n131_96 rfl rfl
theorem n131_97 : mx_ins 131 97 = some ((.getfield 3), 3) := mx_ins_of mi131 dX12_goes_97 rfl
theorem u131_97 : ev d 131 97 lo st h = evS (mx_gf 12 3) d 131 100 lo st h := ev_s n131_97 rfl rfl
theorem n131_100 : mx_ins 131 100 = some ((.getfield 36), 3) := mx_ins_of mi131 dX12_goes_100 rfl
theorem u131_100 : ev d 131 100 lo st h = evS (mx_gf 12 36) d 131 103 lo st h := ev_s n131_100 rfl rfl
theorem n131_103 : mx_ins 131 103 = some ((.aload_n 1), 1) := mx_ins_of mi131 dX12_goes_103 rfl
theorem u131_103 : ev d 131 103 lo st h = evS (mx_ldA 1) d 131 104 lo st h := ev_s n131_103 rfl rfl
theorem n131_104 : mx_ins 131 104 = some ((.getfield 25), 3) := mx_ins_of mi131 dX12_goes_104 rfl
theorem u131_104 : ev d 131 104 lo st h = evS (mx_gf 12 25) d 131 107 lo st h := ev_s n131_104 rfl rfl
theorem n131_107 : mx_ins 131 107 = some ((.aload_n 1), 1) := mx_ins_of mi131 dX12_goes_107 rfl
theorem u131_107 : ev d 131 107 lo st h = evS (mx_ldA 1) d 131 108 lo st h := ev_s n131_107 rfl rfl
theorem n131_108 : mx_ins 131 108 = some ((.getfield 46), 3) := mx_ins_of mi131 dX12_goes_108 rfl
theorem u131_108 : ev d 131 108 lo st h = evS (mx_gf 12 46) d 131 111 lo st h := ev_s n131_108 rfl rfl
theorem n131_111 : mx_ins 131 111 = some ((.invokevirtual 49), 3) := mx_ins_of mi131 dX12_goes_111 rfl
theorem u131_111 : ev d 131 111 lo st h = evIn d 131 111 114 12 49 3 false lo st h := ev_inv n131_111 rfl rfl ow131 ia12_49
theorem n131_114 : mx_ins 131 114 = some ((.istore 5), 2) := mx_ins_of mi131 dX12_goes_114 rfl
theorem u131_114 : ev d 131 114 lo st h = evS (mx_stI 5) d 131 116 lo st h := ev_s n131_114 rfl rfl
theorem n131_116 : mx_ins 131 116 = some ((.aload_n 0), 1) := mx_ins_of mi131 dX12_goes_116 rfl
theorem u131_116 : ev d 131 116 lo st h = evS (mx_ldA 0) d 131 117 lo st h := ev_s n131_116 rfl rfl
theorem n131_117 : mx_ins 131 117 = some ((.getfield 3), 3) := mx_ins_of mi131 dX12_goes_117 rfl
theorem u131_117 : ev d 131 117 lo st h = evS (mx_gf 12 3) d 131 120 lo st h := ev_s n131_117 rfl rfl
theorem n131_120 : mx_ins 131 120 = some ((.aload_n 1), 1) := mx_ins_of mi131 dX12_goes_120 rfl
theorem u131_120 : ev d 131 120 lo st h = evS (mx_ldA 1) d 131 121 lo st h := ev_s n131_120 rfl rfl
theorem n131_121 : mx_ins 131 121 = some ((.invokevirtual 53), 3) := mx_ins_of mi131 dX12_goes_121 rfl
theorem u131_121 : ev d 131 121 lo st h = evIn d 131 121 124 12 53 2 false lo st h := ev_inv n131_121 rfl rfl ow131 ia12_53
theorem n131_124 : mx_ins 131 124 = some ((.aload_n 0), 1) := mx_ins_of mi131 dX12_goes_124 rfl
theorem u131_124 : ev d 131 124 lo st h = evS (mx_ldA 0) d 131 125 lo st h := ev_s n131_124 rfl rfl
theorem n131_125 : mx_ins 131 125 = some ((.aload_n 1), 1) := mx_ins_of mi131 dX12_goes_125 rfl
theorem u131_125 : ev d 131 125 lo st h = evS (mx_ldA 1) d 131 126 lo st h := ev_s n131_125 rfl rfl
theorem n131_126 : mx_ins 131 126 = some ((.iload 5), 2) := mx_ins_of mi131 dX12_goes_126 rfl
theorem u131_126 : ev d 131 126 lo st h = evS (mx_ldI 5) d 131 128 lo st h := ev_s n131_126 rfl rfl
theorem n131_128 : mx_ins 131 128 = some ((.invokevirtual 57), 3) := mx_ins_of mi131 dX12_goes_128 rfl
theorem u131_128 : ev d 131 128 lo st h = evIn d 131 128 131 12 57 3 false lo st h := ev_inv n131_128 rfl rfl ow131 ia12_57
theorem n131_131 : mx_ins 131 131 = some ((.istore_n 3), 1) := mx_ins_of mi131 dX12_goes_131 rfl
theorem u131_131 : ev d 131 131 lo st h = evS (mx_stI 3) d 131 132 lo st h := ev_s n131_131 rfl rfl
theorem n131_132 : mx_ins 131 132 = some ((.aload_n 0), 1) := mx_ins_of mi131 dX12_goes_132 rfl
theorem u131_132 : ev d 131 132 lo st h = evS (mx_ldA 0) d 131 133 lo st h := ev_s n131_132 rfl rfl
theorem n131_133 : mx_ins 131 133 = some (.dup, 1) := mx_ins_of mi131 dX12_goes_133 rfl
theorem u131_133 : ev d 131 133 lo st h = evI d 131 133 134 lo st h .dup := ev_u n131_133 rfl
theorem n131_134 : mx_ins 131 134 = some ((.getfield 21), 3) := mx_ins_of mi131 dX12_goes_134 rfl
theorem u131_134 : ev d 131 134 lo st h = evS (mx_gf 12 21) d 131 137 lo st h := ev_s n131_134 rfl rfl
theorem n131_137 : mx_ins 131 137 = some ((.iconst 1), 1) := mx_ins_of mi131 dX12_goes_137 rfl
theorem u131_137 : ev d 131 137 lo st h = ev d 131 138 lo (.int 1 :: st) h := (ev_s (f := mx_push (.int 1)) n131_137 rfl rfl).trans es_push
theorem n131_138 : mx_ins 131 138 = some (.iadd, 1) := mx_ins_of mi131 dX12_goes_138 rfl
theorem u131_138 : ev d 131 138 lo st h = evI d 131 138 139 lo st h .iadd := ev_u n131_138 rfl
theorem n131_139 : mx_ins 131 139 = some ((.putfield 21), 3) := mx_ins_of mi131 dX12_goes_139 rfl
theorem u131_139 : ev d 131 139 lo st h = evS (mx_pf 12 21 false) d 131 142 lo st h := ev_s n131_139 rfl rfl
theorem n131_142 : mx_ins 131 142 = some ((.goto (-130)), 3) := mx_ins_of mi131 dX12_goes_142 rfl
theorem u131_142 : ev d 131 142 lo st h = ev d 131 12 lo st h := ev_goto n131_142 rfl
theorem n131_145 : mx_ins 131 145 = some ((.iload_n 3), 1) := mx_ins_of mi131 dX12_goes_145 rfl
theorem u131_145 : ev d 131 145 lo st h = evS (mx_ldI 3) d 131 146 lo st h := ev_s n131_145 rfl rfl
theorem n131_146 : mx_ins 131 146 = some (.ireturn, 1) := mx_ins_of mi131 dX12_goes_146 rfl
theorem u131_146 : ev d 131 146 lo st h = evI d 131 146 147 lo st h .ireturn := ev_u n131_146 rfl
theorem mi132 : mx_mi 132 = some (yX13_init, cX13_init, 2, (none : Option FieldType), 13, 2, []) := rfl
theorem ow132 : mx_own 132 = 13 := mx_mi_own mi132
theorem mm132 : mx_max 132 = 2 := mx_mi_max mi132
theorem rt132 : mx_ret 132 = (none : Option FieldType) := mx_mi_ret mi132
theorem hn132 : mx_hnd 132 = [] := mx_mi_hnd mi132
theorem n132_0 : mx_ins 132 0 = some ((.aload_n 0), 1) := mx_ins_of mi132 dX13_init_0 rfl
theorem u132_0 : ev d 132 0 lo st h = evS (mx_ldA 0) d 132 1 lo st h := ev_s n132_0 rfl rfl
theorem n132_1 : mx_ins 132 1 = some ((.aload_n 1), 1) := mx_ins_of mi132 dX13_init_1 rfl
theorem u132_1 : ev d 132 1 lo st h = evS (mx_ldA 1) d 132 2 lo st h := ev_s n132_1 rfl rfl
theorem n132_2 : mx_ins 132 2 = some ((.putfield 1), 3) := mx_ins_of mi132 dX13_init_2 rfl
theorem u132_2 : ev d 132 2 lo st h = evS (mx_pf 13 1 true) d 132 5 lo st h := ev_s n132_2 rfl rfl
theorem n132_5 : mx_ins 132 5 = some ((.aload_n 0), 1) := mx_ins_of mi132 dX13_init_5 rfl
theorem u132_5 : ev d 132 5 lo st h = evS (mx_ldA 0) d 132 6 lo st h := ev_s n132_5 rfl rfl
theorem n132_6 : mx_ins 132 6 = some ((.aload_n 1), 1) := mx_ins_of mi132 dX13_init_6 rfl
theorem u132_6 : ev d 132 6 lo st h = evS (mx_ldA 1) d 132 7 lo st h := ev_s n132_6 rfl rfl
theorem n132_7 : mx_ins 132 7 = some ((.invokespecial 7), 3) := mx_ins_of mi132 dX13_init_7 rfl
theorem u132_7 : ev d 132 7 lo st h = evIn d 132 7 10 13 7 2 false lo st h := ev_inv n132_7 rfl rfl ow132 ia13_7
theorem n132_10 : mx_ins 132 10 = some (.return_, 1) := mx_ins_of mi132 dX13_init_10 rfl
theorem u132_10 : ev d 132 10 lo st h = evI d 132 10 11 lo st h .return_ := ev_u n132_10 rfl
theorem mi133 : mx_mi 133 = some (yX13_meets, cX13_meets, 3, (Option.some Jvm.ClassFile.FieldType.boolean), 13, 3, []) := rfl
theorem ow133 : mx_own 133 = 13 := mx_mi_own mi133
theorem mm133 : mx_max 133 = 3 := mx_mi_max mi133
theorem rt133 : mx_ret 133 = (Option.some Jvm.ClassFile.FieldType.boolean) := mx_mi_ret mi133
theorem hn133 : mx_hnd 133 = [] := mx_mi_hnd mi133
theorem n133_0 : mx_ins 133 0 = some ((.iconst 1), 1) := mx_ins_of mi133 dX13_meets_0 rfl
theorem u133_0 : ev d 133 0 lo st h = ev d 133 1 lo (.int 1 :: st) h := (ev_s (f := mx_push (.int 1)) n133_0 rfl rfl).trans es_push
theorem n133_1 : mx_ins 133 1 = some (.ireturn, 1) := mx_ins_of mi133 dX13_meets_1 rfl
theorem u133_1 : ev d 133 1 lo st h = evI d 133 1 2 lo st h .ireturn := ev_u n133_1 rfl
theorem mi134 : mx_mi 134 = some (yX14_init, cX14_init, 2, (none : Option FieldType), 14, 2, []) := rfl
theorem ow134 : mx_own 134 = 14 := mx_mi_own mi134
theorem mm134 : mx_max 134 = 2 := mx_mi_max mi134
theorem rt134 : mx_ret 134 = (none : Option FieldType) := mx_mi_ret mi134
theorem hn134 : mx_hnd 134 = [] := mx_mi_hnd mi134
theorem n134_0 : mx_ins 134 0 = some ((.aload_n 0), 1) := mx_ins_of mi134 dX14_init_0 rfl
theorem u134_0 : ev d 134 0 lo st h = evS (mx_ldA 0) d 134 1 lo st h := ev_s n134_0 rfl rfl
theorem n134_1 : mx_ins 134 1 = some ((.aload_n 1), 1) := mx_ins_of mi134 dX14_init_1 rfl
theorem u134_1 : ev d 134 1 lo st h = evS (mx_ldA 1) d 134 2 lo st h := ev_s n134_1 rfl rfl
theorem n134_2 : mx_ins 134 2 = some ((.putfield 1), 3) := mx_ins_of mi134 dX14_init_2 rfl
theorem u134_2 : ev d 134 2 lo st h = evS (mx_pf 14 1 true) d 134 5 lo st h := ev_s n134_2 rfl rfl
theorem n134_5 : mx_ins 134 5 = some ((.aload_n 0), 1) := mx_ins_of mi134 dX14_init_5 rfl
theorem u134_5 : ev d 134 5 lo st h = evS (mx_ldA 0) d 134 6 lo st h := ev_s n134_5 rfl rfl
theorem n134_6 : mx_ins 134 6 = some ((.aload_n 1), 1) := mx_ins_of mi134 dX14_init_6 rfl
theorem u134_6 : ev d 134 6 lo st h = evS (mx_ldA 1) d 134 7 lo st h := ev_s n134_6 rfl rfl
theorem n134_7 : mx_ins 134 7 = some ((.invokespecial 7), 3) := mx_ins_of mi134 dX14_init_7 rfl
theorem u134_7 : ev d 134 7 lo st h = evIn d 134 7 10 14 7 2 false lo st h := ev_inv n134_7 rfl rfl ow134 ia14_7
theorem n134_10 : mx_ins 134 10 = some (.return_, 1) := mx_ins_of mi134 dX14_init_10 rfl
theorem u134_10 : ev d 134 10 lo st h = evI d 134 10 11 lo st h .return_ := ev_u n134_10 rfl
theorem mi135 : mx_mi 135 = some (yX14_meets, cX14_meets, 4, (Option.some Jvm.ClassFile.FieldType.boolean), 14, 3, []) := rfl
theorem ow135 : mx_own 135 = 14 := mx_mi_own mi135
theorem mm135 : mx_max 135 = 4 := mx_mi_max mi135
theorem rt135 : mx_ret 135 = (Option.some Jvm.ClassFile.FieldType.boolean) := mx_mi_ret mi135
theorem hn135 : mx_hnd 135 = [] := mx_mi_hnd mi135
theorem n135_0 : mx_ins 135 0 = some ((.aload_n 0), 1) := mx_ins_of mi135 dX14_meets_0 rfl
theorem u135_0 : ev d 135 0 lo st h = evS (mx_ldA 0) d 135 1 lo st h := ev_s n135_0 rfl rfl
theorem n135_1 : mx_ins 135 1 = some ((.getfield 1), 3) := mx_ins_of mi135 dX14_meets_1 rfl
theorem u135_1 : ev d 135 1 lo st h = evS (mx_gf 14 1) d 135 4 lo st h := ev_s n135_1 rfl rfl
theorem n135_4 : mx_ins 135 4 = some ((.aload_n 0), 1) := mx_ins_of mi135 dX14_meets_4 rfl
theorem u135_4 : ev d 135 4 lo st h = evS (mx_ldA 0) d 135 5 lo st h := ev_s n135_4 rfl rfl
theorem n135_5 : mx_ins 135 5 = some ((.getfield 13), 3) := mx_ins_of mi135 dX14_meets_5 rfl
theorem u135_5 : ev d 135 5 lo st h = evS (mx_gf 14 13) d 135 8 lo st h := ev_s n135_5 rfl rfl
theorem n135_8 : mx_ins 135 8 = some ((.invokevirtual 17), 3) := mx_ins_of mi135 dX14_meets_8 rfl
theorem u135_8 : ev d 135 8 lo st h = evIn d 135 8 11 14 17 2 false lo st h := ev_inv n135_8 rfl rfl ow135 ia14_17
theorem n135_11 : mx_ins 135 11 = some ((.getfield 23), 3) := mx_ins_of mi135 dX14_meets_11 rfl
theorem u135_11 : ev d 135 11 lo st h = evS (mx_gf 14 23) d 135 14 lo st h := ev_s n135_11 rfl rfl
theorem n135_14 : mx_ins 135 14 = some ((.astore_n 3), 1) := mx_ins_of mi135 dX14_meets_14 rfl
theorem u135_14 : ev d 135 14 lo st h = evS (mx_stA 3) d 135 15 lo st h := ev_s n135_14 rfl rfl
theorem n135_15 : mx_ins 135 15 = some ((.aload_n 3), 1) := mx_ins_of mi135 dX14_meets_15 rfl
theorem u135_15 : ev d 135 15 lo st h = evS (mx_ldA 3) d 135 16 lo st h := ev_s n135_15 rfl rfl
theorem n135_16 : mx_ins 135 16 = some ((.iconst 0), 1) := mx_ins_of mi135 dX14_meets_16 rfl
theorem u135_16 : ev d 135 16 lo st h = ev d 135 17 lo (.int 0 :: st) h := (ev_s (f := mx_push (.int 0)) n135_16 rfl rfl).trans es_push
theorem n135_17 : mx_ins 135 17 = some ((.aload_n 1), 1) := mx_ins_of mi135 dX14_meets_17 rfl
theorem u135_17 : ev d 135 17 lo st h = evS (mx_ldA 1) d 135 18 lo st h := ev_s n135_17 rfl rfl
theorem n135_18 : mx_ins 135 18 = some ((.getfield 29), 3) := mx_ins_of mi135 dX14_meets_18 rfl
theorem u135_18 : ev d 135 18 lo st h = evS (mx_gf 14 29) d 135 21 lo st h := ev_s n135_18 rfl rfl
theorem n135_21 : mx_ins 135 21 = some (.iastore, 1) := mx_ins_of mi135 dX14_meets_21 rfl
theorem u135_21 : ev d 135 21 lo st h = evI d 135 21 22 lo st h .iastore := ev_u n135_21 rfl
theorem n135_22 : mx_ins 135 22 = some ((.aload_n 3), 1) := mx_ins_of mi135 dX14_meets_22 rfl
theorem u135_22 : ev d 135 22 lo st h = evS (mx_ldA 3) d 135 23 lo st h := ev_s n135_22 rfl rfl
theorem n135_23 : mx_ins 135 23 = some ((.iconst 1), 1) := mx_ins_of mi135 dX14_meets_23 rfl
theorem u135_23 : ev d 135 23 lo st h = ev d 135 24 lo (.int 1 :: st) h := (ev_s (f := mx_push (.int 1)) n135_23 rfl rfl).trans es_push
theorem n135_24 : mx_ins 135 24 = some ((.aload_n 1), 1) := mx_ins_of mi135 dX14_meets_24 rfl
theorem u135_24 : ev d 135 24 lo st h = evS (mx_ldA 1) d 135 25 lo st h := ev_s n135_24 rfl rfl
theorem n135_25 : mx_ins 135 25 = some ((.invokevirtual 34), 3) := mx_ins_of mi135 dX14_meets_25 rfl
theorem u135_25 : ev d 135 25 lo st h = evIn d 135 25 28 14 34 1 false lo st h := ev_inv n135_25 rfl rfl ow135 ia14_34
theorem n135_28 : mx_ins 135 28 = some (.iastore, 1) := mx_ins_of mi135 dX14_meets_28 rfl
theorem u135_28 : ev d 135 28 lo st h = evI d 135 28 29 lo st h .iastore := ev_u n135_28 rfl
theorem n135_29 : mx_ins 135 29 = some ((.aload_n 3), 1) := mx_ins_of mi135 dX14_meets_29 rfl
theorem u135_29 : ev d 135 29 lo st h = evS (mx_ldA 3) d 135 30 lo st h := ev_s n135_29 rfl rfl
theorem n135_30 : mx_ins 135 30 = some ((.iconst 2), 1) := mx_ins_of mi135 dX14_meets_30 rfl
theorem u135_30 : ev d 135 30 lo st h = ev d 135 31 lo (.int 2 :: st) h := (ev_s (f := mx_push (.int 2)) n135_30 rfl rfl).trans es_push
theorem n135_31 : mx_ins 135 31 = some ((.iload_n 2), 1) := mx_ins_of mi135 dX14_meets_31 rfl
theorem u135_31 : ev d 135 31 lo st h = evS (mx_ldI 2) d 135 32 lo st h := ev_s n135_31 rfl rfl
theorem n135_32 : mx_ins 135 32 = some (.iastore, 1) := mx_ins_of mi135 dX14_meets_32 rfl
theorem u135_32 : ev d 135 32 lo st h = evI d 135 32 33 lo st h .iastore := ev_u n135_32 rfl
theorem n135_33 : mx_ins 135 33 = some ((.iconst 1), 1) := mx_ins_of mi135 dX14_meets_33 rfl
theorem u135_33 : ev d 135 33 lo st h = ev d 135 34 lo (.int 1 :: st) h := (ev_s (f := mx_push (.int 1)) n135_33 rfl rfl).trans es_push
theorem n135_34 : mx_ins 135 34 = some (.ireturn, 1) := mx_ins_of mi135 dX14_meets_34 rfl
theorem u135_34 : ev d 135 34 lo st h = evI d 135 34 35 lo st h .ireturn := ev_u n135_34 rfl
theorem mi136 : mx_mi 136 = some (yX15_init, cX15_init, 2, (none : Option FieldType), 15, 2, []) := rfl
theorem ow136 : mx_own 136 = 15 := mx_mi_own mi136
theorem mm136 : mx_max 136 = 2 := mx_mi_max mi136
theorem rt136 : mx_ret 136 = (none : Option FieldType) := mx_mi_ret mi136
theorem hn136 : mx_hnd 136 = [] := mx_mi_hnd mi136
theorem n136_0 : mx_ins 136 0 = some ((.aload_n 0), 1) := mx_ins_of mi136 dX15_init_0 rfl
theorem u136_0 : ev d 136 0 lo st h = evS (mx_ldA 0) d 136 1 lo st h := ev_s n136_0 rfl rfl
theorem n136_1 : mx_ins 136 1 = some ((.aload_n 1), 1) := mx_ins_of mi136 dX15_init_1 rfl
theorem u136_1 : ev d 136 1 lo st h = evS (mx_ldA 1) d 136 2 lo st h := ev_s n136_1 rfl rfl
theorem n136_2 : mx_ins 136 2 = some ((.putfield 3), 3) := mx_ins_of mi136 dX15_init_2 rfl
theorem u136_2 : ev d 136 2 lo st h = evS (mx_pf 15 3 true) d 136 5 lo st h := ev_s n136_2 rfl rfl
theorem n136_5 : mx_ins 136 5 = some ((.aload_n 0), 1) := mx_ins_of mi136 dX15_init_5 rfl
theorem u136_5 : ev d 136 5 lo st h = evS (mx_ldA 0) d 136 6 lo st h := ev_s n136_5 rfl rfl
theorem n136_6 : mx_ins 136 6 = some ((.aload_n 1), 1) := mx_ins_of mi136 dX15_init_6 rfl
theorem u136_6 : ev d 136 6 lo st h = evS (mx_ldA 1) d 136 7 lo st h := ev_s n136_6 rfl rfl
theorem n136_7 : mx_ins 136 7 = some ((.invokespecial 9), 3) := mx_ins_of mi136 dX15_init_7 rfl
theorem u136_7 : ev d 136 7 lo st h = evIn d 136 7 10 15 9 2 false lo st h := ev_inv n136_7 rfl rfl ow136 ia15_9
theorem n136_10 : mx_ins 136 10 = some (.return_, 1) := mx_ins_of mi136 dX15_init_10 rfl
theorem u136_10 : ev d 136 10 lo st h = evI d 136 10 11 lo st h .return_ := ev_u n136_10 rfl
theorem mi137 : mx_mi 137 = some (yX15_meets, cX15_meets, 3, (Option.some Jvm.ClassFile.FieldType.boolean), 15, 3, []) := rfl
theorem ow137 : mx_own 137 = 15 := mx_mi_own mi137
theorem mm137 : mx_max 137 = 3 := mx_mi_max mi137
theorem rt137 : mx_ret 137 = (Option.some Jvm.ClassFile.FieldType.boolean) := mx_mi_ret mi137
theorem hn137 : mx_hnd 137 = [] := mx_mi_hnd mi137
theorem n137_0 : mx_ins 137 0 = some ((.aload_n 0), 1) := mx_ins_of mi137 dX15_meets_0 rfl
theorem u137_0 : ev d 137 0 lo st h = evS (mx_ldA 0) d 137 1 lo st h := ev_s n137_0 rfl rfl
theorem n137_1 : mx_ins 137 1 = some ((.aload_n 0), 1) := mx_ins_of mi137 dX15_meets_1 rfl
theorem u137_1 : ev d 137 1 lo st h = evS (mx_ldA 0) d 137 2 lo st h := ev_s n137_1 rfl rfl
theorem n137_2 : mx_ins 137 2 = some ((.getfield 15), 3) := mx_ins_of mi137 dX15_meets_2 rfl
theorem u137_2 : ev d 137 2 lo st h = evS (mx_gf 15 15) d 137 5 lo st h := ev_s n137_2 rfl rfl
theorem n137_5 : mx_ins 137 5 = some ((.aload_n 0), 1) := mx_ins_of mi137 dX15_meets_5 rfl
theorem u137_5 : ev d 137 5 lo st h = evS (mx_ldA 0) d 137 6 lo st h := ev_s n137_5 rfl rfl
theorem n137_6 : mx_ins 137 6 = some ((.getfield 3), 3) := mx_ins_of mi137 dX15_meets_6 rfl
theorem u137_6 : ev d 137 6 lo st h = evS (mx_gf 15 3) d 137 9 lo st h := ev_s n137_6 rfl rfl
theorem n137_9 : mx_ins 137 9 = some ((.getfield 19), 3) := mx_ins_of mi137 dX15_meets_9 rfl
theorem u137_9 : ev d 137 9 lo st h = evS (mx_gf 15 19) d 137 12 lo st h := ev_s n137_9 rfl rfl
theorem n137_12 : mx_ins 137 12 = some ((.if_icmp .ne 9), 3) := mx_ins_of mi137 dX15_meets_12 rfl
theorem u137_12 : ev d 137 12 lo st h = evK .ne d 137 21 15 lo st h := ev_ic n137_12 rfl rfl
theorem n137_15 : mx_ins 137 15 = some ((.sipush 222), 3) := mx_ins_of mi137 dX15_meets_15 rfl
theorem u137_15 : ev d 137 15 lo st h = ev d 137 18 lo (.int 222 :: st) h := (ev_s (f := mx_push (.int 222)) n137_15 rfl rfl).trans es_push
theorem n137_18 : mx_ins 137 18 = some ((.goto 82), 3) := mx_ins_of mi137 dX15_meets_18 rfl
theorem u137_18 : ev d 137 18 lo st h = ev d 137 100 lo st h := ev_goto n137_18 rfl
theorem n137_21 : mx_ins 137 21 = some ((.aload_n 0), 1) := mx_ins_of mi137 dX15_meets_21 rfl
theorem u137_21 : ev d 137 21 lo st h = evS (mx_ldA 0) d 137 22 lo st h := ev_s n137_21 rfl rfl
theorem n137_22 : mx_ins 137 22 = some ((.getfield 3), 3) := mx_ins_of mi137 dX15_meets_22 rfl
theorem u137_22 : ev d 137 22 lo st h = evS (mx_gf 15 3) d 137 25 lo st h := ev_s n137_22 rfl rfl
theorem n137_25 : mx_ins 137 25 = some ((.getfield 22), 3) := mx_ins_of mi137 dX15_meets_25 rfl
theorem u137_25 : ev d 137 25 lo st h = evS (mx_gf 15 22) d 137 28 lo st h := ev_s n137_25 rfl rfl
theorem n137_28 : mx_ins 137 28 = some ((.aload_n 0), 1) := mx_ins_of mi137 dX15_meets_28 rfl
theorem u137_28 : ev d 137 28 lo st h = evS (mx_ldA 0) d 137 29 lo st h := ev_s n137_28 rfl rfl
theorem n137_29 : mx_ins 137 29 = some ((.getfield 15), 3) := mx_ins_of mi137 dX15_meets_29 rfl
theorem u137_29 : ev d 137 29 lo st h = evS (mx_gf 15 15) d 137 32 lo st h := ev_s n137_29 rfl rfl
theorem n137_32 : mx_ins 137 32 = some (.aaload, 1) := mx_ins_of mi137 dX15_meets_32 rfl
theorem u137_32 : ev d 137 32 lo st h = evI d 137 32 33 lo st h .aaload := ev_u n137_32 rfl
theorem n137_33 : mx_ins 137 33 = some ((.getfield 26), 3) := mx_ins_of mi137 dX15_meets_33 rfl
theorem u137_33 : ev d 137 33 lo st h = evS (mx_gf 15 26) d 137 36 lo st h := ev_s n137_33 rfl rfl
theorem n137_36 : mx_ins 137 36 = some ((.iconst 0), 1) := mx_ins_of mi137 dX15_meets_36 rfl
theorem u137_36 : ev d 137 36 lo st h = ev d 137 37 lo (.int 0 :: st) h := (ev_s (f := mx_push (.int 0)) n137_36 rfl rfl).trans es_push
theorem n137_37 : mx_ins 137 37 = some (.iaload, 1) := mx_ins_of mi137 dX15_meets_37 rfl
theorem u137_37 : ev d 137 37 lo st h = evI d 137 37 38 lo st h .iaload := ev_u n137_37 rfl
theorem n137_38 : mx_ins 137 38 = some ((.aload_n 1), 1) := mx_ins_of mi137 dX15_meets_38 rfl
theorem u137_38 : ev d 137 38 lo st h = evS (mx_ldA 1) d 137 39 lo st h := ev_s n137_38 rfl rfl
theorem n137_39 : mx_ins 137 39 = some ((.getfield 32), 3) := mx_ins_of mi137 dX15_meets_39 rfl
theorem u137_39 : ev d 137 39 lo st h = evS (mx_gf 15 32) d 137 42 lo st h := ev_s n137_39 rfl rfl
theorem n137_42 : mx_ins 137 42 = some ((.if_icmp .ne 52), 3) := mx_ins_of mi137 dX15_meets_42 rfl
theorem u137_42 : ev d 137 42 lo st h = evK .ne d 137 94 45 lo st h := ev_ic n137_42 rfl rfl
theorem n137_45 : mx_ins 137 45 = some ((.aload_n 0), 1) := mx_ins_of mi137 dX15_meets_45 rfl
theorem u137_45 : ev d 137 45 lo st h = evS (mx_ldA 0) d 137 46 lo st h := ev_s n137_45 rfl rfl
theorem n137_46 : mx_ins 137 46 = some ((.getfield 3), 3) := mx_ins_of mi137 dX15_meets_46 rfl
theorem u137_46 : ev d 137 46 lo st h = evS (mx_gf 15 3) d 137 49 lo st h := ev_s n137_46 rfl rfl
theorem n137_49 : mx_ins 137 49 = some ((.getfield 22), 3) := mx_ins_of mi137 dX15_meets_49 rfl
theorem u137_49 : ev d 137 49 lo st h = evS (mx_gf 15 22) d 137 52 lo st h := ev_s n137_49 rfl rfl
theorem n137_52 : mx_ins 137 52 = some ((.aload_n 0), 1) := mx_ins_of mi137 dX15_meets_52 rfl
theorem u137_52 : ev d 137 52 lo st h = evS (mx_ldA 0) d 137 53 lo st h := ev_s n137_52 rfl rfl
theorem n137_53 : mx_ins 137 53 = some ((.getfield 15), 3) := mx_ins_of mi137 dX15_meets_53 rfl
theorem u137_53 : ev d 137 53 lo st h = evS (mx_gf 15 15) d 137 56 lo st h := ev_s n137_53 rfl rfl
theorem n137_56 : mx_ins 137 56 = some (.aaload, 1) := mx_ins_of mi137 dX15_meets_56 rfl
theorem u137_56 : ev d 137 56 lo st h = evI d 137 56 57 lo st h .aaload := ev_u n137_56 rfl
theorem n137_57 : mx_ins 137 57 = some ((.getfield 26), 3) := mx_ins_of mi137 dX15_meets_57 rfl
theorem u137_57 : ev d 137 57 lo st h = evS (mx_gf 15 26) d 137 60 lo st h := ev_s n137_57 rfl rfl
theorem n137_60 : mx_ins 137 60 = some ((.iconst 1), 1) := mx_ins_of mi137 dX15_meets_60 rfl
theorem u137_60 : ev d 137 60 lo st h = ev d 137 61 lo (.int 1 :: st) h := (ev_s (f := mx_push (.int 1)) n137_60 rfl rfl).trans es_push
theorem n137_61 : mx_ins 137 61 = some (.iaload, 1) := mx_ins_of mi137 dX15_meets_61 rfl
theorem u137_61 : ev d 137 61 lo st h = evI d 137 61 62 lo st h .iaload := ev_u n137_61 rfl
theorem n137_62 : mx_ins 137 62 = some ((.aload_n 1), 1) := mx_ins_of mi137 dX15_meets_62 rfl
theorem u137_62 : ev d 137 62 lo st h = evS (mx_ldA 1) d 137 63 lo st h := ev_s n137_62 rfl rfl
theorem n137_63 : mx_ins 137 63 = some ((.invokevirtual 37), 3) := mx_ins_of mi137 dX15_meets_63 rfl
theorem u137_63 : ev d 137 63 lo st h = evIn d 137 63 66 15 37 1 false lo st h := ev_inv n137_63 rfl rfl ow137 ia15_37
theorem n137_66 : mx_ins 137 66 = some ((.if_icmp .ne 28), 3) := mx_ins_of mi137 dX15_meets_66 rfl
theorem u137_66 : ev d 137 66 lo st h = evK .ne d 137 94 69 lo st h := ev_ic n137_66 rfl rfl
theorem n137_69 : mx_ins 137 69 = some ((.aload_n 0), 1) := mx_ins_of mi137 dX15_meets_69 rfl
theorem u137_69 : ev d 137 69 lo st h = evS (mx_ldA 0) d 137 70 lo st h := ev_s n137_69 rfl rfl
theorem n137_70 : mx_ins 137 70 = some ((.getfield 3), 3) := mx_ins_of mi137 dX15_meets_70 rfl
theorem u137_70 : ev d 137 70 lo st h = evS (mx_gf 15 3) d 137 73 lo st h := ev_s n137_70 rfl rfl
theorem n137_73 : mx_ins 137 73 = some ((.getfield 22), 3) := mx_ins_of mi137 dX15_meets_73 rfl
theorem u137_73 : ev d 137 73 lo st h = evS (mx_gf 15 22) d 137 76 lo st h := ev_s n137_73 rfl rfl
theorem n137_76 : mx_ins 137 76 = some ((.aload_n 0), 1) := mx_ins_of mi137 dX15_meets_76 rfl
theorem u137_76 : ev d 137 76 lo st h = evS (mx_ldA 0) d 137 77 lo st h := ev_s n137_76 rfl rfl
theorem n137_77 : mx_ins 137 77 = some ((.getfield 15), 3) := mx_ins_of mi137 dX15_meets_77 rfl
theorem u137_77 : ev d 137 77 lo st h = evS (mx_gf 15 15) d 137 80 lo st h := ev_s n137_77 rfl rfl
theorem n137_80 : mx_ins 137 80 = some (.aaload, 1) := mx_ins_of mi137 dX15_meets_80 rfl
theorem u137_80 : ev d 137 80 lo st h = evI d 137 80 81 lo st h .aaload := ev_u n137_80 rfl
theorem n137_81 : mx_ins 137 81 = some ((.getfield 26), 3) := mx_ins_of mi137 dX15_meets_81 rfl
theorem u137_81 : ev d 137 81 lo st h = evS (mx_gf 15 26) d 137 84 lo st h := ev_s n137_81 rfl rfl
theorem n137_84 : mx_ins 137 84 = some ((.iconst 2), 1) := mx_ins_of mi137 dX15_meets_84 rfl
theorem u137_84 : ev d 137 84 lo st h = ev d 137 85 lo (.int 2 :: st) h := (ev_s (f := mx_push (.int 2)) n137_84 rfl rfl).trans es_push
theorem n137_85 : mx_ins 137 85 = some (.iaload, 1) := mx_ins_of mi137 dX15_meets_85 rfl
theorem u137_85 : ev d 137 85 lo st h = evI d 137 85 86 lo st h .iaload := ev_u n137_85 rfl
theorem n137_86 : mx_ins 137 86 = some ((.iload_n 2), 1) := mx_ins_of mi137 dX15_meets_86 rfl
theorem u137_86 : ev d 137 86 lo st h = evS (mx_ldI 2) d 137 87 lo st h := ev_s n137_86 rfl rfl
theorem n137_87 : mx_ins 137 87 = some ((.if_icmp .ne 7), 3) := mx_ins_of mi137 dX15_meets_87 rfl
theorem u137_87 : ev d 137 87 lo st h = evK .ne d 137 94 90 lo st h := ev_ic n137_87 rfl rfl
theorem n137_90 : mx_ins 137 90 = some ((.iconst 0), 1) := mx_ins_of mi137 dX15_meets_90 rfl
theorem u137_90 : ev d 137 90 lo st h = ev d 137 91 lo (.int 0 :: st) h := (ev_s (f := mx_push (.int 0)) n137_90 rfl rfl).trans es_push
theorem n137_91 : mx_ins 137 91 = some ((.goto 9), 3) := mx_ins_of mi137 dX15_meets_91 rfl
theorem u137_91 : ev d 137 91 lo st h = ev d 137 100 lo st h := ev_goto n137_91 rfl
theorem n137_94 : mx_ins 137 94 = some ((.aload_n 0), 1) := mx_ins_of mi137 dX15_meets_94 rfl
theorem u137_94 : ev d 137 94 lo st h = evS (mx_ldA 0) d 137 95 lo st h := ev_s n137_94 rfl rfl
theorem n137_95 : mx_ins 137 95 = some ((.getfield 15), 3) := mx_ins_of mi137 dX15_meets_95 rfl
theorem u137_95 : ev d 137 95 lo st h = evS (mx_gf 15 15) d 137 98 lo st h := ev_s n137_95 rfl rfl
theorem n137_98 : mx_ins 137 98 = some ((.iconst 1), 1) := mx_ins_of mi137 dX15_meets_98 rfl
theorem u137_98 : ev d 137 98 lo st h = ev d 137 99 lo (.int 1 :: st) h := (ev_s (f := mx_push (.int 1)) n137_98 rfl rfl).trans es_push
theorem n137_99 : mx_ins 137 99 = some (.iadd, 1) := mx_ins_of mi137 dX15_meets_99 rfl
theorem u137_99 : ev d 137 99 lo st h = evI d 137 99 100 lo st h .iadd := ev_u n137_99 rfl
theorem n137_100 : mx_ins 137 100 = some ((.putfield 41), 3) := mx_ins_of mi137 dX15_meets_100 rfl
theorem u137_100 : ev d 137 100 lo st h = evS (mx_pf 15 41 false) d 137 103 lo st h := ev_s n137_100 rfl rfl
theorem n137_103 : mx_ins 137 103 = some ((.aload_n 0), 1) := mx_ins_of mi137 dX15_meets_103 rfl
theorem u137_103 : ev d 137 103 lo st h = evS (mx_ldA 0) d 137 104 lo st h := ev_s n137_103 rfl rfl
theorem n137_104 : mx_ins 137 104 = some ((.getfield 41), 3) := mx_ins_of mi137 dX15_meets_104 rfl
theorem u137_104 : ev d 137 104 lo st h = evS (mx_gf 15 41) d 137 107 lo st h := ev_s n137_104 rfl rfl
theorem n137_107 : mx_ins 137 107 = some ((.ifCond .ne 7), 3) := mx_ins_of mi137 dX15_meets_107 rfl
theorem u137_107 : ev d 137 107 lo st h = evJ .ne d 137 114 110 lo st h := ev_if n137_107 rfl rfl
theorem n137_110 : mx_ins 137 110 = some ((.iconst 1), 1) := mx_ins_of mi137 dX15_meets_110 rfl
theorem u137_110 : ev d 137 110 lo st h = ev d 137 111 lo (.int 1 :: st) h := (ev_s (f := mx_push (.int 1)) n137_110 rfl rfl).trans es_push
theorem n137_111 : mx_ins 137 111 = some ((.goto 4), 3) := mx_ins_of mi137 dX15_meets_111 rfl
theorem u137_111 : ev d 137 111 lo st h = ev d 137 115 lo st h := ev_goto n137_111 rfl
theorem n137_114 : mx_ins 137 114 = some ((.iconst 0), 1) := mx_ins_of mi137 dX15_meets_114 rfl
theorem u137_114 : ev d 137 114 lo st h = ev d 137 115 lo (.int 0 :: st) h := (ev_s (f := mx_push (.int 0)) n137_114 rfl rfl).trans es_push
theorem n137_115 : mx_ins 137 115 = some (.ireturn, 1) := mx_ins_of mi137 dX15_meets_115 rfl
theorem u137_115 : ev d 137 115 lo st h = evI d 137 115 116 lo st h .ireturn := ev_u n137_115 rfl
theorem mi138 : mx_mi 138 = some (yX16_init, cX16_init, 1, (none : Option FieldType), 16, 1, []) := rfl
theorem ow138 : mx_own 138 = 16 := mx_mi_own mi138
theorem mm138 : mx_max 138 = 1 := mx_mi_max mi138
theorem rt138 : mx_ret 138 = (none : Option FieldType) := mx_mi_ret mi138
theorem hn138 : mx_hnd 138 = [] := mx_mi_hnd mi138
theorem n138_0 : mx_ins 138 0 = some ((.aload_n 0), 1) := mx_ins_of mi138 dX16_init_0 rfl
theorem u138_0 : ev d 138 0 lo st h = evS (mx_ldA 0) d 138 1 lo st h := ev_s n138_0 rfl rfl
theorem n138_1 : mx_ins 138 1 = some ((.invokespecial 1), 3) := mx_ins_of mi138 dX16_init_1 rfl
theorem u138_1 : ev d 138 1 lo st h = evIn d 138 1 4 16 1 1 true lo st h := ev_inv n138_1 rfl rfl ow138 ia16_1
theorem n138_4 : mx_ins 138 4 = some ((.aload_n 0), 1) := mx_ins_of mi138 dX16_init_4 rfl
theorem u138_4 : ev d 138 4 lo st h = evS (mx_ldA 0) d 138 5 lo st h := ev_s n138_4 rfl rfl
theorem n138_5 : mx_ins 138 5 = some ((.iconst (-1)), 1) := mx_ins_of mi138 dX16_init_5 rfl
theorem u138_5 : ev d 138 5 lo st h = ev d 138 6 lo (.int (-1) :: st) h := (ev_s (f := mx_push (.int (-1))) n138_5 rfl rfl).trans es_push
theorem n138_6 : mx_ins 138 6 = some ((.putfield 7), 3) := mx_ins_of mi138 dX16_init_6 rfl
theorem u138_6 : ev d 138 6 lo st h = evS (mx_pf 16 7 true) d 138 9 lo st h := ev_s n138_6 rfl rfl
theorem n138_9 : mx_ins 138 9 = some (.return_, 1) := mx_ins_of mi138 dX16_init_9 rfl
theorem u138_9 : ev d 138 9 lo st h = evI d 138 9 10 lo st h .return_ := ev_u n138_9 rfl
theorem mi139 : mx_mi 139 = some (yX16_row, cX16_row, 1, (Option.some (Jvm.ClassFile.FieldType.object "java/lang/Object")), 16, 1, []) := rfl
theorem ow139 : mx_own 139 = 16 := mx_mi_own mi139
theorem mm139 : mx_max 139 = 1 := mx_mi_max mi139
theorem rt139 : mx_ret 139 = (Option.some (Jvm.ClassFile.FieldType.object "java/lang/Object")) := mx_mi_ret mi139
theorem hn139 : mx_hnd 139 = [] := mx_mi_hnd mi139
theorem rr139 : mx_rr 139 = true := by unfold mx_rr; rw [rt139]
theorem n139_0 : mx_ins 139 0 = some ((.aload_n 0), 1) := mx_ins_of mi139 dX16_row_0 rfl
theorem u139_0 : ev d 139 0 lo st h = evS (mx_ldA 0) d 139 1 lo st h := ev_s n139_0 rfl rfl
theorem n139_1 : mx_ins 139 1 = some ((.getfield 7), 3) := mx_ins_of mi139 dX16_row_1 rfl
theorem u139_1 : ev d 139 1 lo st h = evS (mx_gf 16 7) d 139 4 lo st h := ev_s n139_1 rfl rfl
theorem n139_4 : mx_ins 139 4 = some ((.tableswitch 52 0 3 #[32, 37, 42, 47]), 32) := mx_ins_of mi139 dX16_row_4 rfl
theorem u139_4 : ev d 139 4 lo st h = evTS d 139 [(0, 36), (1, 41), (2, 46), (3, 51)] 56 lo st h := ev_ts n139_4 rfl rfl
theorem n139_36 : mx_ins 139 36 = some ((.aload_n 0), 1) := mx_ins_of mi139 dX16_row_36 rfl
theorem u139_36 : ev d 139 36 lo st h = evS (mx_ldA 0) d 139 37 lo st h := ev_s n139_36 rfl rfl
theorem n139_37 : mx_ins 139 37 = some ((.getfield 13), 3) := mx_ins_of mi139 dX16_row_37 rfl
theorem u139_37 : ev d 139 37 lo st h = evS (mx_gf 16 13) d 139 40 lo st h := ev_s n139_37 rfl rfl
theorem n139_40 : mx_ins 139 40 = some (.areturn, 1) := mx_ins_of mi139 dX16_row_40 rfl
theorem u139_40 : ev d 139 40 lo st h = evI d 139 40 41 lo st h .areturn := ev_u n139_40 rfl
theorem n139_41 : mx_ins 139 41 = some ((.aload_n 0), 1) := mx_ins_of mi139 dX16_row_41 rfl
theorem u139_41 : ev d 139 41 lo st h = evS (mx_ldA 0) d 139 42 lo st h := ev_s n139_41 rfl rfl
theorem n139_42 : mx_ins 139 42 = some ((.getfield 17), 3) := mx_ins_of mi139 dX16_row_42 rfl
theorem u139_42 : ev d 139 42 lo st h = evS (mx_gf 16 17) d 139 45 lo st h := ev_s n139_42 rfl rfl
theorem n139_45 : mx_ins 139 45 = some (.areturn, 1) := mx_ins_of mi139 dX16_row_45 rfl
theorem u139_45 : ev d 139 45 lo st h = evI d 139 45 46 lo st h .areturn := ev_u n139_45 rfl
theorem n139_46 : mx_ins 139 46 = some ((.aload_n 0), 1) := mx_ins_of mi139 dX16_row_46 rfl
theorem u139_46 : ev d 139 46 lo st h = evS (mx_ldA 0) d 139 47 lo st h := ev_s n139_46 rfl rfl
theorem n139_47 : mx_ins 139 47 = some ((.getfield 21), 3) := mx_ins_of mi139 dX16_row_47 rfl
theorem u139_47 : ev d 139 47 lo st h = evS (mx_gf 16 21) d 139 50 lo st h := ev_s n139_47 rfl rfl
theorem n139_50 : mx_ins 139 50 = some (.areturn, 1) := mx_ins_of mi139 dX16_row_50 rfl
theorem u139_50 : ev d 139 50 lo st h = evI d 139 50 51 lo st h .areturn := ev_u n139_50 rfl
theorem n139_51 : mx_ins 139 51 = some ((.aload_n 0), 1) := mx_ins_of mi139 dX16_row_51 rfl
theorem u139_51 : ev d 139 51 lo st h = evS (mx_ldA 0) d 139 52 lo st h := ev_s n139_51 rfl rfl
theorem n139_52 : mx_ins 139 52 = some ((.getfield 25), 3) := mx_ins_of mi139 dX16_row_52 rfl
theorem u139_52 : ev d 139 52 lo st h = evS (mx_gf 16 25) d 139 55 lo st h := ev_s n139_52 rfl rfl
theorem n139_55 : mx_ins 139 55 = some (.areturn, 1) := mx_ins_of mi139 dX16_row_55 rfl
theorem u139_55 : ev d 139 55 lo st h = evI d 139 55 56 lo st h .areturn := ev_u n139_55 rfl
theorem n139_56 : mx_ins 139 56 = some (.aconst_null, 1) := mx_ins_of mi139 dX16_row_56 rfl
theorem u139_56 : ev d 139 56 lo st h = evI d 139 56 57 lo st h .aconst_null := ev_u n139_56 rfl
theorem n139_57 : mx_ins 139 57 = some (.areturn, 1) := mx_ins_of mi139 dX16_row_57 rfl
theorem u139_57 : ev d 139 57 lo st h = evI d 139 57 58 lo st h .areturn := ev_u n139_57 rfl
theorem mi140 : mx_mi 140 = some (yX16_becomes, cX16_becomes, 3, (none : Option FieldType), 16, 3, []) := rfl
theorem ow140 : mx_own 140 = 16 := mx_mi_own mi140
theorem mm140 : mx_max 140 = 3 := mx_mi_max mi140
theorem rt140 : mx_ret 140 = (none : Option FieldType) := mx_mi_ret mi140
theorem hn140 : mx_hnd 140 = [] := mx_mi_hnd mi140
theorem n140_0 : mx_ins 140 0 = some ((.iload_n 1), 1) := mx_ins_of mi140 dX16_becomes_0 rfl
theorem u140_0 : ev d 140 0 lo st h = evS (mx_ldI 1) d 140 1 lo st h := ev_s n140_0 rfl rfl
theorem n140_1 : mx_ins 140 1 = some ((.tableswitch 71 0 3 #[31, 41, 51, 61]), 31) := mx_ins_of mi140 dX16_becomes_1 rfl
theorem u140_1 : ev d 140 1 lo st h = evTS d 140 [(0, 32), (1, 42), (2, 52), (3, 62)] 72 lo st h := ev_ts n140_1 rfl rfl
theorem n140_32 : mx_ins 140 32 = some ((.aload_n 0), 1) := mx_ins_of mi140 dX16_becomes_32 rfl
theorem u140_32 : ev d 140 32 lo st h = evS (mx_ldA 0) d 140 33 lo st h := ev_s n140_32 rfl rfl
theorem n140_33 : mx_ins 140 33 = some ((.iload_n 2), 1) := mx_ins_of mi140 dX16_becomes_33 rfl
theorem u140_33 : ev d 140 33 lo st h = evS (mx_ldI 2) d 140 34 lo st h := ev_s n140_33 rfl rfl
theorem n140_34 : mx_ins 140 34 = some ((.newarray .byte), 2) := mx_ins_of mi140 dX16_becomes_34 rfl
theorem u140_34 : ev d 140 34 lo st h = evI d 140 34 36 lo st h (.newarray .byte) := ev_u n140_34 rfl
theorem n140_36 : mx_ins 140 36 = some ((.putfield 13), 3) := mx_ins_of mi140 dX16_becomes_36 rfl
theorem u140_36 : ev d 140 36 lo st h = evS (mx_pf 16 13 false) d 140 39 lo st h := ev_s n140_36 rfl rfl
theorem n140_39 : mx_ins 140 39 = some ((.goto 33), 3) := mx_ins_of mi140 dX16_becomes_39 rfl
theorem u140_39 : ev d 140 39 lo st h = ev d 140 72 lo st h := ev_goto n140_39 rfl
theorem n140_42 : mx_ins 140 42 = some ((.aload_n 0), 1) := mx_ins_of mi140 dX16_becomes_42 rfl
theorem u140_42 : ev d 140 42 lo st h = evS (mx_ldA 0) d 140 43 lo st h := ev_s n140_42 rfl rfl
theorem n140_43 : mx_ins 140 43 = some ((.iload_n 2), 1) := mx_ins_of mi140 dX16_becomes_43 rfl
theorem u140_43 : ev d 140 43 lo st h = evS (mx_ldI 2) d 140 44 lo st h := ev_s n140_43 rfl rfl
theorem n140_44 : mx_ins 140 44 = some ((.newarray .short), 2) := mx_ins_of mi140 dX16_becomes_44 rfl
theorem u140_44 : ev d 140 44 lo st h = evI d 140 44 46 lo st h (.newarray .short) := ev_u n140_44 rfl
theorem n140_46 : mx_ins 140 46 = some ((.putfield 17), 3) := mx_ins_of mi140 dX16_becomes_46 rfl
theorem u140_46 : ev d 140 46 lo st h = evS (mx_pf 16 17 false) d 140 49 lo st h := ev_s n140_46 rfl rfl
theorem n140_49 : mx_ins 140 49 = some ((.goto 23), 3) := mx_ins_of mi140 dX16_becomes_49 rfl
theorem u140_49 : ev d 140 49 lo st h = ev d 140 72 lo st h := ev_goto n140_49 rfl
theorem n140_52 : mx_ins 140 52 = some ((.aload_n 0), 1) := mx_ins_of mi140 dX16_becomes_52 rfl
theorem u140_52 : ev d 140 52 lo st h = evS (mx_ldA 0) d 140 53 lo st h := ev_s n140_52 rfl rfl
theorem n140_53 : mx_ins 140 53 = some ((.iload_n 2), 1) := mx_ins_of mi140 dX16_becomes_53 rfl
theorem u140_53 : ev d 140 53 lo st h = evS (mx_ldI 2) d 140 54 lo st h := ev_s n140_53 rfl rfl
theorem n140_54 : mx_ins 140 54 = some ((.newarray .int), 2) := mx_ins_of mi140 dX16_becomes_54 rfl
theorem u140_54 : ev d 140 54 lo st h = evI d 140 54 56 lo st h (.newarray .int) := ev_u n140_54 rfl
theorem n140_56 : mx_ins 140 56 = some ((.putfield 21), 3) := mx_ins_of mi140 dX16_becomes_56 rfl
theorem u140_56 : ev d 140 56 lo st h = evS (mx_pf 16 21 false) d 140 59 lo st h := ev_s n140_56 rfl rfl
theorem n140_59 : mx_ins 140 59 = some ((.goto 13), 3) := mx_ins_of mi140 dX16_becomes_59 rfl
theorem u140_59 : ev d 140 59 lo st h = ev d 140 72 lo st h := ev_goto n140_59 rfl
theorem n140_62 : mx_ins 140 62 = some ((.aload_n 0), 1) := mx_ins_of mi140 dX16_becomes_62 rfl
theorem u140_62 : ev d 140 62 lo st h = evS (mx_ldA 0) d 140 63 lo st h := ev_s n140_62 rfl rfl
theorem n140_63 : mx_ins 140 63 = some ((.iload_n 2), 1) := mx_ins_of mi140 dX16_becomes_63 rfl
theorem u140_63 : ev d 140 63 lo st h = evS (mx_ldI 2) d 140 64 lo st h := ev_s n140_63 rfl rfl
theorem n140_64 : mx_ins 140 64 = some ((.newarray .long), 2) := mx_ins_of mi140 dX16_becomes_64 rfl
theorem u140_64 : ev d 140 64 lo st h = evI d 140 64 66 lo st h (.newarray .long) := ev_u n140_64 rfl
theorem n140_66 : mx_ins 140 66 = some ((.putfield 25), 3) := mx_ins_of mi140 dX16_becomes_66 rfl
theorem u140_66 : ev d 140 66 lo st h = evS (mx_pf 16 25 false) d 140 69 lo st h := ev_s n140_66 rfl rfl
theorem n140_69 : mx_ins 140 69 = some ((.goto 3), 3) := mx_ins_of mi140 dX16_becomes_69 rfl
theorem u140_69 : ev d 140 69 lo st h = ev d 140 72 lo st h := ev_goto n140_69 rfl
theorem n140_72 : mx_ins 140 72 = some ((.aload_n 0), 1) := mx_ins_of mi140 dX16_becomes_72 rfl
theorem u140_72 : ev d 140 72 lo st h = evS (mx_ldA 0) d 140 73 lo st h := ev_s n140_72 rfl rfl
theorem n140_73 : mx_ins 140 73 = some ((.iload_n 1), 1) := mx_ins_of mi140 dX16_becomes_73 rfl
theorem u140_73 : ev d 140 73 lo st h = evS (mx_ldI 1) d 140 74 lo st h := ev_s n140_73 rfl rfl
theorem n140_74 : mx_ins 140 74 = some ((.putfield 7), 3) := mx_ins_of mi140 dX16_becomes_74 rfl
theorem u140_74 : ev d 140 74 lo st h = evS (mx_pf 16 7 false) d 140 77 lo st h := ev_s n140_74 rfl rfl
theorem n140_77 : mx_ins 140 77 = some (.return_, 1) := mx_ins_of mi140 dX16_becomes_77 rfl
theorem u140_77 : ev d 140 77 lo st h = evI d 140 77 78 lo st h .return_ := ev_u n140_77 rfl
theorem mi141 : mx_mi 141 = some (yX17_init, cX17_init, 1, (none : Option FieldType), 17, 1, []) := rfl
theorem ow141 : mx_own 141 = 17 := mx_mi_own mi141
theorem mm141 : mx_max 141 = 1 := mx_mi_max mi141
theorem rt141 : mx_ret 141 = (none : Option FieldType) := mx_mi_ret mi141
theorem hn141 : mx_hnd 141 = [] := mx_mi_hnd mi141
theorem n141_0 : mx_ins 141 0 = some ((.aload_n 0), 1) := mx_ins_of mi141 dX17_init_0 rfl
theorem u141_0 : ev d 141 0 lo st h = evS (mx_ldA 0) d 141 1 lo st h := ev_s n141_0 rfl rfl
theorem n141_1 : mx_ins 141 1 = some (.aconst_null, 1) := mx_ins_of mi141 dX17_init_1 rfl
theorem u141_1 : ev d 141 1 lo st h = evI d 141 1 2 lo st h .aconst_null := ev_u n141_1 rfl
theorem n141_2 : mx_ins 141 2 = some (.aconst_null, 1) := mx_ins_of mi141 dX17_init_2 rfl
theorem u141_2 : ev d 141 2 lo st h = evI d 141 2 3 lo st h .aconst_null := ev_u n141_2 rfl
theorem n141_3 : mx_ins 141 3 = some ((.iconst 0), 1) := mx_ins_of mi141 dX17_init_3 rfl
theorem u141_3 : ev d 141 3 lo st h = ev d 141 4 lo (.int 0 :: st) h := (ev_s (f := mx_push (.int 0)) n141_3 rfl rfl).trans es_push
theorem n141_4 : mx_ins 141 4 = some ((.iconst 0), 1) := mx_ins_of mi141 dX17_init_4 rfl
theorem u141_4 : ev d 141 4 lo st h = ev d 141 5 lo (.int 0 :: st) h := (ev_s (f := mx_push (.int 0)) n141_4 rfl rfl).trans es_push
theorem n141_5 : mx_ins 141 5 = some ((.invokespecial 1), 3) := mx_ins_of mi141 dX17_init_5 rfl
theorem u141_5 : ev d 141 5 lo st h = evIn d 141 5 8 17 1 5 true lo st h := ev_inv n141_5 rfl rfl ow141 ia17_1
theorem n141_8 : mx_ins 141 8 = some (.return_, 1) := mx_ins_of mi141 dX17_init_8 rfl
theorem u141_8 : ev d 141 8 lo st h = evI d 141 8 9 lo st h .return_ := ev_u n141_8 rfl
theorem mi142 : mx_mi 142 = some (yX18_init, cX18_init, 1, (none : Option FieldType), 18, 1, []) := rfl
theorem ow142 : mx_own 142 = 18 := mx_mi_own mi142
theorem mm142 : mx_max 142 = 1 := mx_mi_max mi142
theorem rt142 : mx_ret 142 = (none : Option FieldType) := mx_mi_ret mi142
theorem hn142 : mx_hnd 142 = [] := mx_mi_hnd mi142
theorem n142_0 : mx_ins 142 0 = some ((.aload_n 0), 1) := mx_ins_of mi142 dX18_init_0 rfl
theorem u142_0 : ev d 142 0 lo st h = evS (mx_ldA 0) d 142 1 lo st h := ev_s n142_0 rfl rfl
theorem n142_1 : mx_ins 142 1 = some (.aconst_null, 1) := mx_ins_of mi142 dX18_init_1 rfl
theorem u142_1 : ev d 142 1 lo st h = evI d 142 1 2 lo st h .aconst_null := ev_u n142_1 rfl
theorem n142_2 : mx_ins 142 2 = some (.aconst_null, 1) := mx_ins_of mi142 dX18_init_2 rfl
theorem u142_2 : ev d 142 2 lo st h = evI d 142 2 3 lo st h .aconst_null := ev_u n142_2 rfl
theorem n142_3 : mx_ins 142 3 = some ((.iconst 0), 1) := mx_ins_of mi142 dX18_init_3 rfl
theorem u142_3 : ev d 142 3 lo st h = ev d 142 4 lo (.int 0 :: st) h := (ev_s (f := mx_push (.int 0)) n142_3 rfl rfl).trans es_push
theorem n142_4 : mx_ins 142 4 = some ((.iconst 0), 1) := mx_ins_of mi142 dX18_init_4 rfl
theorem u142_4 : ev d 142 4 lo st h = ev d 142 5 lo (.int 0 :: st) h := (ev_s (f := mx_push (.int 0)) n142_4 rfl rfl).trans es_push
theorem n142_5 : mx_ins 142 5 = some ((.invokespecial 1), 3) := mx_ins_of mi142 dX18_init_5 rfl
theorem u142_5 : ev d 142 5 lo st h = evIn d 142 5 8 18 1 5 true lo st h := ev_inv n142_5 rfl rfl ow142 ia18_1
theorem n142_8 : mx_ins 142 8 = some (.return_, 1) := mx_ins_of mi142 dX18_init_8 rfl
theorem u142_8 : ev d 142 8 lo st h = evI d 142 8 9 lo st h .return_ := ev_u n142_8 rfl
theorem mi143 : mx_mi 143 = some (yX19_init, cX19_init, 1, (none : Option FieldType), 19, 1, []) := rfl
theorem ow143 : mx_own 143 = 19 := mx_mi_own mi143
theorem mm143 : mx_max 143 = 1 := mx_mi_max mi143
theorem rt143 : mx_ret 143 = (none : Option FieldType) := mx_mi_ret mi143
theorem hn143 : mx_hnd 143 = [] := mx_mi_hnd mi143
theorem n143_0 : mx_ins 143 0 = some ((.aload_n 0), 1) := mx_ins_of mi143 dX19_init_0 rfl
theorem u143_0 : ev d 143 0 lo st h = evS (mx_ldA 0) d 143 1 lo st h := ev_s n143_0 rfl rfl
theorem n143_1 : mx_ins 143 1 = some ((.invokespecial 1), 3) := mx_ins_of mi143 dX19_init_1 rfl
theorem u143_1 : ev d 143 1 lo st h = evIn d 143 1 4 19 1 1 true lo st h := ev_inv n143_1 rfl rfl ow143 ia19_1
theorem n143_4 : mx_ins 143 4 = some ((.aload_n 0), 1) := mx_ins_of mi143 dX19_init_4 rfl
theorem u143_4 : ev d 143 4 lo st h = evS (mx_ldA 0) d 143 5 lo st h := ev_s n143_4 rfl rfl
theorem n143_5 : mx_ins 143 5 = some ((.iconst 2), 1) := mx_ins_of mi143 dX19_init_5 rfl
theorem u143_5 : ev d 143 5 lo st h = ev d 143 6 lo (.int 2 :: st) h := (ev_s (f := mx_push (.int 2)) n143_5 rfl rfl).trans es_push
theorem n143_6 : mx_ins 143 6 = some ((.putfield 7), 3) := mx_ins_of mi143 dX19_init_6 rfl
theorem u143_6 : ev d 143 6 lo st h = evS (mx_pf 19 7 true) d 143 9 lo st h := ev_s n143_6 rfl rfl
theorem n143_9 : mx_ins 143 9 = some (.return_, 1) := mx_ins_of mi143 dX19_init_9 rfl
theorem u143_9 : ev d 143 9 lo st h = evI d 143 9 10 lo st h .return_ := ev_u n143_9 rfl
theorem mi240 : mx_mi 240 = some (yX21_init, cX21_init, 1, (none : Option FieldType), 21, 1, []) := rfl
theorem ow240 : mx_own 240 = 21 := mx_mi_own mi240
theorem mm240 : mx_max 240 = 1 := mx_mi_max mi240
theorem rt240 : mx_ret 240 = (none : Option FieldType) := mx_mi_ret mi240
theorem hn240 : mx_hnd 240 = [] := mx_mi_hnd mi240
theorem n240_0 : mx_ins 240 0 = some ((.aload_n 0), 1) := mx_ins_of mi240 dX21_init_0 rfl
theorem u240_0 : ev d 240 0 lo st h = evS (mx_ldA 0) d 240 1 lo st h := ev_s n240_0 rfl rfl
theorem n240_1 : mx_ins 240 1 = some ((.invokespecial 1), 3) := mx_ins_of mi240 dX21_init_1 rfl
theorem u240_1 : ev d 240 1 lo st h = evIn d 240 1 4 21 1 1 true lo st h := ev_inv n240_1 rfl rfl ow240 ia21_1
theorem n240_4 : mx_ins 240 4 = some (.return_, 1) := mx_ins_of mi240 dX21_init_4 rfl
theorem u240_4 : ev d 240 4 lo st h = evI d 240 4 5 lo st h .return_ := ev_u n240_4 rfl
theorem mi241 : mx_mi 241 = some (yX22_init, cX22_init, 4, (none : Option FieldType), 22, 4, []) := rfl
theorem ow241 : mx_own 241 = 22 := mx_mi_own mi241
theorem mm241 : mx_max 241 = 4 := mx_mi_max mi241
theorem rt241 : mx_ret 241 = (none : Option FieldType) := mx_mi_ret mi241
theorem hn241 : mx_hnd 241 = [] := mx_mi_hnd mi241
theorem n241_0 : mx_ins 241 0 = some ((.aload_n 0), 1) := mx_ins_of mi241 dX22_init_0 rfl
theorem u241_0 : ev d 241 0 lo st h = evS (mx_ldA 0) d 241 1 lo st h := ev_s n241_0 rfl rfl
theorem n241_1 : mx_ins 241 1 = some ((.invokespecial 1), 3) := mx_ins_of mi241 dX22_init_1 rfl
theorem u241_1 : ev d 241 1 lo st h = evIn d 241 1 4 22 1 1 false lo st h := ev_inv n241_1 rfl rfl ow241 ia22_1
theorem n241_4 : mx_ins 241 4 = some ((.aload_n 0), 1) := mx_ins_of mi241 dX22_init_4 rfl
theorem u241_4 : ev d 241 4 lo st h = evS (mx_ldA 0) d 241 5 lo st h := ev_s n241_4 rfl rfl
theorem n241_5 : mx_ins 241 5 = some ((.iload_n 1), 1) := mx_ins_of mi241 dX22_init_5 rfl
theorem u241_5 : ev d 241 5 lo st h = evS (mx_ldI 1) d 241 6 lo st h := ev_s n241_5 rfl rfl
theorem n241_6 : mx_ins 241 6 = some ((.putfield 7), 3) := mx_ins_of mi241 dX22_init_6 rfl
theorem u241_6 : ev d 241 6 lo st h = evS (mx_pf 22 7 true) d 241 9 lo st h := ev_s n241_6 rfl rfl
theorem n241_9 : mx_ins 241 9 = some ((.aload_n 0), 1) := mx_ins_of mi241 dX22_init_9 rfl
theorem u241_9 : ev d 241 9 lo st h = evS (mx_ldA 0) d 241 10 lo st h := ev_s n241_9 rfl rfl
theorem n241_10 : mx_ins 241 10 = some ((.iload_n 2), 1) := mx_ins_of mi241 dX22_init_10 rfl
theorem u241_10 : ev d 241 10 lo st h = evS (mx_ldI 2) d 241 11 lo st h := ev_s n241_10 rfl rfl
theorem n241_11 : mx_ins 241 11 = some ((.putfield 13), 3) := mx_ins_of mi241 dX22_init_11 rfl
theorem u241_11 : ev d 241 11 lo st h = evS (mx_pf 22 13 true) d 241 14 lo st h := ev_s n241_11 rfl rfl
theorem n241_14 : mx_ins 241 14 = some ((.aload_n 0), 1) := mx_ins_of mi241 dX22_init_14 rfl
theorem u241_14 : ev d 241 14 lo st h = evS (mx_ldA 0) d 241 15 lo st h := ev_s n241_14 rfl rfl
theorem n241_15 : mx_ins 241 15 = some ((.iload_n 3), 1) := mx_ins_of mi241 dX22_init_15 rfl
theorem u241_15 : ev d 241 15 lo st h = evS (mx_ldI 3) d 241 16 lo st h := ev_s n241_15 rfl rfl
theorem n241_16 : mx_ins 241 16 = some ((.putfield 16), 3) := mx_ins_of mi241 dX22_init_16 rfl
theorem u241_16 : ev d 241 16 lo st h = evS (mx_pf 22 16 true) d 241 19 lo st h := ev_s n241_16 rfl rfl
theorem n241_19 : mx_ins 241 19 = some (.return_, 1) := mx_ins_of mi241 dX22_init_19 rfl
theorem u241_19 : ev d 241 19 lo st h = evI d 241 19 20 lo st h .return_ := ev_u n241_19 rfl
theorem mi242 : mx_mi 242 = some (yX22_holds, cX22_holds, 4, (Option.some Jvm.ClassFile.FieldType.boolean), 22, 2, []) := rfl
theorem ow242 : mx_own 242 = 22 := mx_mi_own mi242
theorem mm242 : mx_max 242 = 4 := mx_mi_max mi242
theorem rt242 : mx_ret 242 = (Option.some Jvm.ClassFile.FieldType.boolean) := mx_mi_ret mi242
theorem hn242 : mx_hnd 242 = [] := mx_mi_hnd mi242
theorem n242_0 : mx_ins 242 0 = some ((.aload_n 0), 1) := mx_ins_of mi242 dX22_holds_0 rfl
theorem u242_0 : ev d 242 0 lo st h = evS (mx_ldA 0) d 242 1 lo st h := ev_s n242_0 rfl rfl
theorem n242_1 : mx_ins 242 1 = some ((.getfield 7), 3) := mx_ins_of mi242 dX22_holds_1 rfl
theorem u242_1 : ev d 242 1 lo st h = evS (mx_gf 22 7) d 242 4 lo st h := ev_s n242_1 rfl rfl
theorem n242_4 : mx_ins 242 4 = some ((.aload_n 1), 1) := mx_ins_of mi242 dX22_holds_4 rfl
theorem u242_4 : ev d 242 4 lo st h = evS (mx_ldA 1) d 242 5 lo st h := ev_s n242_4 rfl rfl
theorem n242_5 : mx_ins 242 5 = some ((.invokestatic 19), 3) := mx_ins_of mi242 dX22_holds_5 rfl
theorem u242_5 : ev d 242 5 lo st h = evIn d 242 5 8 22 19 2 true lo st h := ev_inv n242_5 rfl rfl ow242 ia22_19
theorem n242_8 : mx_ins 242 8 = some ((.istore_n 2), 1) := mx_ins_of mi242 dX22_holds_8 rfl
theorem u242_8 : ev d 242 8 lo st h = evS (mx_stI 2) d 242 9 lo st h := ev_s n242_8 rfl rfl
theorem n242_9 : mx_ins 242 9 = some ((.aload_n 0), 1) := mx_ins_of mi242 dX22_holds_9 rfl
theorem u242_9 : ev d 242 9 lo st h = evS (mx_ldA 0) d 242 10 lo st h := ev_s n242_9 rfl rfl
theorem n242_10 : mx_ins 242 10 = some ((.getfield 16), 3) := mx_ins_of mi242 dX22_holds_10 rfl
theorem u242_10 : ev d 242 10 lo st h = evS (mx_gf 22 16) d 242 13 lo st h := ev_s n242_10 rfl rfl
theorem n242_13 : mx_ins 242 13 = some ((.aload_n 1), 1) := mx_ins_of mi242 dX22_holds_13 rfl
theorem u242_13 : ev d 242 13 lo st h = evS (mx_ldA 1) d 242 14 lo st h := ev_s n242_13 rfl rfl
theorem n242_14 : mx_ins 242 14 = some ((.invokestatic 19), 3) := mx_ins_of mi242 dX22_holds_14 rfl
theorem u242_14 : ev d 242 14 lo st h = evIn d 242 14 17 22 19 2 true lo st h := ev_inv n242_14 rfl rfl ow242 ia22_19
theorem n242_17 : mx_ins 242 17 = some ((.istore_n 3), 1) := mx_ins_of mi242 dX22_holds_17 rfl
theorem u242_17 : ev d 242 17 lo st h = evS (mx_stI 3) d 242 18 lo st h := ev_s n242_17 rfl rfl
theorem n242_18 : mx_ins 242 18 = some ((.aload_n 0), 1) := mx_ins_of mi242 dX22_holds_18 rfl
theorem u242_18 : ev d 242 18 lo st h = evS (mx_ldA 0) d 242 19 lo st h := ev_s n242_18 rfl rfl
theorem n242_19 : mx_ins 242 19 = some ((.getfield 13), 3) := mx_ins_of mi242 dX22_holds_19 rfl
theorem u242_19 : ev d 242 19 lo st h = evS (mx_gf 22 13) d 242 22 lo st h := ev_s n242_19 rfl rfl
theorem n242_22 : mx_ins 242 22 = some ((.bipush 60), 2) := mx_ins_of mi242 dX22_holds_22 rfl
theorem u242_22 : ev d 242 22 lo st h = ev d 242 24 lo (.int 60 :: st) h := (ev_s (f := mx_push (.int 60)) n242_22 rfl rfl).trans es_push
theorem n242_24 : mx_ins 242 24 = some ((.if_icmp .ne 16), 3) := mx_ins_of mi242 dX22_holds_24 rfl
theorem u242_24 : ev d 242 24 lo st h = evK .ne d 242 40 27 lo st h := ev_ic n242_24 rfl rfl
theorem n242_27 : mx_ins 242 27 = some ((.iload_n 2), 1) := mx_ins_of mi242 dX22_holds_27 rfl
theorem u242_27 : ev d 242 27 lo st h = evS (mx_ldI 2) d 242 28 lo st h := ev_s n242_27 rfl rfl
theorem n242_28 : mx_ins 242 28 = some ((.iload_n 3), 1) := mx_ins_of mi242 dX22_holds_28 rfl
theorem u242_28 : ev d 242 28 lo st h = evS (mx_ldI 3) d 242 29 lo st h := ev_s n242_28 rfl rfl
theorem n242_29 : mx_ins 242 29 = some ((.if_icmp .ge 7), 3) := mx_ins_of mi242 dX22_holds_29 rfl
theorem u242_29 : ev d 242 29 lo st h = evK .ge d 242 36 32 lo st h := ev_ic n242_29 rfl rfl
theorem n242_32 : mx_ins 242 32 = some ((.iconst 1), 1) := mx_ins_of mi242 dX22_holds_32 rfl
theorem u242_32 : ev d 242 32 lo st h = ev d 242 33 lo (.int 1 :: st) h := (ev_s (f := mx_push (.int 1)) n242_32 rfl rfl).trans es_push
theorem n242_33 : mx_ins 242 33 = some ((.goto 39), 3) := mx_ins_of mi242 dX22_holds_33 rfl
theorem u242_33 : ev d 242 33 lo st h = ev d 242 72 lo st h := ev_goto n242_33 rfl
theorem n242_36 : mx_ins 242 36 = some ((.iconst 0), 1) := mx_ins_of mi242 dX22_holds_36 rfl
theorem u242_36 : ev d 242 36 lo st h = ev d 242 37 lo (.int 0 :: st) h := (ev_s (f := mx_push (.int 0)) n242_36 rfl rfl).trans es_push
theorem n242_37 : mx_ins 242 37 = some ((.goto 35), 3) := mx_ins_of mi242 dX22_holds_37 rfl
theorem u242_37 : ev d 242 37 lo st h = ev d 242 72 lo st h := ev_goto n242_37 rfl
theorem n242_40 : mx_ins 242 40 = some ((.aload_n 0), 1) := mx_ins_of mi242 dX22_holds_40 rfl
theorem u242_40 : ev d 242 40 lo st h = evS (mx_ldA 0) d 242 41 lo st h := ev_s n242_40 rfl rfl
theorem n242_41 : mx_ins 242 41 = some ((.getfield 13), 3) := mx_ins_of mi242 dX22_holds_41 rfl
theorem u242_41 : ev d 242 41 lo st h = evS (mx_gf 22 13) d 242 44 lo st h := ev_s n242_41 rfl rfl
theorem n242_44 : mx_ins 242 44 = some ((.bipush 62), 2) := mx_ins_of mi242 dX22_holds_44 rfl
theorem u242_44 : ev d 242 44 lo st h = ev d 242 46 lo (.int 62 :: st) h := (ev_s (f := mx_push (.int 62)) n242_44 rfl rfl).trans es_push
theorem n242_46 : mx_ins 242 46 = some ((.if_icmp .ne 16), 3) := mx_ins_of mi242 dX22_holds_46 rfl
theorem u242_46 : ev d 242 46 lo st h = evK .ne d 242 62 49 lo st h := ev_ic n242_46 rfl rfl
theorem n242_49 : mx_ins 242 49 = some ((.iload_n 2), 1) := mx_ins_of mi242 dX22_holds_49 rfl
theorem u242_49 : ev d 242 49 lo st h = evS (mx_ldI 2) d 242 50 lo st h := ev_s n242_49 rfl rfl
theorem n242_50 : mx_ins 242 50 = some ((.iload_n 3), 1) := mx_ins_of mi242 dX22_holds_50 rfl
theorem u242_50 : ev d 242 50 lo st h = evS (mx_ldI 3) d 242 51 lo st h := ev_s n242_50 rfl rfl
theorem n242_51 : mx_ins 242 51 = some ((.if_icmp .le 7), 3) := mx_ins_of mi242 dX22_holds_51 rfl
theorem u242_51 : ev d 242 51 lo st h = evK .le d 242 58 54 lo st h := ev_ic n242_51 rfl rfl
theorem n242_54 : mx_ins 242 54 = some ((.iconst 1), 1) := mx_ins_of mi242 dX22_holds_54 rfl
theorem u242_54 : ev d 242 54 lo st h = ev d 242 55 lo (.int 1 :: st) h := (ev_s (f := mx_push (.int 1)) n242_54 rfl rfl).trans es_push
theorem n242_55 : mx_ins 242 55 = some ((.goto 17), 3) := mx_ins_of mi242 dX22_holds_55 rfl
theorem u242_55 : ev d 242 55 lo st h = ev d 242 72 lo st h := ev_goto n242_55 rfl
theorem n242_58 : mx_ins 242 58 = some ((.iconst 0), 1) := mx_ins_of mi242 dX22_holds_58 rfl
theorem u242_58 : ev d 242 58 lo st h = ev d 242 59 lo (.int 0 :: st) h := (ev_s (f := mx_push (.int 0)) n242_58 rfl rfl).trans es_push
theorem n242_59 : mx_ins 242 59 = some ((.goto 13), 3) := mx_ins_of mi242 dX22_holds_59 rfl
theorem u242_59 : ev d 242 59 lo st h = ev d 242 72 lo st h := ev_goto n242_59 rfl
theorem n242_62 : mx_ins 242 62 = some ((.iload_n 2), 1) := mx_ins_of mi242 dX22_holds_62 rfl
theorem u242_62 : ev d 242 62 lo st h = evS (mx_ldI 2) d 242 63 lo st h := ev_s n242_62 rfl rfl
theorem n242_63 : mx_ins 242 63 = some ((.iload_n 3), 1) := mx_ins_of mi242 dX22_holds_63 rfl
theorem u242_63 : ev d 242 63 lo st h = evS (mx_ldI 3) d 242 64 lo st h := ev_s n242_63 rfl rfl
theorem n242_64 : mx_ins 242 64 = some ((.if_icmp .ne 7), 3) := mx_ins_of mi242 dX22_holds_64 rfl
theorem u242_64 : ev d 242 64 lo st h = evK .ne d 242 71 67 lo st h := ev_ic n242_64 rfl rfl
theorem n242_67 : mx_ins 242 67 = some ((.iconst 1), 1) := mx_ins_of mi242 dX22_holds_67 rfl
theorem u242_67 : ev d 242 67 lo st h = ev d 242 68 lo (.int 1 :: st) h := (ev_s (f := mx_push (.int 1)) n242_67 rfl rfl).trans es_push
theorem n242_68 : mx_ins 242 68 = some ((.goto 4), 3) := mx_ins_of mi242 dX22_holds_68 rfl
theorem u242_68 : ev d 242 68 lo st h = ev d 242 72 lo st h := ev_goto n242_68 rfl
theorem n242_71 : mx_ins 242 71 = some ((.iconst 0), 1) := mx_ins_of mi242 dX22_holds_71 rfl
theorem u242_71 : ev d 242 71 lo st h = ev d 242 72 lo (.int 0 :: st) h := (ev_s (f := mx_push (.int 0)) n242_71 rfl rfl).trans es_push
theorem n242_72 : mx_ins 242 72 = some (.ireturn, 1) := mx_ins_of mi242 dX22_holds_72 rfl
theorem u242_72 : ev d 242 72 lo st h = evI d 242 72 73 lo st h .ireturn := ev_u n242_72 rfl
theorem mi243 : mx_mi 243 = some (yX22_worth, cX22_worth, 2, (Option.some Jvm.ClassFile.FieldType.int), 22, 2, []) := rfl
theorem ow243 : mx_own 243 = 22 := mx_mi_own mi243
theorem mm243 : mx_max 243 = 2 := mx_mi_max mi243
theorem rt243 : mx_ret 243 = (Option.some Jvm.ClassFile.FieldType.int) := mx_mi_ret mi243
theorem hn243 : mx_hnd 243 = [] := mx_mi_hnd mi243
theorem n243_0 : mx_ins 243 0 = some ((.iload_n 0), 1) := mx_ins_of mi243 dX22_worth_0 rfl
theorem u243_0 : ev d 243 0 lo st h = evS (mx_ldI 0) d 243 1 lo st h := ev_s n243_0 rfl rfl
theorem n243_1 : mx_ins 243 1 = some ((.ifCond .ge 11), 3) := mx_ins_of mi243 dX22_worth_1 rfl
theorem u243_1 : ev d 243 1 lo st h = evJ .ge d 243 12 4 lo st h := ev_if n243_1 rfl rfl
theorem n243_4 : mx_ins 243 4 = some ((.aload_n 1), 1) := mx_ins_of mi243 dX22_worth_4 rfl
theorem u243_4 : ev d 243 4 lo st h = evS (mx_ldA 1) d 243 5 lo st h := ev_s n243_4 rfl rfl
theorem n243_5 : mx_ins 243 5 = some ((.iconst (-1)), 1) := mx_ins_of mi243 dX22_worth_5 rfl
theorem u243_5 : ev d 243 5 lo st h = ev d 243 6 lo (.int (-1) :: st) h := (ev_s (f := mx_push (.int (-1))) n243_5 rfl rfl).trans es_push
theorem n243_6 : mx_ins 243 6 = some ((.iload_n 0), 1) := mx_ins_of mi243 dX22_worth_6 rfl
theorem u243_6 : ev d 243 6 lo st h = evS (mx_ldI 0) d 243 7 lo st h := ev_s n243_6 rfl rfl
theorem n243_7 : mx_ins 243 7 = some (.isub, 1) := mx_ins_of mi243 dX22_worth_7 rfl
theorem u243_7 : ev d 243 7 lo st h = evI d 243 7 8 lo st h .isub := ev_u n243_7 rfl
theorem n243_8 : mx_ins 243 8 = some (.iaload, 1) := mx_ins_of mi243 dX22_worth_8 rfl
theorem u243_8 : ev d 243 8 lo st h = evI d 243 8 9 lo st h .iaload := ev_u n243_8 rfl
theorem n243_9 : mx_ins 243 9 = some ((.goto 4), 3) := mx_ins_of mi243 dX22_worth_9 rfl
theorem u243_9 : ev d 243 9 lo st h = ev d 243 13 lo st h := ev_goto n243_9 rfl
theorem n243_12 : mx_ins 243 12 = some ((.iload_n 0), 1) := mx_ins_of mi243 dX22_worth_12 rfl
theorem u243_12 : ev d 243 12 lo st h = evS (mx_ldI 0) d 243 13 lo st h := ev_s n243_12 rfl rfl
theorem n243_13 : mx_ins 243 13 = some (.ireturn, 1) := mx_ins_of mi243 dX22_worth_13 rfl
theorem u243_13 : ev d 243 13 lo st h = evI d 243 13 14 lo st h .ireturn := ev_u n243_13 rfl
theorem mi244 : mx_mi 244 = some (yX23_init, cX23_init, 2, (none : Option FieldType), 23, 2, []) := rfl
theorem ow244 : mx_own 244 = 23 := mx_mi_own mi244
theorem mm244 : mx_max 244 = 2 := mx_mi_max mi244
theorem rt244 : mx_ret 244 = (none : Option FieldType) := mx_mi_ret mi244
theorem hn244 : mx_hnd 244 = [] := mx_mi_hnd mi244
theorem n244_0 : mx_ins 244 0 = some ((.aload_n 0), 1) := mx_ins_of mi244 dX23_init_0 rfl
theorem u244_0 : ev d 244 0 lo st h = evS (mx_ldA 0) d 244 1 lo st h := ev_s n244_0 rfl rfl
theorem n244_1 : mx_ins 244 1 = some ((.invokespecial 1), 3) := mx_ins_of mi244 dX23_init_1 rfl
theorem u244_1 : ev d 244 1 lo st h = evIn d 244 1 4 23 1 1 false lo st h := ev_inv n244_1 rfl rfl ow244 ia23_1
theorem n244_4 : mx_ins 244 4 = some ((.aload_n 0), 1) := mx_ins_of mi244 dX23_init_4 rfl
theorem u244_4 : ev d 244 4 lo st h = evS (mx_ldA 0) d 244 5 lo st h := ev_s n244_4 rfl rfl
theorem n244_5 : mx_ins 244 5 = some ((.aload_n 1), 1) := mx_ins_of mi244 dX23_init_5 rfl
theorem u244_5 : ev d 244 5 lo st h = evS (mx_ldA 1) d 244 6 lo st h := ev_s n244_5 rfl rfl
theorem n244_6 : mx_ins 244 6 = some ((.putfield 7), 3) := mx_ins_of mi244 dX23_init_6 rfl
theorem u244_6 : ev d 244 6 lo st h = evS (mx_pf 23 7 true) d 244 9 lo st h := ev_s n244_6 rfl rfl
theorem n244_9 : mx_ins 244 9 = some (.return_, 1) := mx_ins_of mi244 dX23_init_9 rfl
theorem u244_9 : ev d 244 9 lo st h = evI d 244 9 10 lo st h .return_ := ev_u n244_9 rfl
theorem mi245 : mx_mi 245 = some (yX23_holds, cX23_holds, 2, (Option.some Jvm.ClassFile.FieldType.boolean), 23, 2, []) := rfl
theorem ow245 : mx_own 245 = 23 := mx_mi_own mi245
theorem mm245 : mx_max 245 = 2 := mx_mi_max mi245
theorem rt245 : mx_ret 245 = (Option.some Jvm.ClassFile.FieldType.boolean) := mx_mi_ret mi245
theorem hn245 : mx_hnd 245 = [] := mx_mi_hnd mi245
theorem n245_0 : mx_ins 245 0 = some ((.aload_n 0), 1) := mx_ins_of mi245 dX23_holds_0 rfl
theorem u245_0 : ev d 245 0 lo st h = evS (mx_ldA 0) d 245 1 lo st h := ev_s n245_0 rfl rfl
theorem n245_1 : mx_ins 245 1 = some ((.getfield 7), 3) := mx_ins_of mi245 dX23_holds_1 rfl
theorem u245_1 : ev d 245 1 lo st h = evS (mx_gf 23 7) d 245 4 lo st h := ev_s n245_1 rfl rfl
theorem n245_4 : mx_ins 245 4 = some ((.aload_n 1), 1) := mx_ins_of mi245 dX23_holds_4 rfl
theorem u245_4 : ev d 245 4 lo st h = evS (mx_ldA 1) d 245 5 lo st h := ev_s n245_4 rfl rfl
theorem n245_5 : mx_ins 245 5 = some ((.invokevirtual 13), 3) := mx_ins_of mi245 dX23_holds_5 rfl
theorem u245_5 : ev d 245 5 lo st h = evIn d 245 5 8 23 13 2 false lo st h := ev_inv n245_5 rfl rfl ow245 ia23_13
theorem n245_8 : mx_ins 245 8 = some ((.ifCond .ne 7), 3) := mx_ins_of mi245 dX23_holds_8 rfl
theorem u245_8 : ev d 245 8 lo st h = evJ .ne d 245 15 11 lo st h := ev_if n245_8 rfl rfl
theorem n245_11 : mx_ins 245 11 = some ((.iconst 1), 1) := mx_ins_of mi245 dX23_holds_11 rfl
theorem u245_11 : ev d 245 11 lo st h = ev d 245 12 lo (.int 1 :: st) h := (ev_s (f := mx_push (.int 1)) n245_11 rfl rfl).trans es_push
theorem n245_12 : mx_ins 245 12 = some ((.goto 4), 3) := mx_ins_of mi245 dX23_holds_12 rfl
theorem u245_12 : ev d 245 12 lo st h = ev d 245 16 lo st h := ev_goto n245_12 rfl
theorem n245_15 : mx_ins 245 15 = some ((.iconst 0), 1) := mx_ins_of mi245 dX23_holds_15 rfl
theorem u245_15 : ev d 245 15 lo st h = ev d 245 16 lo (.int 0 :: st) h := (ev_s (f := mx_push (.int 0)) n245_15 rfl rfl).trans es_push
theorem n245_16 : mx_ins 245 16 = some (.ireturn, 1) := mx_ins_of mi245 dX23_holds_16 rfl
theorem u245_16 : ev d 245 16 lo st h = evI d 245 16 17 lo st h .ireturn := ev_u n245_16 rfl
theorem mi246 : mx_mi 246 = some (yX24_init, cX24_init, 3, (none : Option FieldType), 24, 3, []) := rfl
theorem ow246 : mx_own 246 = 24 := mx_mi_own mi246
theorem mm246 : mx_max 246 = 3 := mx_mi_max mi246
theorem rt246 : mx_ret 246 = (none : Option FieldType) := mx_mi_ret mi246
theorem hn246 : mx_hnd 246 = [] := mx_mi_hnd mi246
theorem n246_0 : mx_ins 246 0 = some ((.aload_n 0), 1) := mx_ins_of mi246 dX24_init_0 rfl
theorem u246_0 : ev d 246 0 lo st h = evS (mx_ldA 0) d 246 1 lo st h := ev_s n246_0 rfl rfl
theorem n246_1 : mx_ins 246 1 = some ((.invokespecial 1), 3) := mx_ins_of mi246 dX24_init_1 rfl
theorem u246_1 : ev d 246 1 lo st h = evIn d 246 1 4 24 1 1 false lo st h := ev_inv n246_1 rfl rfl ow246 ia24_1
theorem n246_4 : mx_ins 246 4 = some ((.aload_n 0), 1) := mx_ins_of mi246 dX24_init_4 rfl
theorem u246_4 : ev d 246 4 lo st h = evS (mx_ldA 0) d 246 5 lo st h := ev_s n246_4 rfl rfl
theorem n246_5 : mx_ins 246 5 = some ((.aload_n 1), 1) := mx_ins_of mi246 dX24_init_5 rfl
theorem u246_5 : ev d 246 5 lo st h = evS (mx_ldA 1) d 246 6 lo st h := ev_s n246_5 rfl rfl
theorem n246_6 : mx_ins 246 6 = some ((.putfield 7), 3) := mx_ins_of mi246 dX24_init_6 rfl
theorem u246_6 : ev d 246 6 lo st h = evS (mx_pf 24 7 true) d 246 9 lo st h := ev_s n246_6 rfl rfl
theorem n246_9 : mx_ins 246 9 = some ((.aload_n 0), 1) := mx_ins_of mi246 dX24_init_9 rfl
theorem u246_9 : ev d 246 9 lo st h = evS (mx_ldA 0) d 246 10 lo st h := ev_s n246_9 rfl rfl
theorem n246_10 : mx_ins 246 10 = some ((.aload_n 2), 1) := mx_ins_of mi246 dX24_init_10 rfl
theorem u246_10 : ev d 246 10 lo st h = evS (mx_ldA 2) d 246 11 lo st h := ev_s n246_10 rfl rfl
theorem n246_11 : mx_ins 246 11 = some ((.putfield 13), 3) := mx_ins_of mi246 dX24_init_11 rfl
theorem u246_11 : ev d 246 11 lo st h = evS (mx_pf 24 13 true) d 246 14 lo st h := ev_s n246_11 rfl rfl
theorem n246_14 : mx_ins 246 14 = some (.return_, 1) := mx_ins_of mi246 dX24_init_14 rfl
theorem u246_14 : ev d 246 14 lo st h = evI d 246 14 15 lo st h .return_ := ev_u n246_14 rfl
theorem mi247 : mx_mi 247 = some (yX25_init, cX25_init, 3, (none : Option FieldType), 25, 3, []) := rfl
theorem ow247 : mx_own 247 = 25 := mx_mi_own mi247
theorem mm247 : mx_max 247 = 3 := mx_mi_max mi247
theorem rt247 : mx_ret 247 = (none : Option FieldType) := mx_mi_ret mi247
theorem hn247 : mx_hnd 247 = [] := mx_mi_hnd mi247
theorem n247_0 : mx_ins 247 0 = some ((.aload_n 0), 1) := mx_ins_of mi247 dX25_init_0 rfl
theorem u247_0 : ev d 247 0 lo st h = evS (mx_ldA 0) d 247 1 lo st h := ev_s n247_0 rfl rfl
theorem n247_1 : mx_ins 247 1 = some ((.aload_n 1), 1) := mx_ins_of mi247 dX25_init_1 rfl
theorem u247_1 : ev d 247 1 lo st h = evS (mx_ldA 1) d 247 2 lo st h := ev_s n247_1 rfl rfl
theorem n247_2 : mx_ins 247 2 = some ((.aload_n 2), 1) := mx_ins_of mi247 dX25_init_2 rfl
theorem u247_2 : ev d 247 2 lo st h = evS (mx_ldA 2) d 247 3 lo st h := ev_s n247_2 rfl rfl
theorem n247_3 : mx_ins 247 3 = some ((.invokespecial 1), 3) := mx_ins_of mi247 dX25_init_3 rfl
theorem u247_3 : ev d 247 3 lo st h = evIn d 247 3 6 25 1 3 false lo st h := ev_inv n247_3 rfl rfl ow247 ia25_1
theorem n247_6 : mx_ins 247 6 = some (.return_, 1) := mx_ins_of mi247 dX25_init_6 rfl
theorem u247_6 : ev d 247 6 lo st h = evI d 247 6 7 lo st h .return_ := ev_u n247_6 rfl
theorem mi248 : mx_mi 248 = some (yX25_holds, cX25_holds, 2, (Option.some Jvm.ClassFile.FieldType.boolean), 25, 2, []) := rfl
theorem ow248 : mx_own 248 = 25 := mx_mi_own mi248
theorem mm248 : mx_max 248 = 2 := mx_mi_max mi248
theorem rt248 : mx_ret 248 = (Option.some Jvm.ClassFile.FieldType.boolean) := mx_mi_ret mi248
theorem hn248 : mx_hnd 248 = [] := mx_mi_hnd mi248
theorem n248_0 : mx_ins 248 0 = some ((.aload_n 0), 1) := mx_ins_of mi248 dX25_holds_0 rfl
theorem u248_0 : ev d 248 0 lo st h = evS (mx_ldA 0) d 248 1 lo st h := ev_s n248_0 rfl rfl
theorem n248_1 : mx_ins 248 1 = some ((.getfield 7), 3) := mx_ins_of mi248 dX25_holds_1 rfl
theorem u248_1 : ev d 248 1 lo st h = evS (mx_gf 25 7) d 248 4 lo st h := ev_s n248_1 rfl rfl
theorem n248_4 : mx_ins 248 4 = some ((.aload_n 1), 1) := mx_ins_of mi248 dX25_holds_4 rfl
theorem u248_4 : ev d 248 4 lo st h = evS (mx_ldA 1) d 248 5 lo st h := ev_s n248_4 rfl rfl
theorem n248_5 : mx_ins 248 5 = some ((.invokevirtual 13), 3) := mx_ins_of mi248 dX25_holds_5 rfl
theorem u248_5 : ev d 248 5 lo st h = evIn d 248 5 8 25 13 2 false lo st h := ev_inv n248_5 rfl rfl ow248 ia25_13
theorem n248_8 : mx_ins 248 8 = some ((.ifCond .eq 18), 3) := mx_ins_of mi248 dX25_holds_8 rfl
theorem u248_8 : ev d 248 8 lo st h = evJ .eq d 248 26 11 lo st h := ev_if n248_8 rfl rfl
theorem n248_11 : mx_ins 248 11 = some ((.aload_n 0), 1) := mx_ins_of mi248 dX25_holds_11 rfl
theorem u248_11 : ev d 248 11 lo st h = evS (mx_ldA 0) d 248 12 lo st h := ev_s n248_11 rfl rfl
theorem n248_12 : mx_ins 248 12 = some ((.getfield 19), 3) := mx_ins_of mi248 dX25_holds_12 rfl
theorem u248_12 : ev d 248 12 lo st h = evS (mx_gf 25 19) d 248 15 lo st h := ev_s n248_12 rfl rfl
theorem n248_15 : mx_ins 248 15 = some ((.aload_n 1), 1) := mx_ins_of mi248 dX25_holds_15 rfl
theorem u248_15 : ev d 248 15 lo st h = evS (mx_ldA 1) d 248 16 lo st h := ev_s n248_15 rfl rfl
theorem n248_16 : mx_ins 248 16 = some ((.invokevirtual 13), 3) := mx_ins_of mi248 dX25_holds_16 rfl
theorem u248_16 : ev d 248 16 lo st h = evIn d 248 16 19 25 13 2 false lo st h := ev_inv n248_16 rfl rfl ow248 ia25_13
theorem n248_19 : mx_ins 248 19 = some ((.ifCond .eq 7), 3) := mx_ins_of mi248 dX25_holds_19 rfl
theorem u248_19 : ev d 248 19 lo st h = evJ .eq d 248 26 22 lo st h := ev_if n248_19 rfl rfl
theorem n248_22 : mx_ins 248 22 = some ((.iconst 1), 1) := mx_ins_of mi248 dX25_holds_22 rfl
theorem u248_22 : ev d 248 22 lo st h = ev d 248 23 lo (.int 1 :: st) h := (ev_s (f := mx_push (.int 1)) n248_22 rfl rfl).trans es_push
theorem n248_23 : mx_ins 248 23 = some ((.goto 4), 3) := mx_ins_of mi248 dX25_holds_23 rfl
theorem u248_23 : ev d 248 23 lo st h = ev d 248 27 lo st h := ev_goto n248_23 rfl
theorem n248_26 : mx_ins 248 26 = some ((.iconst 0), 1) := mx_ins_of mi248 dX25_holds_26 rfl
theorem u248_26 : ev d 248 26 lo st h = ev d 248 27 lo (.int 0 :: st) h := (ev_s (f := mx_push (.int 0)) n248_26 rfl rfl).trans es_push
theorem n248_27 : mx_ins 248 27 = some (.ireturn, 1) := mx_ins_of mi248 dX25_holds_27 rfl
theorem u248_27 : ev d 248 27 lo st h = evI d 248 27 28 lo st h .ireturn := ev_u n248_27 rfl
theorem mi249 : mx_mi 249 = some (yX26_init, cX26_init, 3, (none : Option FieldType), 26, 3, []) := rfl
theorem ow249 : mx_own 249 = 26 := mx_mi_own mi249
theorem mm249 : mx_max 249 = 3 := mx_mi_max mi249
theorem rt249 : mx_ret 249 = (none : Option FieldType) := mx_mi_ret mi249
theorem hn249 : mx_hnd 249 = [] := mx_mi_hnd mi249
theorem n249_0 : mx_ins 249 0 = some ((.aload_n 0), 1) := mx_ins_of mi249 dX26_init_0 rfl
theorem u249_0 : ev d 249 0 lo st h = evS (mx_ldA 0) d 249 1 lo st h := ev_s n249_0 rfl rfl
theorem n249_1 : mx_ins 249 1 = some ((.aload_n 1), 1) := mx_ins_of mi249 dX26_init_1 rfl
theorem u249_1 : ev d 249 1 lo st h = evS (mx_ldA 1) d 249 2 lo st h := ev_s n249_1 rfl rfl
theorem n249_2 : mx_ins 249 2 = some ((.aload_n 2), 1) := mx_ins_of mi249 dX26_init_2 rfl
theorem u249_2 : ev d 249 2 lo st h = evS (mx_ldA 2) d 249 3 lo st h := ev_s n249_2 rfl rfl
theorem n249_3 : mx_ins 249 3 = some ((.invokespecial 1), 3) := mx_ins_of mi249 dX26_init_3 rfl
theorem u249_3 : ev d 249 3 lo st h = evIn d 249 3 6 26 1 3 false lo st h := ev_inv n249_3 rfl rfl ow249 ia26_1
theorem n249_6 : mx_ins 249 6 = some (.return_, 1) := mx_ins_of mi249 dX26_init_6 rfl
theorem u249_6 : ev d 249 6 lo st h = evI d 249 6 7 lo st h .return_ := ev_u n249_6 rfl
theorem mi250 : mx_mi 250 = some (yX26_holds, cX26_holds, 2, (Option.some Jvm.ClassFile.FieldType.boolean), 26, 2, []) := rfl
theorem ow250 : mx_own 250 = 26 := mx_mi_own mi250
theorem mm250 : mx_max 250 = 2 := mx_mi_max mi250
theorem rt250 : mx_ret 250 = (Option.some Jvm.ClassFile.FieldType.boolean) := mx_mi_ret mi250
theorem hn250 : mx_hnd 250 = [] := mx_mi_hnd mi250
theorem n250_0 : mx_ins 250 0 = some ((.aload_n 0), 1) := mx_ins_of mi250 dX26_holds_0 rfl
theorem u250_0 : ev d 250 0 lo st h = evS (mx_ldA 0) d 250 1 lo st h := ev_s n250_0 rfl rfl
theorem n250_1 : mx_ins 250 1 = some ((.getfield 7), 3) := mx_ins_of mi250 dX26_holds_1 rfl
theorem u250_1 : ev d 250 1 lo st h = evS (mx_gf 26 7) d 250 4 lo st h := ev_s n250_1 rfl rfl
theorem n250_4 : mx_ins 250 4 = some ((.aload_n 1), 1) := mx_ins_of mi250 dX26_holds_4 rfl
theorem u250_4 : ev d 250 4 lo st h = evS (mx_ldA 1) d 250 5 lo st h := ev_s n250_4 rfl rfl
theorem n250_5 : mx_ins 250 5 = some ((.invokevirtual 13), 3) := mx_ins_of mi250 dX26_holds_5 rfl
theorem u250_5 : ev d 250 5 lo st h = evIn d 250 5 8 26 13 2 false lo st h := ev_inv n250_5 rfl rfl ow250 ia26_13
theorem n250_8 : mx_ins 250 8 = some ((.ifCond .ne 14), 3) := mx_ins_of mi250 dX26_holds_8 rfl
theorem u250_8 : ev d 250 8 lo st h = evJ .ne d 250 22 11 lo st h := ev_if n250_8 rfl rfl
theorem n250_11 : mx_ins 250 11 = some ((.aload_n 0), 1) := mx_ins_of mi250 dX26_holds_11 rfl
theorem u250_11 : ev d 250 11 lo st h = evS (mx_ldA 0) d 250 12 lo st h := ev_s n250_11 rfl rfl
theorem n250_12 : mx_ins 250 12 = some ((.getfield 19), 3) := mx_ins_of mi250 dX26_holds_12 rfl
theorem u250_12 : ev d 250 12 lo st h = evS (mx_gf 26 19) d 250 15 lo st h := ev_s n250_12 rfl rfl
theorem n250_15 : mx_ins 250 15 = some ((.aload_n 1), 1) := mx_ins_of mi250 dX26_holds_15 rfl
theorem u250_15 : ev d 250 15 lo st h = evS (mx_ldA 1) d 250 16 lo st h := ev_s n250_15 rfl rfl
theorem n250_16 : mx_ins 250 16 = some ((.invokevirtual 13), 3) := mx_ins_of mi250 dX26_holds_16 rfl
theorem u250_16 : ev d 250 16 lo st h = evIn d 250 16 19 26 13 2 false lo st h := ev_inv n250_16 rfl rfl ow250 ia26_13
theorem n250_19 : mx_ins 250 19 = some ((.ifCond .eq 7), 3) := mx_ins_of mi250 dX26_holds_19 rfl
theorem u250_19 : ev d 250 19 lo st h = evJ .eq d 250 26 22 lo st h := ev_if n250_19 rfl rfl
theorem n250_22 : mx_ins 250 22 = some ((.iconst 1), 1) := mx_ins_of mi250 dX26_holds_22 rfl
theorem u250_22 : ev d 250 22 lo st h = ev d 250 23 lo (.int 1 :: st) h := (ev_s (f := mx_push (.int 1)) n250_22 rfl rfl).trans es_push
theorem n250_23 : mx_ins 250 23 = some ((.goto 4), 3) := mx_ins_of mi250 dX26_holds_23 rfl
theorem u250_23 : ev d 250 23 lo st h = ev d 250 27 lo st h := ev_goto n250_23 rfl
theorem n250_26 : mx_ins 250 26 = some ((.iconst 0), 1) := mx_ins_of mi250 dX26_holds_26 rfl
theorem u250_26 : ev d 250 26 lo st h = ev d 250 27 lo (.int 0 :: st) h := (ev_s (f := mx_push (.int 0)) n250_26 rfl rfl).trans es_push
theorem n250_27 : mx_ins 250 27 = some (.ireturn, 1) := mx_ins_of mi250 dX26_holds_27 rfl
theorem u250_27 : ev d 250 27 lo st h = evI d 250 27 28 lo st h .ireturn := ev_u n250_27 rfl
theorem mi251 : mx_mi 251 = some (yX27_init, cX27_init, 1, (none : Option FieldType), 27, 1, []) := rfl
theorem ow251 : mx_own 251 = 27 := mx_mi_own mi251
theorem mm251 : mx_max 251 = 1 := mx_mi_max mi251
theorem rt251 : mx_ret 251 = (none : Option FieldType) := mx_mi_ret mi251
theorem hn251 : mx_hnd 251 = [] := mx_mi_hnd mi251
theorem n251_0 : mx_ins 251 0 = some ((.aload_n 0), 1) := mx_ins_of mi251 dX27_init_0 rfl
theorem u251_0 : ev d 251 0 lo st h = evS (mx_ldA 0) d 251 1 lo st h := ev_s n251_0 rfl rfl
theorem n251_1 : mx_ins 251 1 = some ((.invokespecial 1), 3) := mx_ins_of mi251 dX27_init_1 rfl
theorem u251_1 : ev d 251 1 lo st h = evIn d 251 1 4 27 1 1 true lo st h := ev_inv n251_1 rfl rfl ow251 ia27_1
theorem n251_4 : mx_ins 251 4 = some ((.aload_n 0), 1) := mx_ins_of mi251 dX27_init_4 rfl
theorem u251_4 : ev d 251 4 lo st h = evS (mx_ldA 0) d 251 5 lo st h := ev_s n251_4 rfl rfl
theorem n251_5 : mx_ins 251 5 = some ((.iconst 3), 1) := mx_ins_of mi251 dX27_init_5 rfl
theorem u251_5 : ev d 251 5 lo st h = ev d 251 6 lo (.int 3 :: st) h := (ev_s (f := mx_push (.int 3)) n251_5 rfl rfl).trans es_push
theorem n251_6 : mx_ins 251 6 = some ((.newarray .int), 2) := mx_ins_of mi251 dX27_init_6 rfl
theorem u251_6 : ev d 251 6 lo st h = evI d 251 6 8 lo st h (.newarray .int) := ev_u n251_6 rfl
theorem n251_8 : mx_ins 251 8 = some ((.putfield 7), 3) := mx_ins_of mi251 dX27_init_8 rfl
theorem u251_8 : ev d 251 8 lo st h = evS (mx_pf 27 7 true) d 251 11 lo st h := ev_s n251_8 rfl rfl
theorem n251_11 : mx_ins 251 11 = some (.return_, 1) := mx_ins_of mi251 dX27_init_11 rfl
theorem u251_11 : ev d 251 11 lo st h = evI d 251 11 12 lo st h .return_ := ev_u n251_11 rfl
theorem mi252 : mx_mi 252 = some (yX28_init, cX28_init, 4, (none : Option FieldType), 28, 4, []) := rfl
theorem ow252 : mx_own 252 = 28 := mx_mi_own mi252
theorem mm252 : mx_max 252 = 4 := mx_mi_max mi252
theorem rt252 : mx_ret 252 = (none : Option FieldType) := mx_mi_ret mi252
theorem hn252 : mx_hnd 252 = [] := mx_mi_hnd mi252
theorem n252_0 : mx_ins 252 0 = some ((.aload_n 0), 1) := mx_ins_of mi252 dX28_init_0 rfl
theorem u252_0 : ev d 252 0 lo st h = evS (mx_ldA 0) d 252 1 lo st h := ev_s n252_0 rfl rfl
theorem n252_1 : mx_ins 252 1 = some ((.aload_n 1), 1) := mx_ins_of mi252 dX28_init_1 rfl
theorem u252_1 : ev d 252 1 lo st h = evS (mx_ldA 1) d 252 2 lo st h := ev_s n252_1 rfl rfl
theorem n252_2 : mx_ins 252 2 = some ((.putfield 1), 3) := mx_ins_of mi252 dX28_init_2 rfl
theorem u252_2 : ev d 252 2 lo st h = evS (mx_pf 28 1 true) d 252 5 lo st h := ev_s n252_2 rfl rfl
theorem n252_5 : mx_ins 252 5 = some ((.aload_n 0), 1) := mx_ins_of mi252 dX28_init_5 rfl
theorem u252_5 : ev d 252 5 lo st h = evS (mx_ldA 0) d 252 6 lo st h := ev_s n252_5 rfl rfl
theorem n252_6 : mx_ins 252 6 = some ((.invokespecial 7), 3) := mx_ins_of mi252 dX28_init_6 rfl
theorem u252_6 : ev d 252 6 lo st h = evIn d 252 6 9 28 7 1 true lo st h := ev_inv n252_6 rfl rfl ow252 ia28_7
theorem n252_9 : mx_ins 252 9 = some ((.aload_n 0), 1) := mx_ins_of mi252 dX28_init_9 rfl
theorem u252_9 : ev d 252 9 lo st h = evS (mx_ldA 0) d 252 10 lo st h := ev_s n252_9 rfl rfl
theorem n252_10 : mx_ins 252 10 = some ((.iload_n 2), 1) := mx_ins_of mi252 dX28_init_10 rfl
theorem u252_10 : ev d 252 10 lo st h = evS (mx_ldI 2) d 252 11 lo st h := ev_s n252_10 rfl rfl
theorem n252_11 : mx_ins 252 11 = some ((.putfield 13), 3) := mx_ins_of mi252 dX28_init_11 rfl
theorem u252_11 : ev d 252 11 lo st h = evS (mx_pf 28 13 true) d 252 14 lo st h := ev_s n252_11 rfl rfl
theorem n252_14 : mx_ins 252 14 = some ((.aload_n 0), 1) := mx_ins_of mi252 dX28_init_14 rfl
theorem u252_14 : ev d 252 14 lo st h = evS (mx_ldA 0) d 252 15 lo st h := ev_s n252_14 rfl rfl
theorem n252_15 : mx_ins 252 15 = some ((.iload_n 3), 1) := mx_ins_of mi252 dX28_init_15 rfl
theorem u252_15 : ev d 252 15 lo st h = evS (mx_ldI 3) d 252 16 lo st h := ev_s n252_15 rfl rfl
theorem n252_16 : mx_ins 252 16 = some ((.putfield 17), 3) := mx_ins_of mi252 dX28_init_16 rfl
theorem u252_16 : ev d 252 16 lo st h = evS (mx_pf 28 17 true) d 252 19 lo st h := ev_s n252_16 rfl rfl
theorem n252_19 : mx_ins 252 19 = some (.return_, 1) := mx_ins_of mi252 dX28_init_19 rfl
theorem u252_19 : ev d 252 19 lo st h = evI d 252 19 20 lo st h .return_ := ev_u n252_19 rfl
theorem mi253 : mx_mi 253 = some (yX28_its, cX28_its, 1, (Option.some Jvm.ClassFile.FieldType.int), 28, 1, []) := rfl
theorem ow253 : mx_own 253 = 28 := mx_mi_own mi253
theorem mm253 : mx_max 253 = 1 := mx_mi_max mi253
theorem rt253 : mx_ret 253 = (Option.some Jvm.ClassFile.FieldType.int) := mx_mi_ret mi253
theorem hn253 : mx_hnd 253 = [] := mx_mi_hnd mi253
theorem n253_0 : mx_ins 253 0 = some ((.aload_n 0), 1) := mx_ins_of mi253 dX28_its_0 rfl
theorem u253_0 : ev d 253 0 lo st h = evS (mx_ldA 0) d 253 1 lo st h := ev_s n253_0 rfl rfl
theorem n253_1 : mx_ins 253 1 = some ((.getfield 13), 3) := mx_ins_of mi253 dX28_its_1 rfl
theorem u253_1 : ev d 253 1 lo st h = evS (mx_gf 28 13) d 253 4 lo st h := ev_s n253_1 rfl rfl
theorem n253_4 : mx_ins 253 4 = some (.ireturn, 1) := mx_ins_of mi253 dX28_its_4 rfl
theorem u253_4 : ev d 253 4 lo st h = evI d 253 4 5 lo st h .ireturn := ev_u n253_4 rfl
theorem mi254 : mx_mi 254 = some (yX28_spends, cX28_spends, 2, (Option.some Jvm.ClassFile.FieldType.int), 28, 2, []) := rfl
theorem ow254 : mx_own 254 = 28 := mx_mi_own mi254
theorem mm254 : mx_max 254 = 2 := mx_mi_max mi254
theorem rt254 : mx_ret 254 = (Option.some Jvm.ClassFile.FieldType.int) := mx_mi_ret mi254
theorem hn254 : mx_hnd 254 = [] := mx_mi_hnd mi254
theorem n254_0 : mx_ins 254 0 = some ((.aload_n 0), 1) := mx_ins_of mi254 dX28_spends_0 rfl
theorem u254_0 : ev d 254 0 lo st h = evS (mx_ldA 0) d 254 1 lo st h := ev_s n254_0 rfl rfl
theorem n254_1 : mx_ins 254 1 = some ((.getfield 1), 3) := mx_ins_of mi254 dX28_spends_1 rfl
theorem u254_1 : ev d 254 1 lo st h = evS (mx_gf 28 1) d 254 4 lo st h := ev_s n254_1 rfl rfl
theorem n254_4 : mx_ins 254 4 = some ((.bipush 10), 2) := mx_ins_of mi254 dX28_spends_4 rfl
theorem u254_4 : ev d 254 4 lo st h = ev d 254 6 lo (.int 10 :: st) h := (ev_s (f := mx_push (.int 10)) n254_4 rfl rfl).trans es_push
theorem n254_6 : mx_ins 254 6 = some ((.invokevirtual 20), 3) := mx_ins_of mi254 dX28_spends_6 rfl
theorem u254_6 : ev d 254 6 lo st h = evIn d 254 6 9 28 20 2 false lo st h := ev_inv n254_6 rfl rfl ow254 ia28_20
theorem n254_9 : mx_ins 254 9 = some ((.iload_n 1), 1) := mx_ins_of mi254 dX28_spends_9 rfl
theorem u254_9 : ev d 254 9 lo st h = evS (mx_ldI 1) d 254 10 lo st h := ev_s n254_9 rfl rfl
theorem n254_10 : mx_ins 254 10 = some ((.aload_n 0), 1) := mx_ins_of mi254 dX28_spends_10 rfl
theorem u254_10 : ev d 254 10 lo st h = evS (mx_ldA 0) d 254 11 lo st h := ev_s n254_10 rfl rfl
theorem n254_11 : mx_ins 254 11 = some ((.getfield 13), 3) := mx_ins_of mi254 dX28_spends_11 rfl
theorem u254_11 : ev d 254 11 lo st h = evS (mx_gf 28 13) d 254 14 lo st h := ev_s n254_11 rfl rfl
theorem n254_14 : mx_ins 254 14 = some (.iadd, 1) := mx_ins_of mi254 dX28_spends_14 rfl
theorem u254_14 : ev d 254 14 lo st h = evI d 254 14 15 lo st h .iadd := ev_u n254_14 rfl
theorem n254_15 : mx_ins 254 15 = some (.ireturn, 1) := mx_ins_of mi254 dX28_spends_15 rfl
theorem u254_15 : ev d 254 15 lo st h = evI d 254 15 16 lo st h .ireturn := ev_u n254_15 rfl
theorem mi255 : mx_mi 255 = some (yX28_parches, cX28_parches, 2, (Option.some Jvm.ClassFile.FieldType.int), 28, 2, []) := rfl
theorem ow255 : mx_own 255 = 28 := mx_mi_own mi255
theorem mm255 : mx_max 255 = 2 := mx_mi_max mi255
theorem rt255 : mx_ret 255 = (Option.some Jvm.ClassFile.FieldType.int) := mx_mi_ret mi255
theorem hn255 : mx_hnd 255 = [] := mx_mi_hnd mi255
theorem n255_0 : mx_ins 255 0 = some ((.aload_n 0), 1) := mx_ins_of mi255 dX28_parches_0 rfl
theorem u255_0 : ev d 255 0 lo st h = evS (mx_ldA 0) d 255 1 lo st h := ev_s n255_0 rfl rfl
theorem n255_1 : mx_ins 255 1 = some ((.getfield 1), 3) := mx_ins_of mi255 dX28_parches_1 rfl
theorem u255_1 : ev d 255 1 lo st h = evS (mx_gf 28 1) d 255 4 lo st h := ev_s n255_1 rfl rfl
theorem n255_4 : mx_ins 255 4 = some ((.bipush 11), 2) := mx_ins_of mi255 dX28_parches_4 rfl
theorem u255_4 : ev d 255 4 lo st h = ev d 255 6 lo (.int 11 :: st) h := (ev_s (f := mx_push (.int 11)) n255_4 rfl rfl).trans es_push
theorem n255_6 : mx_ins 255 6 = some ((.invokevirtual 20), 3) := mx_ins_of mi255 dX28_parches_6 rfl
theorem u255_6 : ev d 255 6 lo st h = evIn d 255 6 9 28 20 2 false lo st h := ev_inv n255_6 rfl rfl ow255 ia28_20
theorem n255_9 : mx_ins 255 9 = some ((.aload_n 0), 1) := mx_ins_of mi255 dX28_parches_9 rfl
theorem u255_9 : ev d 255 9 lo st h = evS (mx_ldA 0) d 255 10 lo st h := ev_s n255_9 rfl rfl
theorem n255_10 : mx_ins 255 10 = some ((.iload_n 1), 1) := mx_ins_of mi255 dX28_parches_10 rfl
theorem u255_10 : ev d 255 10 lo st h = evS (mx_ldI 1) d 255 11 lo st h := ev_s n255_10 rfl rfl
theorem n255_11 : mx_ins 255 11 = some ((.invokespecial 26), 3) := mx_ins_of mi255 dX28_parches_11 rfl
theorem u255_11 : ev d 255 11 lo st h = evIn d 255 11 14 28 26 2 false lo st h := ev_inv n255_11 rfl rfl ow255 ia28_26
theorem n255_14 : mx_ins 255 14 = some (.ireturn, 1) := mx_ins_of mi255 dX28_parches_14 rfl
theorem u255_14 : ev d 255 14 lo st h = evI d 255 14 15 lo st h .ireturn := ev_u n255_14 rfl
theorem mi256 : mx_mi 256 = some (yX28_shares, cX28_shares, 2, (Option.some Jvm.ClassFile.FieldType.int), 28, 2, []) := rfl
theorem ow256 : mx_own 256 = 28 := mx_mi_own mi256
theorem mm256 : mx_max 256 = 2 := mx_mi_max mi256
theorem rt256 : mx_ret 256 = (Option.some Jvm.ClassFile.FieldType.int) := mx_mi_ret mi256
theorem hn256 : mx_hnd 256 = [] := mx_mi_hnd mi256
theorem n256_0 : mx_ins 256 0 = some ((.aload_n 0), 1) := mx_ins_of mi256 dX28_shares_0 rfl
theorem u256_0 : ev d 256 0 lo st h = evS (mx_ldA 0) d 256 1 lo st h := ev_s n256_0 rfl rfl
theorem n256_1 : mx_ins 256 1 = some ((.getfield 1), 3) := mx_ins_of mi256 dX28_shares_1 rfl
theorem u256_1 : ev d 256 1 lo st h = evS (mx_gf 28 1) d 256 4 lo st h := ev_s n256_1 rfl rfl
theorem n256_4 : mx_ins 256 4 = some ((.bipush 12), 2) := mx_ins_of mi256 dX28_shares_4 rfl
theorem u256_4 : ev d 256 4 lo st h = ev d 256 6 lo (.int 12 :: st) h := (ev_s (f := mx_push (.int 12)) n256_4 rfl rfl).trans es_push
theorem n256_6 : mx_ins 256 6 = some ((.invokevirtual 20), 3) := mx_ins_of mi256 dX28_shares_6 rfl
theorem u256_6 : ev d 256 6 lo st h = evIn d 256 6 9 28 20 2 false lo st h := ev_inv n256_6 rfl rfl ow256 ia28_20
theorem n256_9 : mx_ins 256 9 = some ((.iload_n 1), 1) := mx_ins_of mi256 dX28_shares_9 rfl
theorem u256_9 : ev d 256 9 lo st h = evS (mx_ldI 1) d 256 10 lo st h := ev_s n256_9 rfl rfl
theorem n256_10 : mx_ins 256 10 = some ((.aload_n 0), 1) := mx_ins_of mi256 dX28_shares_10 rfl
theorem u256_10 : ev d 256 10 lo st h = evS (mx_ldA 0) d 256 11 lo st h := ev_s n256_10 rfl rfl
theorem n256_11 : mx_ins 256 11 = some ((.getfield 17), 3) := mx_ins_of mi256 dX28_shares_11 rfl
theorem u256_11 : ev d 256 11 lo st h = evS (mx_gf 28 17) d 256 14 lo st h := ev_s n256_11 rfl rfl
theorem n256_14 : mx_ins 256 14 = some ((.aload_n 0), 1) := mx_ins_of mi256 dX28_shares_14 rfl
theorem u256_14 : ev d 256 14 lo st h = evS (mx_ldA 0) d 256 15 lo st h := ev_s n256_14 rfl rfl
theorem n256_15 : mx_ins 256 15 = some ((.getfield 13), 3) := mx_ins_of mi256 dX28_shares_15 rfl
theorem u256_15 : ev d 256 15 lo st h = evS (mx_gf 28 13) d 256 18 lo st h := ev_s n256_15 rfl rfl
theorem n256_18 : mx_ins 256 18 = some (.isub, 1) := mx_ins_of mi256 dX28_shares_18 rfl
theorem u256_18 : ev d 256 18 lo st h = evI d 256 18 19 lo st h .isub := ev_u n256_18 rfl
theorem n256_19 : mx_ins 256 19 = some (.idiv, 1) := mx_ins_of mi256 dX28_shares_19 rfl
theorem u256_19 : ev d 256 19 lo st h = evI d 256 19 20 lo st h .idiv := ev_u n256_19 rfl
theorem n256_20 : mx_ins 256 20 = some (.ireturn, 1) := mx_ins_of mi256 dX28_shares_20 rfl
theorem u256_20 : ev d 256 20 lo st h = evI d 256 20 21 lo st h .ireturn := ev_u n256_20 rfl
theorem mi257 : mx_mi 257 = some (yX28_tells, cX28_tells, 2, (Option.some Jvm.ClassFile.FieldType.int), 28, 2, []) := rfl
theorem ow257 : mx_own 257 = 28 := mx_mi_own mi257
theorem mm257 : mx_max 257 = 2 := mx_mi_max mi257
theorem rt257 : mx_ret 257 = (Option.some Jvm.ClassFile.FieldType.int) := mx_mi_ret mi257
theorem hn257 : mx_hnd 257 = [] := mx_mi_hnd mi257
theorem n257_0 : mx_ins 257 0 = some ((.aload_n 0), 1) := mx_ins_of mi257 dX28_tells_0 rfl
theorem u257_0 : ev d 257 0 lo st h = evS (mx_ldA 0) d 257 1 lo st h := ev_s n257_0 rfl rfl
theorem n257_1 : mx_ins 257 1 = some ((.getfield 1), 3) := mx_ins_of mi257 dX28_tells_1 rfl
theorem u257_1 : ev d 257 1 lo st h = evS (mx_gf 28 1) d 257 4 lo st h := ev_s n257_1 rfl rfl
theorem n257_4 : mx_ins 257 4 = some ((.bipush 13), 2) := mx_ins_of mi257 dX28_tells_4 rfl
theorem u257_4 : ev d 257 4 lo st h = ev d 257 6 lo (.int 13 :: st) h := (ev_s (f := mx_push (.int 13)) n257_4 rfl rfl).trans es_push
theorem n257_6 : mx_ins 257 6 = some ((.invokevirtual 20), 3) := mx_ins_of mi257 dX28_tells_6 rfl
theorem u257_6 : ev d 257 6 lo st h = evIn d 257 6 9 28 20 2 false lo st h := ev_inv n257_6 rfl rfl ow257 ia28_20
theorem n257_9 : mx_ins 257 9 = some ((.aload_n 0), 1) := mx_ins_of mi257 dX28_tells_9 rfl
theorem u257_9 : ev d 257 9 lo st h = evS (mx_ldA 0) d 257 10 lo st h := ev_s n257_9 rfl rfl
theorem n257_10 : mx_ins 257 10 = some ((.iload_n 1), 1) := mx_ins_of mi257 dX28_tells_10 rfl
theorem u257_10 : ev d 257 10 lo st h = evS (mx_ldI 1) d 257 11 lo st h := ev_s n257_10 rfl rfl
theorem n257_11 : mx_ins 257 11 = some ((.invokevirtual 32), 3) := mx_ins_of mi257 dX28_tells_11 rfl
theorem u257_11 : ev d 257 11 lo st h = evIn d 257 11 14 28 32 2 false lo st h := ev_inv n257_11 rfl rfl ow257 ia28_32
theorem n257_14 : mx_ins 257 14 = some ((.aload_n 0), 1) := mx_ins_of mi257 dX28_tells_14 rfl
theorem u257_14 : ev d 257 14 lo st h = evS (mx_ldA 0) d 257 15 lo st h := ev_s n257_14 rfl rfl
theorem n257_15 : mx_ins 257 15 = some ((.getfield 17), 3) := mx_ins_of mi257 dX28_tells_15 rfl
theorem u257_15 : ev d 257 15 lo st h = evS (mx_gf 28 17) d 257 18 lo st h := ev_s n257_15 rfl rfl
theorem n257_18 : mx_ins 257 18 = some (.ixor, 1) := mx_ins_of mi257 dX28_tells_18 rfl
theorem u257_18 : ev d 257 18 lo st h = evI d 257 18 19 lo st h .ixor := ev_u n257_18 rfl
theorem n257_19 : mx_ins 257 19 = some (.ireturn, 1) := mx_ins_of mi257 dX28_tells_19 rfl
theorem u257_19 : ev d 257 19 lo st h = evI d 257 19 20 lo st h .ireturn := ev_u n257_19 rfl
theorem mi258 : mx_mi 258 = some (yX29_init, cX29_init, 4, (none : Option FieldType), 29, 4, []) := rfl
theorem ow258 : mx_own 258 = 29 := mx_mi_own mi258
theorem mm258 : mx_max 258 = 4 := mx_mi_max mi258
theorem rt258 : mx_ret 258 = (none : Option FieldType) := mx_mi_ret mi258
theorem hn258 : mx_hnd 258 = [] := mx_mi_hnd mi258
theorem n258_0 : mx_ins 258 0 = some ((.aload_n 0), 1) := mx_ins_of mi258 dX29_init_0 rfl
theorem u258_0 : ev d 258 0 lo st h = evS (mx_ldA 0) d 258 1 lo st h := ev_s n258_0 rfl rfl
theorem n258_1 : mx_ins 258 1 = some ((.aload_n 1), 1) := mx_ins_of mi258 dX29_init_1 rfl
theorem u258_1 : ev d 258 1 lo st h = evS (mx_ldA 1) d 258 2 lo st h := ev_s n258_1 rfl rfl
theorem n258_2 : mx_ins 258 2 = some ((.putfield 1), 3) := mx_ins_of mi258 dX29_init_2 rfl
theorem u258_2 : ev d 258 2 lo st h = evS (mx_pf 29 1 true) d 258 5 lo st h := ev_s n258_2 rfl rfl
theorem n258_5 : mx_ins 258 5 = some ((.aload_n 0), 1) := mx_ins_of mi258 dX29_init_5 rfl
theorem u258_5 : ev d 258 5 lo st h = evS (mx_ldA 0) d 258 6 lo st h := ev_s n258_5 rfl rfl
theorem n258_6 : mx_ins 258 6 = some ((.aload_n 1), 1) := mx_ins_of mi258 dX29_init_6 rfl
theorem u258_6 : ev d 258 6 lo st h = evS (mx_ldA 1) d 258 7 lo st h := ev_s n258_6 rfl rfl
theorem n258_7 : mx_ins 258 7 = some ((.iload_n 2), 1) := mx_ins_of mi258 dX29_init_7 rfl
theorem u258_7 : ev d 258 7 lo st h = evS (mx_ldI 2) d 258 8 lo st h := ev_s n258_7 rfl rfl
theorem n258_8 : mx_ins 258 8 = some ((.iload_n 3), 1) := mx_ins_of mi258 dX29_init_8 rfl
theorem u258_8 : ev d 258 8 lo st h = evS (mx_ldI 3) d 258 9 lo st h := ev_s n258_8 rfl rfl
theorem n258_9 : mx_ins 258 9 = some ((.invokespecial 7), 3) := mx_ins_of mi258 dX29_init_9 rfl
theorem u258_9 : ev d 258 9 lo st h = evIn d 258 9 12 29 7 4 false lo st h := ev_inv n258_9 rfl rfl ow258 ia29_7
theorem n258_12 : mx_ins 258 12 = some (.return_, 1) := mx_ins_of mi258 dX29_init_12 rfl
theorem u258_12 : ev d 258 12 lo st h = evI d 258 12 13 lo st h .return_ := ev_u n258_12 rfl
theorem mi259 : mx_mi 259 = some (yX29_spends, cX29_spends, 2, (Option.some Jvm.ClassFile.FieldType.int), 29, 2, []) := rfl
theorem ow259 : mx_own 259 = 29 := mx_mi_own mi259
theorem mm259 : mx_max 259 = 2 := mx_mi_max mi259
theorem rt259 : mx_ret 259 = (Option.some Jvm.ClassFile.FieldType.int) := mx_mi_ret mi259
theorem hn259 : mx_hnd 259 = [] := mx_mi_hnd mi259
theorem n259_0 : mx_ins 259 0 = some ((.aload_n 0), 1) := mx_ins_of mi259 dX29_spends_0 rfl
theorem u259_0 : ev d 259 0 lo st h = evS (mx_ldA 0) d 259 1 lo st h := ev_s n259_0 rfl rfl
theorem n259_1 : mx_ins 259 1 = some ((.getfield 1), 3) := mx_ins_of mi259 dX29_spends_1 rfl
theorem u259_1 : ev d 259 1 lo st h = evS (mx_gf 29 1) d 259 4 lo st h := ev_s n259_1 rfl rfl
theorem n259_4 : mx_ins 259 4 = some ((.bipush 30), 2) := mx_ins_of mi259 dX29_spends_4 rfl
theorem u259_4 : ev d 259 4 lo st h = ev d 259 6 lo (.int 30 :: st) h := (ev_s (f := mx_push (.int 30)) n259_4 rfl rfl).trans es_push
theorem n259_6 : mx_ins 259 6 = some ((.invokevirtual 13), 3) := mx_ins_of mi259 dX29_spends_6 rfl
theorem u259_6 : ev d 259 6 lo st h = evIn d 259 6 9 29 13 2 false lo st h := ev_inv n259_6 rfl rfl ow259 ia29_13
theorem n259_9 : mx_ins 259 9 = some ((.aload_n 0), 1) := mx_ins_of mi259 dX29_spends_9 rfl
theorem u259_9 : ev d 259 9 lo st h = evS (mx_ldA 0) d 259 10 lo st h := ev_s n259_9 rfl rfl
theorem n259_10 : mx_ins 259 10 = some ((.iload_n 1), 1) := mx_ins_of mi259 dX29_spends_10 rfl
theorem u259_10 : ev d 259 10 lo st h = evS (mx_ldI 1) d 259 11 lo st h := ev_s n259_10 rfl rfl
theorem n259_11 : mx_ins 259 11 = some ((.invokespecial 19), 3) := mx_ins_of mi259 dX29_spends_11 rfl
theorem u259_11 : ev d 259 11 lo st h = evIn d 259 11 14 29 19 2 false lo st h := ev_inv n259_11 rfl rfl ow259 ia29_19
theorem n259_14 : mx_ins 259 14 = some ((.iconst 3), 1) := mx_ins_of mi259 dX29_spends_14 rfl
theorem u259_14 : ev d 259 14 lo st h = ev d 259 15 lo (.int 3 :: st) h := (ev_s (f := mx_push (.int 3)) n259_14 rfl rfl).trans es_push
theorem n259_15 : mx_ins 259 15 = some (.imul, 1) := mx_ins_of mi259 dX29_spends_15 rfl
theorem u259_15 : ev d 259 15 lo st h = evI d 259 15 16 lo st h .imul := ev_u n259_15 rfl
theorem n259_16 : mx_ins 259 16 = some (.ireturn, 1) := mx_ins_of mi259 dX29_spends_16 rfl
theorem u259_16 : ev d 259 16 lo st h = evI d 259 16 17 lo st h .ireturn := ev_u n259_16 rfl
theorem mi260 : mx_mi 260 = some (yX29_tells, cX29_tells, 3, (Option.some Jvm.ClassFile.FieldType.int), 29, 2, []) := rfl
theorem ow260 : mx_own 260 = 29 := mx_mi_own mi260
theorem mm260 : mx_max 260 = 3 := mx_mi_max mi260
theorem rt260 : mx_ret 260 = (Option.some Jvm.ClassFile.FieldType.int) := mx_mi_ret mi260
theorem hn260 : mx_hnd 260 = [] := mx_mi_hnd mi260
theorem n260_0 : mx_ins 260 0 = some ((.aload_n 0), 1) := mx_ins_of mi260 dX29_tells_0 rfl
theorem u260_0 : ev d 260 0 lo st h = evS (mx_ldA 0) d 260 1 lo st h := ev_s n260_0 rfl rfl
theorem n260_1 : mx_ins 260 1 = some ((.getfield 1), 3) := mx_ins_of mi260 dX29_tells_1 rfl
theorem u260_1 : ev d 260 1 lo st h = evS (mx_gf 29 1) d 260 4 lo st h := ev_s n260_1 rfl rfl
theorem n260_4 : mx_ins 260 4 = some ((.bipush 31), 2) := mx_ins_of mi260 dX29_tells_4 rfl
theorem u260_4 : ev d 260 4 lo st h = ev d 260 6 lo (.int 31 :: st) h := (ev_s (f := mx_push (.int 31)) n260_4 rfl rfl).trans es_push
theorem n260_6 : mx_ins 260 6 = some ((.invokevirtual 13), 3) := mx_ins_of mi260 dX29_tells_6 rfl
theorem u260_6 : ev d 260 6 lo st h = evIn d 260 6 9 29 13 2 false lo st h := ev_inv n260_6 rfl rfl ow260 ia29_13
theorem n260_9 : mx_ins 260 9 = some ((.aload_n 0), 1) := mx_ins_of mi260 dX29_tells_9 rfl
theorem u260_9 : ev d 260 9 lo st h = evS (mx_ldA 0) d 260 10 lo st h := ev_s n260_9 rfl rfl
theorem n260_10 : mx_ins 260 10 = some ((.iload_n 1), 1) := mx_ins_of mi260 dX29_tells_10 rfl
theorem u260_10 : ev d 260 10 lo st h = evS (mx_ldI 1) d 260 11 lo st h := ev_s n260_10 rfl rfl
theorem n260_11 : mx_ins 260 11 = some ((.invokespecial 23), 3) := mx_ins_of mi260 dX29_tells_11 rfl
theorem u260_11 : ev d 260 11 lo st h = evIn d 260 11 14 29 23 2 false lo st h := ev_inv n260_11 rfl rfl ow260 ia29_23
theorem n260_14 : mx_ins 260 14 = some ((.istore_n 2), 1) := mx_ins_of mi260 dX29_tells_14 rfl
theorem u260_14 : ev d 260 14 lo st h = evS (mx_stI 2) d 260 15 lo st h := ev_s n260_14 rfl rfl
theorem n260_15 : mx_ins 260 15 = some ((.iload_n 2), 1) := mx_ins_of mi260 dX29_tells_15 rfl
theorem u260_15 : ev d 260 15 lo st h = evS (mx_ldI 2) d 260 16 lo st h := ev_s n260_15 rfl rfl
theorem n260_16 : mx_ins 260 16 = some ((.aload_n 0), 1) := mx_ins_of mi260 dX29_tells_16 rfl
theorem u260_16 : ev d 260 16 lo st h = evS (mx_ldA 0) d 260 17 lo st h := ev_s n260_16 rfl rfl
theorem n260_17 : mx_ins 260 17 = some ((.aload_n 0), 1) := mx_ins_of mi260 dX29_tells_17 rfl
theorem u260_17 : ev d 260 17 lo st h = evS (mx_ldA 0) d 260 18 lo st h := ev_s n260_17 rfl rfl
theorem n260_18 : mx_ins 260 18 = some ((.getfield 26), 3) := mx_ins_of mi260 dX29_tells_18 rfl
theorem u260_18 : ev d 260 18 lo st h = evS (mx_gf 29 26) d 260 21 lo st h := ev_s n260_18 rfl rfl
theorem n260_21 : mx_ins 260 21 = some ((.invokevirtual 30), 3) := mx_ins_of mi260 dX29_tells_21 rfl
theorem u260_21 : ev d 260 21 lo st h = evIn d 260 21 24 29 30 2 false lo st h := ev_inv n260_21 rfl rfl ow260 ia29_30
theorem n260_24 : mx_ins 260 24 = some (.iadd, 1) := mx_ins_of mi260 dX29_tells_24 rfl
theorem u260_24 : ev d 260 24 lo st h = evI d 260 24 25 lo st h .iadd := ev_u n260_24 rfl
theorem n260_25 : mx_ins 260 25 = some (.ireturn, 1) := mx_ins_of mi260 dX29_tells_25 rfl
theorem u260_25 : ev d 260 25 lo st h = evI d 260 25 26 lo st h .ireturn := ev_u n260_25 rfl
theorem mi261 : mx_mi 261 = some (yX30_init, cX30_init, 4, (none : Option FieldType), 30, 4, []) := rfl
theorem ow261 : mx_own 261 = 30 := mx_mi_own mi261
theorem mm261 : mx_max 261 = 4 := mx_mi_max mi261
theorem rt261 : mx_ret 261 = (none : Option FieldType) := mx_mi_ret mi261
theorem hn261 : mx_hnd 261 = [] := mx_mi_hnd mi261
theorem n261_0 : mx_ins 261 0 = some ((.aload_n 0), 1) := mx_ins_of mi261 dX30_init_0 rfl
theorem u261_0 : ev d 261 0 lo st h = evS (mx_ldA 0) d 261 1 lo st h := ev_s n261_0 rfl rfl
theorem n261_1 : mx_ins 261 1 = some ((.aload_n 1), 1) := mx_ins_of mi261 dX30_init_1 rfl
theorem u261_1 : ev d 261 1 lo st h = evS (mx_ldA 1) d 261 2 lo st h := ev_s n261_1 rfl rfl
theorem n261_2 : mx_ins 261 2 = some ((.putfield 1), 3) := mx_ins_of mi261 dX30_init_2 rfl
theorem u261_2 : ev d 261 2 lo st h = evS (mx_pf 30 1 true) d 261 5 lo st h := ev_s n261_2 rfl rfl
theorem n261_5 : mx_ins 261 5 = some ((.aload_n 0), 1) := mx_ins_of mi261 dX30_init_5 rfl
theorem u261_5 : ev d 261 5 lo st h = evS (mx_ldA 0) d 261 6 lo st h := ev_s n261_5 rfl rfl
theorem n261_6 : mx_ins 261 6 = some ((.aload_n 1), 1) := mx_ins_of mi261 dX30_init_6 rfl
theorem u261_6 : ev d 261 6 lo st h = evS (mx_ldA 1) d 261 7 lo st h := ev_s n261_6 rfl rfl
theorem n261_7 : mx_ins 261 7 = some ((.iload_n 2), 1) := mx_ins_of mi261 dX30_init_7 rfl
theorem u261_7 : ev d 261 7 lo st h = evS (mx_ldI 2) d 261 8 lo st h := ev_s n261_7 rfl rfl
theorem n261_8 : mx_ins 261 8 = some ((.iload_n 3), 1) := mx_ins_of mi261 dX30_init_8 rfl
theorem u261_8 : ev d 261 8 lo st h = evS (mx_ldI 3) d 261 9 lo st h := ev_s n261_8 rfl rfl
theorem n261_9 : mx_ins 261 9 = some ((.invokespecial 7), 3) := mx_ins_of mi261 dX30_init_9 rfl
theorem u261_9 : ev d 261 9 lo st h = evIn d 261 9 12 30 7 4 false lo st h := ev_inv n261_9 rfl rfl ow261 ia30_7
theorem n261_12 : mx_ins 261 12 = some (.return_, 1) := mx_ins_of mi261 dX30_init_12 rfl
theorem u261_12 : ev d 261 12 lo st h = evI d 261 12 13 lo st h .return_ := ev_u n261_12 rfl
theorem mi262 : mx_mi 262 = some (yX30_spends, cX30_spends, 2, (Option.some Jvm.ClassFile.FieldType.int), 30, 2, []) := rfl
theorem ow262 : mx_own 262 = 30 := mx_mi_own mi262
theorem mm262 : mx_max 262 = 2 := mx_mi_max mi262
theorem rt262 : mx_ret 262 = (Option.some Jvm.ClassFile.FieldType.int) := mx_mi_ret mi262
theorem hn262 : mx_hnd 262 = [] := mx_mi_hnd mi262
theorem n262_0 : mx_ins 262 0 = some ((.aload_n 0), 1) := mx_ins_of mi262 dX30_spends_0 rfl
theorem u262_0 : ev d 262 0 lo st h = evS (mx_ldA 0) d 262 1 lo st h := ev_s n262_0 rfl rfl
theorem n262_1 : mx_ins 262 1 = some ((.getfield 1), 3) := mx_ins_of mi262 dX30_spends_1 rfl
theorem u262_1 : ev d 262 1 lo st h = evS (mx_gf 30 1) d 262 4 lo st h := ev_s n262_1 rfl rfl
theorem n262_4 : mx_ins 262 4 = some ((.bipush 40), 2) := mx_ins_of mi262 dX30_spends_4 rfl
theorem u262_4 : ev d 262 4 lo st h = ev d 262 6 lo (.int 40 :: st) h := (ev_s (f := mx_push (.int 40)) n262_4 rfl rfl).trans es_push
theorem n262_6 : mx_ins 262 6 = some ((.invokevirtual 13), 3) := mx_ins_of mi262 dX30_spends_6 rfl
theorem u262_6 : ev d 262 6 lo st h = evIn d 262 6 9 30 13 2 false lo st h := ev_inv n262_6 rfl rfl ow262 ia30_13
theorem n262_9 : mx_ins 262 9 = some ((.iconst 0), 1) := mx_ins_of mi262 dX30_spends_9 rfl
theorem u262_9 : ev d 262 9 lo st h = ev d 262 10 lo (.int 0 :: st) h := (ev_s (f := mx_push (.int 0)) n262_9 rfl rfl).trans es_push
theorem n262_10 : mx_ins 262 10 = some ((.aload_n 0), 1) := mx_ins_of mi262 dX30_spends_10 rfl
theorem u262_10 : ev d 262 10 lo st h = evS (mx_ldA 0) d 262 11 lo st h := ev_s n262_10 rfl rfl
theorem n262_11 : mx_ins 262 11 = some ((.iload_n 1), 1) := mx_ins_of mi262 dX30_spends_11 rfl
theorem u262_11 : ev d 262 11 lo st h = evS (mx_ldI 1) d 262 12 lo st h := ev_s n262_11 rfl rfl
theorem n262_12 : mx_ins 262 12 = some ((.invokespecial 19), 3) := mx_ins_of mi262 dX30_spends_12 rfl
theorem u262_12 : ev d 262 12 lo st h = evIn d 262 12 15 30 19 2 false lo st h := ev_inv n262_12 rfl rfl ow262 ia30_19
theorem n262_15 : mx_ins 262 15 = some (.isub, 1) := mx_ins_of mi262 dX30_spends_15 rfl
theorem u262_15 : ev d 262 15 lo st h = evI d 262 15 16 lo st h .isub := ev_u n262_15 rfl
theorem n262_16 : mx_ins 262 16 = some (.ireturn, 1) := mx_ins_of mi262 dX30_spends_16 rfl
theorem u262_16 : ev d 262 16 lo st h = evI d 262 16 17 lo st h .ireturn := ev_u n262_16 rfl
theorem mi263 : mx_mi 263 = some (yX30_parches, cX30_parches, 3, (Option.some Jvm.ClassFile.FieldType.int), 30, 2, []) := rfl
theorem ow263 : mx_own 263 = 30 := mx_mi_own mi263
theorem mm263 : mx_max 263 = 3 := mx_mi_max mi263
theorem rt263 : mx_ret 263 = (Option.some Jvm.ClassFile.FieldType.int) := mx_mi_ret mi263
theorem hn263 : mx_hnd 263 = [] := mx_mi_hnd mi263
theorem n263_0 : mx_ins 263 0 = some ((.aload_n 0), 1) := mx_ins_of mi263 dX30_parches_0 rfl
theorem u263_0 : ev d 263 0 lo st h = evS (mx_ldA 0) d 263 1 lo st h := ev_s n263_0 rfl rfl
theorem n263_1 : mx_ins 263 1 = some ((.getfield 1), 3) := mx_ins_of mi263 dX30_parches_1 rfl
theorem u263_1 : ev d 263 1 lo st h = evS (mx_gf 30 1) d 263 4 lo st h := ev_s n263_1 rfl rfl
theorem n263_4 : mx_ins 263 4 = some ((.bipush 41), 2) := mx_ins_of mi263 dX30_parches_4 rfl
theorem u263_4 : ev d 263 4 lo st h = ev d 263 6 lo (.int 41 :: st) h := (ev_s (f := mx_push (.int 41)) n263_4 rfl rfl).trans es_push
theorem n263_6 : mx_ins 263 6 = some ((.invokevirtual 13), 3) := mx_ins_of mi263 dX30_parches_6 rfl
theorem u263_6 : ev d 263 6 lo st h = evIn d 263 6 9 30 13 2 false lo st h := ev_inv n263_6 rfl rfl ow263 ia30_13
theorem n263_9 : mx_ins 263 9 = some ((.aload_n 0), 1) := mx_ins_of mi263 dX30_parches_9 rfl
theorem u263_9 : ev d 263 9 lo st h = evS (mx_ldA 0) d 263 10 lo st h := ev_s n263_9 rfl rfl
theorem n263_10 : mx_ins 263 10 = some ((.iload_n 1), 1) := mx_ins_of mi263 dX30_parches_10 rfl
theorem u263_10 : ev d 263 10 lo st h = evS (mx_ldI 1) d 263 11 lo st h := ev_s n263_10 rfl rfl
theorem n263_11 : mx_ins 263 11 = some ((.invokespecial 23), 3) := mx_ins_of mi263 dX30_parches_11 rfl
theorem u263_11 : ev d 263 11 lo st h = evIn d 263 11 14 30 23 2 false lo st h := ev_inv n263_11 rfl rfl ow263 ia30_23
theorem n263_14 : mx_ins 263 14 = some ((.istore_n 2), 1) := mx_ins_of mi263 dX30_parches_14 rfl
theorem u263_14 : ev d 263 14 lo st h = evS (mx_stI 2) d 263 15 lo st h := ev_s n263_14 rfl rfl
theorem n263_15 : mx_ins 263 15 = some ((.iload_n 2), 1) := mx_ins_of mi263 dX30_parches_15 rfl
theorem u263_15 : ev d 263 15 lo st h = evS (mx_ldI 2) d 263 16 lo st h := ev_s n263_15 rfl rfl
theorem n263_16 : mx_ins 263 16 = some ((.aload_n 0), 1) := mx_ins_of mi263 dX30_parches_16 rfl
theorem u263_16 : ev d 263 16 lo st h = evS (mx_ldA 0) d 263 17 lo st h := ev_s n263_16 rfl rfl
theorem n263_17 : mx_ins 263 17 = some ((.aload_n 0), 1) := mx_ins_of mi263 dX30_parches_17 rfl
theorem u263_17 : ev d 263 17 lo st h = evS (mx_ldA 0) d 263 18 lo st h := ev_s n263_17 rfl rfl
theorem n263_18 : mx_ins 263 18 = some ((.getfield 26), 3) := mx_ins_of mi263 dX30_parches_18 rfl
theorem u263_18 : ev d 263 18 lo st h = evS (mx_gf 30 26) d 263 21 lo st h := ev_s n263_18 rfl rfl
theorem n263_21 : mx_ins 263 21 = some ((.invokevirtual 30), 3) := mx_ins_of mi263 dX30_parches_21 rfl
theorem u263_21 : ev d 263 21 lo st h = evIn d 263 21 24 30 30 2 false lo st h := ev_inv n263_21 rfl rfl ow263 ia30_30
theorem n263_24 : mx_ins 263 24 = some (.iadd, 1) := mx_ins_of mi263 dX30_parches_24 rfl
theorem u263_24 : ev d 263 24 lo st h = evI d 263 24 25 lo st h .iadd := ev_u n263_24 rfl
theorem n263_25 : mx_ins 263 25 = some (.ireturn, 1) := mx_ins_of mi263 dX30_parches_25 rfl
theorem u263_25 : ev d 263 25 lo st h = evI d 263 25 26 lo st h .ireturn := ev_u n263_25 rfl
theorem mi264 : mx_mi 264 = some (yX31_init, cX31_init, 4, (none : Option FieldType), 31, 4, []) := rfl
theorem ow264 : mx_own 264 = 31 := mx_mi_own mi264
theorem mm264 : mx_max 264 = 4 := mx_mi_max mi264
theorem rt264 : mx_ret 264 = (none : Option FieldType) := mx_mi_ret mi264
theorem hn264 : mx_hnd 264 = [] := mx_mi_hnd mi264
theorem n264_0 : mx_ins 264 0 = some ((.aload_n 0), 1) := mx_ins_of mi264 dX31_init_0 rfl
theorem u264_0 : ev d 264 0 lo st h = evS (mx_ldA 0) d 264 1 lo st h := ev_s n264_0 rfl rfl
theorem n264_1 : mx_ins 264 1 = some ((.aload_n 1), 1) := mx_ins_of mi264 dX31_init_1 rfl
theorem u264_1 : ev d 264 1 lo st h = evS (mx_ldA 1) d 264 2 lo st h := ev_s n264_1 rfl rfl
theorem n264_2 : mx_ins 264 2 = some ((.putfield 1), 3) := mx_ins_of mi264 dX31_init_2 rfl
theorem u264_2 : ev d 264 2 lo st h = evS (mx_pf 31 1 true) d 264 5 lo st h := ev_s n264_2 rfl rfl
theorem n264_5 : mx_ins 264 5 = some ((.aload_n 0), 1) := mx_ins_of mi264 dX31_init_5 rfl
theorem u264_5 : ev d 264 5 lo st h = evS (mx_ldA 0) d 264 6 lo st h := ev_s n264_5 rfl rfl
theorem n264_6 : mx_ins 264 6 = some ((.aload_n 1), 1) := mx_ins_of mi264 dX31_init_6 rfl
theorem u264_6 : ev d 264 6 lo st h = evS (mx_ldA 1) d 264 7 lo st h := ev_s n264_6 rfl rfl
theorem n264_7 : mx_ins 264 7 = some ((.iload_n 2), 1) := mx_ins_of mi264 dX31_init_7 rfl
theorem u264_7 : ev d 264 7 lo st h = evS (mx_ldI 2) d 264 8 lo st h := ev_s n264_7 rfl rfl
theorem n264_8 : mx_ins 264 8 = some ((.iload_n 3), 1) := mx_ins_of mi264 dX31_init_8 rfl
theorem u264_8 : ev d 264 8 lo st h = evS (mx_ldI 3) d 264 9 lo st h := ev_s n264_8 rfl rfl
theorem n264_9 : mx_ins 264 9 = some ((.invokespecial 7), 3) := mx_ins_of mi264 dX31_init_9 rfl
theorem u264_9 : ev d 264 9 lo st h = evIn d 264 9 12 31 7 4 false lo st h := ev_inv n264_9 rfl rfl ow264 ia31_7
theorem n264_12 : mx_ins 264 12 = some (.return_, 1) := mx_ins_of mi264 dX31_init_12 rfl
theorem u264_12 : ev d 264 12 lo st h = evI d 264 12 13 lo st h .return_ := ev_u n264_12 rfl
theorem mi265 : mx_mi 265 = some (yX31_parches, cX31_parches, 2, (Option.some Jvm.ClassFile.FieldType.int), 31, 2, []) := rfl
theorem ow265 : mx_own 265 = 31 := mx_mi_own mi265
theorem mm265 : mx_max 265 = 2 := mx_mi_max mi265
theorem rt265 : mx_ret 265 = (Option.some Jvm.ClassFile.FieldType.int) := mx_mi_ret mi265
theorem hn265 : mx_hnd 265 = [] := mx_mi_hnd mi265
theorem n265_0 : mx_ins 265 0 = some ((.aload_n 0), 1) := mx_ins_of mi265 dX31_parches_0 rfl
theorem u265_0 : ev d 265 0 lo st h = evS (mx_ldA 0) d 265 1 lo st h := ev_s n265_0 rfl rfl
theorem n265_1 : mx_ins 265 1 = some ((.getfield 1), 3) := mx_ins_of mi265 dX31_parches_1 rfl
theorem u265_1 : ev d 265 1 lo st h = evS (mx_gf 31 1) d 265 4 lo st h := ev_s n265_1 rfl rfl
theorem n265_4 : mx_ins 265 4 = some ((.bipush 20), 2) := mx_ins_of mi265 dX31_parches_4 rfl
theorem u265_4 : ev d 265 4 lo st h = ev d 265 6 lo (.int 20 :: st) h := (ev_s (f := mx_push (.int 20)) n265_4 rfl rfl).trans es_push
theorem n265_6 : mx_ins 265 6 = some ((.invokevirtual 13), 3) := mx_ins_of mi265 dX31_parches_6 rfl
theorem u265_6 : ev d 265 6 lo st h = evIn d 265 6 9 31 13 2 false lo st h := ev_inv n265_6 rfl rfl ow265 ia31_13
theorem n265_9 : mx_ins 265 9 = some ((.aload_n 0), 1) := mx_ins_of mi265 dX31_parches_9 rfl
theorem u265_9 : ev d 265 9 lo st h = evS (mx_ldA 0) d 265 10 lo st h := ev_s n265_9 rfl rfl
theorem n265_10 : mx_ins 265 10 = some ((.iload_n 1), 1) := mx_ins_of mi265 dX31_parches_10 rfl
theorem u265_10 : ev d 265 10 lo st h = evS (mx_ldI 1) d 265 11 lo st h := ev_s n265_10 rfl rfl
theorem n265_11 : mx_ins 265 11 = some ((.invokespecial 19), 3) := mx_ins_of mi265 dX31_parches_11 rfl
theorem u265_11 : ev d 265 11 lo st h = evIn d 265 11 14 31 19 2 false lo st h := ev_inv n265_11 rfl rfl ow265 ia31_19
theorem n265_14 : mx_ins 265 14 = some ((.aload_n 0), 1) := mx_ins_of mi265 dX31_parches_14 rfl
theorem u265_14 : ev d 265 14 lo st h = evS (mx_ldA 0) d 265 15 lo st h := ev_s n265_14 rfl rfl
theorem n265_15 : mx_ins 265 15 = some ((.getfield 23), 3) := mx_ins_of mi265 dX31_parches_15 rfl
theorem u265_15 : ev d 265 15 lo st h = evS (mx_gf 31 23) d 265 18 lo st h := ev_s n265_15 rfl rfl
theorem n265_18 : mx_ins 265 18 = some (.isub, 1) := mx_ins_of mi265 dX31_parches_18 rfl
theorem u265_18 : ev d 265 18 lo st h = evI d 265 18 19 lo st h .isub := ev_u n265_18 rfl
theorem n265_19 : mx_ins 265 19 = some (.ireturn, 1) := mx_ins_of mi265 dX31_parches_19 rfl
theorem u265_19 : ev d 265 19 lo st h = evI d 265 19 20 lo st h .ireturn := ev_u n265_19 rfl
theorem mi266 : mx_mi 266 = some (yX32_init, cX32_init, 4, (none : Option FieldType), 32, 4, []) := rfl
theorem ow266 : mx_own 266 = 32 := mx_mi_own mi266
theorem mm266 : mx_max 266 = 4 := mx_mi_max mi266
theorem rt266 : mx_ret 266 = (none : Option FieldType) := mx_mi_ret mi266
theorem hn266 : mx_hnd 266 = [] := mx_mi_hnd mi266
theorem n266_0 : mx_ins 266 0 = some ((.aload_n 0), 1) := mx_ins_of mi266 dX32_init_0 rfl
theorem u266_0 : ev d 266 0 lo st h = evS (mx_ldA 0) d 266 1 lo st h := ev_s n266_0 rfl rfl
theorem n266_1 : mx_ins 266 1 = some ((.aload_n 1), 1) := mx_ins_of mi266 dX32_init_1 rfl
theorem u266_1 : ev d 266 1 lo st h = evS (mx_ldA 1) d 266 2 lo st h := ev_s n266_1 rfl rfl
theorem n266_2 : mx_ins 266 2 = some ((.putfield 1), 3) := mx_ins_of mi266 dX32_init_2 rfl
theorem u266_2 : ev d 266 2 lo st h = evS (mx_pf 32 1 true) d 266 5 lo st h := ev_s n266_2 rfl rfl
theorem n266_5 : mx_ins 266 5 = some ((.aload_n 0), 1) := mx_ins_of mi266 dX32_init_5 rfl
theorem u266_5 : ev d 266 5 lo st h = evS (mx_ldA 0) d 266 6 lo st h := ev_s n266_5 rfl rfl
theorem n266_6 : mx_ins 266 6 = some ((.aload_n 1), 1) := mx_ins_of mi266 dX32_init_6 rfl
theorem u266_6 : ev d 266 6 lo st h = evS (mx_ldA 1) d 266 7 lo st h := ev_s n266_6 rfl rfl
theorem n266_7 : mx_ins 266 7 = some ((.iload_n 2), 1) := mx_ins_of mi266 dX32_init_7 rfl
theorem u266_7 : ev d 266 7 lo st h = evS (mx_ldI 2) d 266 8 lo st h := ev_s n266_7 rfl rfl
theorem n266_8 : mx_ins 266 8 = some ((.iload_n 3), 1) := mx_ins_of mi266 dX32_init_8 rfl
theorem u266_8 : ev d 266 8 lo st h = evS (mx_ldI 3) d 266 9 lo st h := ev_s n266_8 rfl rfl
theorem n266_9 : mx_ins 266 9 = some ((.invokespecial 7), 3) := mx_ins_of mi266 dX32_init_9 rfl
theorem u266_9 : ev d 266 9 lo st h = evIn d 266 9 12 32 7 4 false lo st h := ev_inv n266_9 rfl rfl ow266 ia32_7
theorem n266_12 : mx_ins 266 12 = some (.return_, 1) := mx_ins_of mi266 dX32_init_12 rfl
theorem u266_12 : ev d 266 12 lo st h = evI d 266 12 13 lo st h .return_ := ev_u n266_12 rfl
theorem mi267 : mx_mi 267 = some (yX32_shares, cX32_shares, 3, (Option.some Jvm.ClassFile.FieldType.int), 32, 2, []) := rfl
theorem ow267 : mx_own 267 = 32 := mx_mi_own mi267
theorem mm267 : mx_max 267 = 3 := mx_mi_max mi267
theorem rt267 : mx_ret 267 = (Option.some Jvm.ClassFile.FieldType.int) := mx_mi_ret mi267
theorem hn267 : mx_hnd 267 = [] := mx_mi_hnd mi267
theorem n267_0 : mx_ins 267 0 = some ((.aload_n 0), 1) := mx_ins_of mi267 dX32_shares_0 rfl
theorem u267_0 : ev d 267 0 lo st h = evS (mx_ldA 0) d 267 1 lo st h := ev_s n267_0 rfl rfl
theorem n267_1 : mx_ins 267 1 = some ((.getfield 1), 3) := mx_ins_of mi267 dX32_shares_1 rfl
theorem u267_1 : ev d 267 1 lo st h = evS (mx_gf 32 1) d 267 4 lo st h := ev_s n267_1 rfl rfl
theorem n267_4 : mx_ins 267 4 = some ((.bipush 61), 2) := mx_ins_of mi267 dX32_shares_4 rfl
theorem u267_4 : ev d 267 4 lo st h = ev d 267 6 lo (.int 61 :: st) h := (ev_s (f := mx_push (.int 61)) n267_4 rfl rfl).trans es_push
theorem n267_6 : mx_ins 267 6 = some ((.invokevirtual 13), 3) := mx_ins_of mi267 dX32_shares_6 rfl
theorem u267_6 : ev d 267 6 lo st h = evIn d 267 6 9 32 13 2 false lo st h := ev_inv n267_6 rfl rfl ow267 ia32_13
theorem n267_9 : mx_ins 267 9 = some ((.aload_n 0), 1) := mx_ins_of mi267 dX32_shares_9 rfl
theorem u267_9 : ev d 267 9 lo st h = evS (mx_ldA 0) d 267 10 lo st h := ev_s n267_9 rfl rfl
theorem n267_10 : mx_ins 267 10 = some ((.iload_n 1), 1) := mx_ins_of mi267 dX32_shares_10 rfl
theorem u267_10 : ev d 267 10 lo st h = evS (mx_ldI 1) d 267 11 lo st h := ev_s n267_10 rfl rfl
theorem n267_11 : mx_ins 267 11 = some ((.invokespecial 23), 3) := mx_ins_of mi267 dX32_shares_11 rfl
theorem u267_11 : ev d 267 11 lo st h = evIn d 267 11 14 32 23 2 false lo st h := ev_inv n267_11 rfl rfl ow267 ia32_23
theorem n267_14 : mx_ins 267 14 = some ((.istore_n 2), 1) := mx_ins_of mi267 dX32_shares_14 rfl
theorem u267_14 : ev d 267 14 lo st h = evS (mx_stI 2) d 267 15 lo st h := ev_s n267_14 rfl rfl
theorem n267_15 : mx_ins 267 15 = some ((.iload_n 2), 1) := mx_ins_of mi267 dX32_shares_15 rfl
theorem u267_15 : ev d 267 15 lo st h = evS (mx_ldI 2) d 267 16 lo st h := ev_s n267_15 rfl rfl
theorem n267_16 : mx_ins 267 16 = some ((.aload_n 0), 1) := mx_ins_of mi267 dX32_shares_16 rfl
theorem u267_16 : ev d 267 16 lo st h = evS (mx_ldA 0) d 267 17 lo st h := ev_s n267_16 rfl rfl
theorem n267_17 : mx_ins 267 17 = some ((.aload_n 0), 1) := mx_ins_of mi267 dX32_shares_17 rfl
theorem u267_17 : ev d 267 17 lo st h = evS (mx_ldA 0) d 267 18 lo st h := ev_s n267_17 rfl rfl
theorem n267_18 : mx_ins 267 18 = some ((.getfield 26), 3) := mx_ins_of mi267 dX32_shares_18 rfl
theorem u267_18 : ev d 267 18 lo st h = evS (mx_gf 32 26) d 267 21 lo st h := ev_s n267_18 rfl rfl
theorem n267_21 : mx_ins 267 21 = some ((.invokevirtual 30), 3) := mx_ins_of mi267 dX32_shares_21 rfl
theorem u267_21 : ev d 267 21 lo st h = evIn d 267 21 24 32 30 2 false lo st h := ev_inv n267_21 rfl rfl ow267 ia32_30
theorem n267_24 : mx_ins 267 24 = some (.iadd, 1) := mx_ins_of mi267 dX32_shares_24 rfl
theorem u267_24 : ev d 267 24 lo st h = evI d 267 24 25 lo st h .iadd := ev_u n267_24 rfl
theorem n267_25 : mx_ins 267 25 = some (.ireturn, 1) := mx_ins_of mi267 dX32_shares_25 rfl
theorem u267_25 : ev d 267 25 lo st h = evI d 267 25 26 lo st h .ireturn := ev_u n267_25 rfl
theorem mi268 : mx_mi 268 = some (yX32_tells, cX32_tells, 2, (Option.some Jvm.ClassFile.FieldType.int), 32, 2, []) := rfl
theorem ow268 : mx_own 268 = 32 := mx_mi_own mi268
theorem mm268 : mx_max 268 = 2 := mx_mi_max mi268
theorem rt268 : mx_ret 268 = (Option.some Jvm.ClassFile.FieldType.int) := mx_mi_ret mi268
theorem hn268 : mx_hnd 268 = [] := mx_mi_hnd mi268
theorem n268_0 : mx_ins 268 0 = some ((.aload_n 0), 1) := mx_ins_of mi268 dX32_tells_0 rfl
theorem u268_0 : ev d 268 0 lo st h = evS (mx_ldA 0) d 268 1 lo st h := ev_s n268_0 rfl rfl
theorem n268_1 : mx_ins 268 1 = some ((.getfield 1), 3) := mx_ins_of mi268 dX32_tells_1 rfl
theorem u268_1 : ev d 268 1 lo st h = evS (mx_gf 32 1) d 268 4 lo st h := ev_s n268_1 rfl rfl
theorem n268_4 : mx_ins 268 4 = some ((.bipush 60), 2) := mx_ins_of mi268 dX32_tells_4 rfl
theorem u268_4 : ev d 268 4 lo st h = ev d 268 6 lo (.int 60 :: st) h := (ev_s (f := mx_push (.int 60)) n268_4 rfl rfl).trans es_push
theorem n268_6 : mx_ins 268 6 = some ((.invokevirtual 13), 3) := mx_ins_of mi268 dX32_tells_6 rfl
theorem u268_6 : ev d 268 6 lo st h = evIn d 268 6 9 32 13 2 false lo st h := ev_inv n268_6 rfl rfl ow268 ia32_13
theorem n268_9 : mx_ins 268 9 = some ((.aload_n 0), 1) := mx_ins_of mi268 dX32_tells_9 rfl
theorem u268_9 : ev d 268 9 lo st h = evS (mx_ldA 0) d 268 10 lo st h := ev_s n268_9 rfl rfl
theorem n268_10 : mx_ins 268 10 = some ((.iload_n 1), 1) := mx_ins_of mi268 dX32_tells_10 rfl
theorem u268_10 : ev d 268 10 lo st h = evS (mx_ldI 1) d 268 11 lo st h := ev_s n268_10 rfl rfl
theorem n268_11 : mx_ins 268 11 = some ((.invokespecial 19), 3) := mx_ins_of mi268 dX32_tells_11 rfl
theorem u268_11 : ev d 268 11 lo st h = evIn d 268 11 14 32 19 2 false lo st h := ev_inv n268_11 rfl rfl ow268 ia32_19
theorem n268_14 : mx_ins 268 14 = some ((.iconst 2), 1) := mx_ins_of mi268 dX32_tells_14 rfl
theorem u268_14 : ev d 268 14 lo st h = ev d 268 15 lo (.int 2 :: st) h := (ev_s (f := mx_push (.int 2)) n268_14 rfl rfl).trans es_push
theorem n268_15 : mx_ins 268 15 = some (.imul, 1) := mx_ins_of mi268 dX32_tells_15 rfl
theorem u268_15 : ev d 268 15 lo st h = evI d 268 15 16 lo st h .imul := ev_u n268_15 rfl
theorem n268_16 : mx_ins 268 16 = some (.ireturn, 1) := mx_ins_of mi268 dX32_tells_16 rfl
theorem u268_16 : ev d 268 16 lo st h = evI d 268 16 17 lo st h .ireturn := ev_u n268_16 rfl
theorem mi269 : mx_mi 269 = some (yX33_init, cX33_init, 4, (none : Option FieldType), 33, 4, []) := rfl
theorem ow269 : mx_own 269 = 33 := mx_mi_own mi269
theorem mm269 : mx_max 269 = 4 := mx_mi_max mi269
theorem rt269 : mx_ret 269 = (none : Option FieldType) := mx_mi_ret mi269
theorem hn269 : mx_hnd 269 = [] := mx_mi_hnd mi269
theorem n269_0 : mx_ins 269 0 = some ((.aload_n 0), 1) := mx_ins_of mi269 dX33_init_0 rfl
theorem u269_0 : ev d 269 0 lo st h = evS (mx_ldA 0) d 269 1 lo st h := ev_s n269_0 rfl rfl
theorem n269_1 : mx_ins 269 1 = some ((.aload_n 1), 1) := mx_ins_of mi269 dX33_init_1 rfl
theorem u269_1 : ev d 269 1 lo st h = evS (mx_ldA 1) d 269 2 lo st h := ev_s n269_1 rfl rfl
theorem n269_2 : mx_ins 269 2 = some ((.putfield 1), 3) := mx_ins_of mi269 dX33_init_2 rfl
theorem u269_2 : ev d 269 2 lo st h = evS (mx_pf 33 1 true) d 269 5 lo st h := ev_s n269_2 rfl rfl
theorem n269_5 : mx_ins 269 5 = some ((.aload_n 0), 1) := mx_ins_of mi269 dX33_init_5 rfl
theorem u269_5 : ev d 269 5 lo st h = evS (mx_ldA 0) d 269 6 lo st h := ev_s n269_5 rfl rfl
theorem n269_6 : mx_ins 269 6 = some ((.aload_n 1), 1) := mx_ins_of mi269 dX33_init_6 rfl
theorem u269_6 : ev d 269 6 lo st h = evS (mx_ldA 1) d 269 7 lo st h := ev_s n269_6 rfl rfl
theorem n269_7 : mx_ins 269 7 = some ((.iload_n 2), 1) := mx_ins_of mi269 dX33_init_7 rfl
theorem u269_7 : ev d 269 7 lo st h = evS (mx_ldI 2) d 269 8 lo st h := ev_s n269_7 rfl rfl
theorem n269_8 : mx_ins 269 8 = some ((.iload_n 3), 1) := mx_ins_of mi269 dX33_init_8 rfl
theorem u269_8 : ev d 269 8 lo st h = evS (mx_ldI 3) d 269 9 lo st h := ev_s n269_8 rfl rfl
theorem n269_9 : mx_ins 269 9 = some ((.invokespecial 7), 3) := mx_ins_of mi269 dX33_init_9 rfl
theorem u269_9 : ev d 269 9 lo st h = evIn d 269 9 12 33 7 4 false lo st h := ev_inv n269_9 rfl rfl ow269 ia33_7
theorem n269_12 : mx_ins 269 12 = some (.return_, 1) := mx_ins_of mi269 dX33_init_12 rfl
theorem u269_12 : ev d 269 12 lo st h = evI d 269 12 13 lo st h .return_ := ev_u n269_12 rfl
theorem mi270 : mx_mi 270 = some (yX33_spends, cX33_spends, 2, (Option.some Jvm.ClassFile.FieldType.int), 33, 2, []) := rfl
theorem ow270 : mx_own 270 = 33 := mx_mi_own mi270
theorem mm270 : mx_max 270 = 2 := mx_mi_max mi270
theorem rt270 : mx_ret 270 = (Option.some Jvm.ClassFile.FieldType.int) := mx_mi_ret mi270
theorem hn270 : mx_hnd 270 = [] := mx_mi_hnd mi270
theorem n270_0 : mx_ins 270 0 = some ((.aload_n 0), 1) := mx_ins_of mi270 dX33_spends_0 rfl
theorem u270_0 : ev d 270 0 lo st h = evS (mx_ldA 0) d 270 1 lo st h := ev_s n270_0 rfl rfl
theorem n270_1 : mx_ins 270 1 = some ((.getfield 1), 3) := mx_ins_of mi270 dX33_spends_1 rfl
theorem u270_1 : ev d 270 1 lo st h = evS (mx_gf 33 1) d 270 4 lo st h := ev_s n270_1 rfl rfl
theorem n270_4 : mx_ins 270 4 = some ((.bipush 51), 2) := mx_ins_of mi270 dX33_spends_4 rfl
theorem u270_4 : ev d 270 4 lo st h = ev d 270 6 lo (.int 51 :: st) h := (ev_s (f := mx_push (.int 51)) n270_4 rfl rfl).trans es_push
theorem n270_6 : mx_ins 270 6 = some ((.invokevirtual 13), 3) := mx_ins_of mi270 dX33_spends_6 rfl
theorem u270_6 : ev d 270 6 lo st h = evIn d 270 6 9 33 13 2 false lo st h := ev_inv n270_6 rfl rfl ow270 ia33_13
theorem n270_9 : mx_ins 270 9 = some ((.aload_n 0), 1) := mx_ins_of mi270 dX33_spends_9 rfl
theorem u270_9 : ev d 270 9 lo st h = evS (mx_ldA 0) d 270 10 lo st h := ev_s n270_9 rfl rfl
theorem n270_10 : mx_ins 270 10 = some ((.iload_n 1), 1) := mx_ins_of mi270 dX33_spends_10 rfl
theorem u270_10 : ev d 270 10 lo st h = evS (mx_ldI 1) d 270 11 lo st h := ev_s n270_10 rfl rfl
theorem n270_11 : mx_ins 270 11 = some ((.invokespecial 23), 3) := mx_ins_of mi270 dX33_spends_11 rfl
theorem u270_11 : ev d 270 11 lo st h = evIn d 270 11 14 33 23 2 false lo st h := ev_inv n270_11 rfl rfl ow270 ia33_23
theorem n270_14 : mx_ins 270 14 = some ((.aload_n 0), 1) := mx_ins_of mi270 dX33_spends_14 rfl
theorem u270_14 : ev d 270 14 lo st h = evS (mx_ldA 0) d 270 15 lo st h := ev_s n270_14 rfl rfl
theorem n270_15 : mx_ins 270 15 = some ((.getfield 26), 3) := mx_ins_of mi270 dX33_spends_15 rfl
theorem u270_15 : ev d 270 15 lo st h = evS (mx_gf 33 26) d 270 18 lo st h := ev_s n270_15 rfl rfl
theorem n270_18 : mx_ins 270 18 = some (.isub, 1) := mx_ins_of mi270 dX33_spends_18 rfl
theorem u270_18 : ev d 270 18 lo st h = evI d 270 18 19 lo st h .isub := ev_u n270_18 rfl
theorem n270_19 : mx_ins 270 19 = some (.ireturn, 1) := mx_ins_of mi270 dX33_spends_19 rfl
theorem u270_19 : ev d 270 19 lo st h = evI d 270 19 20 lo st h .ireturn := ev_u n270_19 rfl
theorem mi271 : mx_mi 271 = some (yX33_shares, cX33_shares, 2, (Option.some Jvm.ClassFile.FieldType.int), 33, 2, []) := rfl
theorem ow271 : mx_own 271 = 33 := mx_mi_own mi271
theorem mm271 : mx_max 271 = 2 := mx_mi_max mi271
theorem rt271 : mx_ret 271 = (Option.some Jvm.ClassFile.FieldType.int) := mx_mi_ret mi271
theorem hn271 : mx_hnd 271 = [] := mx_mi_hnd mi271
theorem n271_0 : mx_ins 271 0 = some ((.aload_n 0), 1) := mx_ins_of mi271 dX33_shares_0 rfl
theorem u271_0 : ev d 271 0 lo st h = evS (mx_ldA 0) d 271 1 lo st h := ev_s n271_0 rfl rfl
theorem n271_1 : mx_ins 271 1 = some ((.getfield 1), 3) := mx_ins_of mi271 dX33_shares_1 rfl
theorem u271_1 : ev d 271 1 lo st h = evS (mx_gf 33 1) d 271 4 lo st h := ev_s n271_1 rfl rfl
theorem n271_4 : mx_ins 271 4 = some ((.bipush 50), 2) := mx_ins_of mi271 dX33_shares_4 rfl
theorem u271_4 : ev d 271 4 lo st h = ev d 271 6 lo (.int 50 :: st) h := (ev_s (f := mx_push (.int 50)) n271_4 rfl rfl).trans es_push
theorem n271_6 : mx_ins 271 6 = some ((.invokevirtual 13), 3) := mx_ins_of mi271 dX33_shares_6 rfl
theorem u271_6 : ev d 271 6 lo st h = evIn d 271 6 9 33 13 2 false lo st h := ev_inv n271_6 rfl rfl ow271 ia33_13
theorem n271_9 : mx_ins 271 9 = some ((.aload_n 0), 1) := mx_ins_of mi271 dX33_shares_9 rfl
theorem u271_9 : ev d 271 9 lo st h = evS (mx_ldA 0) d 271 10 lo st h := ev_s n271_9 rfl rfl
theorem n271_10 : mx_ins 271 10 = some ((.iload_n 1), 1) := mx_ins_of mi271 dX33_shares_10 rfl
theorem u271_10 : ev d 271 10 lo st h = evS (mx_ldI 1) d 271 11 lo st h := ev_s n271_10 rfl rfl
theorem n271_11 : mx_ins 271 11 = some ((.iconst 2), 1) := mx_ins_of mi271 dX33_shares_11 rfl
theorem u271_11 : ev d 271 11 lo st h = ev d 271 12 lo (.int 2 :: st) h := (ev_s (f := mx_push (.int 2)) n271_11 rfl rfl).trans es_push
theorem n271_12 : mx_ins 271 12 = some (.iadd, 1) := mx_ins_of mi271 dX33_shares_12 rfl
theorem u271_12 : ev d 271 12 lo st h = evI d 271 12 13 lo st h .iadd := ev_u n271_12 rfl
theorem n271_13 : mx_ins 271 13 = some ((.invokespecial 19), 3) := mx_ins_of mi271 dX33_shares_13 rfl
theorem u271_13 : ev d 271 13 lo st h = evIn d 271 13 16 33 19 2 false lo st h := ev_inv n271_13 rfl rfl ow271 ia33_19
theorem n271_16 : mx_ins 271 16 = some ((.iconst 1), 1) := mx_ins_of mi271 dX33_shares_16 rfl
theorem u271_16 : ev d 271 16 lo st h = ev d 271 17 lo (.int 1 :: st) h := (ev_s (f := mx_push (.int 1)) n271_16 rfl rfl).trans es_push
theorem n271_17 : mx_ins 271 17 = some (.ixor, 1) := mx_ins_of mi271 dX33_shares_17 rfl
theorem u271_17 : ev d 271 17 lo st h = evI d 271 17 18 lo st h .ixor := ev_u n271_17 rfl
theorem n271_18 : mx_ins 271 18 = some (.ireturn, 1) := mx_ins_of mi271 dX33_shares_18 rfl
theorem u271_18 : ev d 271 18 lo st h = evI d 271 18 19 lo st h .ireturn := ev_u n271_18 rfl
theorem mi272 : mx_mi 272 = some (yX34_parches, cX34_parches, 2, (Option.some Jvm.ClassFile.FieldType.int), 34, 2, []) := rfl
theorem ow272 : mx_own 272 = 34 := mx_mi_own mi272
theorem mm272 : mx_max 272 = 2 := mx_mi_max mi272
theorem rt272 : mx_ret 272 = (Option.some Jvm.ClassFile.FieldType.int) := mx_mi_ret mi272
theorem hn272 : mx_hnd 272 = [] := mx_mi_hnd mi272
theorem n272_0 : mx_ins 272 0 = some ((.aload_n 0), 1) := mx_ins_of mi272 dX34_parches_0 rfl
theorem u272_0 : ev d 272 0 lo st h = evS (mx_ldA 0) d 272 1 lo st h := ev_s n272_0 rfl rfl
theorem n272_1 : mx_ins 272 1 = some ((.iload_n 1), 1) := mx_ins_of mi272 dX34_parches_1 rfl
theorem u272_1 : ev d 272 1 lo st h = evS (mx_ldI 1) d 272 2 lo st h := ev_s n272_1 rfl rfl
theorem n272_2 : mx_ins 272 2 = some ((.invokeinterface 1 2), 5) := mx_ins_of mi272 dX34_parches_2 rfl
theorem u272_2 : ev d 272 2 lo st h = evIn d 272 2 7 34 1 2 false lo st h := ev_inv n272_2 rfl rfl ow272 ia34_1
theorem n272_7 : mx_ins 272 7 = some ((.iconst 2), 1) := mx_ins_of mi272 dX34_parches_7 rfl
theorem u272_7 : ev d 272 7 lo st h = ev d 272 8 lo (.int 2 :: st) h := (ev_s (f := mx_push (.int 2)) n272_7 rfl rfl).trans es_push
theorem n272_8 : mx_ins 272 8 = some (.imul, 1) := mx_ins_of mi272 dX34_parches_8 rfl
theorem u272_8 : ev d 272 8 lo st h = evI d 272 8 9 lo st h .imul := ev_u n272_8 rfl
theorem n272_9 : mx_ins 272 9 = some (.ireturn, 1) := mx_ins_of mi272 dX34_parches_9 rfl
theorem u272_9 : ev d 272 9 lo st h = evI d 272 9 10 lo st h .ireturn := ev_u n272_9 rfl
theorem mi273 : mx_mi 273 = some (x, code, 4, (Option.some Jvm.ClassFile.FieldType.boolean), 37, 1, []) := rfl
theorem ow273 : mx_own 273 = 37 := mx_mi_own mi273
theorem mm273 : mx_max 273 = 4 := mx_mi_max mi273
theorem rt273 : mx_ret 273 = (Option.some Jvm.ClassFile.FieldType.boolean) := mx_mi_ret mi273
theorem hn273 : mx_hnd 273 = [] := mx_mi_hnd mi273
theorem n273_0 : mx_ins 273 0 = some ((.new 7), 3) := mx_ins_of mi273 dL_law_0 rfl
theorem u273_0 : ev d 273 0 lo st h = evS (mx_nw 37 7) d 273 3 lo st h := ev_s n273_0 rfl rfl
theorem n273_3 : mx_ins 273 3 = some (.dup, 1) := mx_ins_of mi273 dL_law_3 rfl
theorem u273_3 : ev d 273 3 lo st h = evI d 273 3 4 lo st h .dup := ev_u n273_3 rfl
theorem n273_4 : mx_ins 273 4 = some ((.invokespecial 9), 3) := mx_ins_of mi273 dL_law_4 rfl
theorem u273_4 : ev d 273 4 lo st h = evIn d 273 4 7 37 9 1 false lo st h := ev_inv n273_4 rfl rfl ow273 ia37_9
theorem n273_7 : mx_ins 273 7 = some ((.astore_n 1), 1) := mx_ins_of mi273 dL_law_7 rfl
theorem u273_7 : ev d 273 7 lo st h = evS (mx_stA 1) d 273 8 lo st h := ev_s n273_7 rfl rfl
theorem n273_8 : mx_ins 273 8 = some ((.new 10), 3) := mx_ins_of mi273 dL_law_8 rfl
theorem u273_8 : ev d 273 8 lo st h = evS (mx_nw 37 10) d 273 11 lo st h := ev_s n273_8 rfl rfl
theorem n273_11 : mx_ins 273 11 = some (.dup, 1) := mx_ins_of mi273 dL_law_11 rfl
theorem u273_11 : ev d 273 11 lo st h = evI d 273 11 12 lo st h .dup := ev_u n273_11 rfl
theorem n273_12 : mx_ins 273 12 = some ((.invokespecial 12), 3) := mx_ins_of mi273 dL_law_12 rfl
theorem u273_12 : ev d 273 12 lo st h = evIn d 273 12 15 37 12 1 false lo st h := ev_inv n273_12 rfl rfl ow273 ia37_12
theorem n273_15 : mx_ins 273 15 = some ((.astore_n 2), 1) := mx_ins_of mi273 dL_law_15 rfl
theorem u273_15 : ev d 273 15 lo st h = evS (mx_stA 2) d 273 16 lo st h := ev_s n273_15 rfl rfl
theorem n273_16 : mx_ins 273 16 = some ((.iconst 0), 1) := mx_ins_of mi273 dL_law_16 rfl
theorem u273_16 : ev d 273 16 lo st h = ev d 273 17 lo (.int 0 :: st) h := (ev_s (f := mx_push (.int 0)) n273_16 rfl rfl).trans es_push
theorem n273_17 : mx_ins 273 17 = some ((.istore_n 3), 1) := mx_ins_of mi273 dL_law_17 rfl
theorem u273_17 : ev d 273 17 lo st h = evS (mx_stI 3) d 273 18 lo st h := ev_s n273_17 rfl rfl
theorem n273_18 : mx_ins 273 18 = some ((.iload_n 3), 1) := mx_ins_of mi273 dL_law_18 rfl
theorem u273_18 : ev d 273 18 lo st h = evS (mx_ldI 3) d 273 19 lo st h := ev_s n273_18 rfl rfl
theorem n273_19 : mx_ins 273 19 = some ((.aload_n 0), 1) := mx_ins_of mi273 dL_law_19 rfl
theorem u273_19 : ev d 273 19 lo st h = evS (mx_ldA 0) d 273 20 lo st h := ev_s n273_19 rfl rfl
theorem n273_20 : mx_ins 273 20 = some (.arraylength, 1) := mx_ins_of mi273 dL_law_20 rfl
theorem u273_20 : ev d 273 20 lo st h = evI d 273 20 21 lo st h .arraylength := ev_u n273_20 rfl
theorem n273_21 : mx_ins 273 21 = some ((.iconst 5), 1) := mx_ins_of mi273 dL_law_21 rfl
theorem u273_21 : ev d 273 21 lo st h = ev d 273 22 lo (.int 5 :: st) h := (ev_s (f := mx_push (.int 5)) n273_21 rfl rfl).trans es_push
theorem n273_22 : mx_ins 273 22 = some (.isub, 1) := mx_ins_of mi273 dL_law_22 rfl
theorem u273_22 : ev d 273 22 lo st h = evI d 273 22 23 lo st h .isub := ev_u n273_22 rfl
theorem n273_23 : mx_ins 273 23 = some ((.if_icmp .gt 1324), 3) := mx_ins_of mi273 dL_law_23 rfl
theorem u273_23 : ev d 273 23 lo st h = evK .gt d 273 1347 26 lo st h := ev_ic n273_23 rfl rfl
theorem n273_26 : mx_ins 273 26 = some ((.aload_n 0), 1) := mx_ins_of mi273 dL_law_26 rfl
theorem u273_26 : ev d 273 26 lo st h = evS (mx_ldA 0) d 273 27 lo st h := ev_s n273_26 rfl rfl
theorem n273_27 : mx_ins 273 27 = some ((.iload_n 3), 1) := mx_ins_of mi273 dL_law_27 rfl
theorem u273_27 : ev d 273 27 lo st h = evS (mx_ldI 3) d 273 28 lo st h := ev_s n273_27 rfl rfl
theorem n273_28 : mx_ins 273 28 = some (.iaload, 1) := mx_ins_of mi273 dL_law_28 rfl
theorem u273_28 : ev d 273 28 lo st h = evI d 273 28 29 lo st h .iaload := ev_u n273_28 rfl
theorem n273_29 : mx_ins 273 29 = some ((.bipush 63), 2) := mx_ins_of mi273 dL_law_29 rfl
theorem u273_29 : ev d 273 29 lo st h = ev d 273 31 lo (.int 63 :: st) h := (ev_s (f := mx_push (.int 63)) n273_29 rfl rfl).trans es_push
theorem n273_31 : mx_ins 273 31 = some (.iand, 1) := mx_ins_of mi273 dL_law_31 rfl
theorem u273_31 : ev d 273 31 lo st h = evI d 273 31 32 lo st h .iand := ev_u n273_31 rfl
theorem n273_32 : mx_ins 273 32 = some ((.tableswitch 1309 0 38 #[172, 235, 248, 281, 314, 357, 390, 413, 446, 469, 502, 535, 558, 581, 594, 607, 630, 653, 686, 719, 742, 765, 798, 811, 834, 847, 880, 923, 936, 989, 1032, 1075, 1118, 1161, 1194, 1237, 1260, 1283, 1296]), 172) := mx_ins_of mi273 dL_law_32 rfl
theorem u273_32 : ev d 273 32 lo st h = evTS d 273 [(0, 204), (1, 267), (2, 280), (3, 313), (4, 346), (5, 389), (6, 422), (7, 445), (8, 478), (9, 501), (10, 534), (11, 567), (12, 590), (13, 613), (14, 626), (15, 639), (16, 662), (17, 685), (18, 718), (19, 751), (20, 774), (21, 797), (22, 830), (23, 843), (24, 866), (25, 879), (26, 912), (27, 955), (28, 968), (29, 1021), (30, 1064), (31, 1107), (32, 1150), (33, 1193), (34, 1226), (35, 1269), (36, 1292), (37, 1315), (38, 1328)] 1341 lo st h := ev_ts n273_32 rfl rfl
theorem n273_204 : mx_ins 273 204 = some ((.aload_n 1), 1) := mx_ins_of mi273 dL_law_204 rfl
theorem u273_204 : ev d 273 204 lo st h = evS (mx_ldA 1) d 273 205 lo st h := ev_s n273_204 rfl rfl
theorem n273_205 : mx_ins 273 205 = some ((.aload_n 0), 1) := mx_ins_of mi273 dL_law_205 rfl
theorem u273_205 : ev d 273 205 lo st h = evS (mx_ldA 0) d 273 206 lo st h := ev_s n273_205 rfl rfl
theorem n273_206 : mx_ins 273 206 = some ((.iload_n 3), 1) := mx_ins_of mi273 dL_law_206 rfl
theorem u273_206 : ev d 273 206 lo st h = evS (mx_ldI 3) d 273 207 lo st h := ev_s n273_206 rfl rfl
theorem n273_207 : mx_ins 273 207 = some ((.iconst 1), 1) := mx_ins_of mi273 dL_law_207 rfl
theorem u273_207 : ev d 273 207 lo st h = ev d 273 208 lo (.int 1 :: st) h := (ev_s (f := mx_push (.int 1)) n273_207 rfl rfl).trans es_push
theorem n273_208 : mx_ins 273 208 = some (.iadd, 1) := mx_ins_of mi273 dL_law_208 rfl
theorem u273_208 : ev d 273 208 lo st h = evI d 273 208 209 lo st h .iadd := ev_u n273_208 rfl
theorem n273_209 : mx_ins 273 209 = some (.iaload, 1) := mx_ins_of mi273 dL_law_209 rfl
theorem u273_209 : ev d 273 209 lo st h = evI d 273 209 210 lo st h .iaload := ev_u n273_209 rfl
theorem n273_210 : mx_ins 273 210 = some (.i2l, 1) := mx_ins_of mi273 dL_law_210 rfl
theorem u273_210 : ev d 273 210 lo st h = evI d 273 210 211 lo st h .i2l := ev_u n273_210 rfl
theorem n273_211 : mx_ins 273 211 = some ((.bipush 32), 2) := mx_ins_of mi273 dL_law_211 rfl
theorem u273_211 : ev d 273 211 lo st h = ev d 273 213 lo (.int 32 :: st) h := (ev_s (f := mx_push (.int 32)) n273_211 rfl rfl).trans es_push
theorem n273_213 : mx_ins 273 213 = some (.lshl, 1) := mx_ins_of mi273 dL_law_213 rfl
theorem u273_213 : ev d 273 213 lo st h = evI d 273 213 214 lo st h .lshl := ev_u n273_213 rfl
theorem n273_214 : mx_ins 273 214 = some ((.aload_n 0), 1) := mx_ins_of mi273 dL_law_214 rfl
theorem u273_214 : ev d 273 214 lo st h = evS (mx_ldA 0) d 273 215 lo st h := ev_s n273_214 rfl rfl
theorem n273_215 : mx_ins 273 215 = some ((.iload_n 3), 1) := mx_ins_of mi273 dL_law_215 rfl
theorem u273_215 : ev d 273 215 lo st h = evS (mx_ldI 3) d 273 216 lo st h := ev_s n273_215 rfl rfl
theorem n273_216 : mx_ins 273 216 = some ((.iconst 2), 1) := mx_ins_of mi273 dL_law_216 rfl
theorem u273_216 : ev d 273 216 lo st h = ev d 273 217 lo (.int 2 :: st) h := (ev_s (f := mx_push (.int 2)) n273_216 rfl rfl).trans es_push
theorem n273_217 : mx_ins 273 217 = some (.iadd, 1) := mx_ins_of mi273 dL_law_217 rfl
theorem u273_217 : ev d 273 217 lo st h = evI d 273 217 218 lo st h .iadd := ev_u n273_217 rfl
theorem n273_218 : mx_ins 273 218 = some (.iaload, 1) := mx_ins_of mi273 dL_law_218 rfl
theorem u273_218 : ev d 273 218 lo st h = evI d 273 218 219 lo st h .iaload := ev_u n273_218 rfl
theorem n273_219 : mx_ins 273 219 = some (.i2l, 1) := mx_ins_of mi273 dL_law_219 rfl
theorem u273_219 : ev d 273 219 lo st h = evI d 273 219 220 lo st h .i2l := ev_u n273_219 rfl
theorem n273_220 : mx_ins 273 220 = some ((.ldc2_w 13), 3) := mx_ins_of mi273 dL_law_220 rfl
theorem u273_220 : ev d 273 220 lo st h = ev d 273 223 lo (.long 4294967295 :: st) h := (ev_s (f := mx_push (.long 4294967295)) n273_220 rfl rfl).trans es_push
theorem n273_223 : mx_ins 273 223 = some (.land, 1) := mx_ins_of mi273 dL_law_223 rfl
theorem u273_223 : ev d 273 223 lo st h = evI d 273 223 224 lo st h .land := ev_u n273_223 rfl
theorem n273_224 : mx_ins 273 224 = some (.lor, 1) := mx_ins_of mi273 dL_law_224 rfl
theorem u273_224 : ev d 273 224 lo st h = evI d 273 224 225 lo st h .lor := ev_u n273_224 rfl
theorem n273_225 : mx_ins 273 225 = some ((.aload_n 0), 1) := mx_ins_of mi273 dL_law_225 rfl
theorem u273_225 : ev d 273 225 lo st h = evS (mx_ldA 0) d 273 226 lo st h := ev_s n273_225 rfl rfl
theorem n273_226 : mx_ins 273 226 = some ((.iload_n 3), 1) := mx_ins_of mi273 dL_law_226 rfl
theorem u273_226 : ev d 273 226 lo st h = evS (mx_ldI 3) d 273 227 lo st h := ev_s n273_226 rfl rfl
theorem n273_227 : mx_ins 273 227 = some ((.iconst 3), 1) := mx_ins_of mi273 dL_law_227 rfl
theorem u273_227 : ev d 273 227 lo st h = ev d 273 228 lo (.int 3 :: st) h := (ev_s (f := mx_push (.int 3)) n273_227 rfl rfl).trans es_push
theorem n273_228 : mx_ins 273 228 = some (.iadd, 1) := mx_ins_of mi273 dL_law_228 rfl
theorem u273_228 : ev d 273 228 lo st h = evI d 273 228 229 lo st h .iadd := ev_u n273_228 rfl
theorem n273_229 : mx_ins 273 229 = some (.iaload, 1) := mx_ins_of mi273 dL_law_229 rfl
theorem u273_229 : ev d 273 229 lo st h = evI d 273 229 230 lo st h .iaload := ev_u n273_229 rfl
theorem n273_230 : mx_ins 273 230 = some ((.invokevirtual 15), 3) := mx_ins_of mi273 dL_law_230 rfl
theorem u273_230 : ev d 273 230 lo st h = evIn d 273 230 233 37 15 3 false lo st h := ev_inv n273_230 rfl rfl ow273 ia37_15
theorem n273_233 : mx_ins 273 233 = some ((.aload_n 2), 1) := mx_ins_of mi273 dL_law_233 rfl
theorem u273_233 : ev d 273 233 lo st h = evS (mx_ldA 2) d 273 234 lo st h := ev_s n273_233 rfl rfl
theorem n273_234 : mx_ins 273 234 = some ((.aload_n 0), 1) := mx_ins_of mi273 dL_law_234 rfl
theorem u273_234 : ev d 273 234 lo st h = evS (mx_ldA 0) d 273 235 lo st h := ev_s n273_234 rfl rfl
theorem n273_235 : mx_ins 273 235 = some ((.iload_n 3), 1) := mx_ins_of mi273 dL_law_235 rfl
theorem u273_235 : ev d 273 235 lo st h = evS (mx_ldI 3) d 273 236 lo st h := ev_s n273_235 rfl rfl
theorem n273_236 : mx_ins 273 236 = some ((.iconst 1), 1) := mx_ins_of mi273 dL_law_236 rfl
theorem u273_236 : ev d 273 236 lo st h = ev d 273 237 lo (.int 1 :: st) h := (ev_s (f := mx_push (.int 1)) n273_236 rfl rfl).trans es_push
theorem n273_237 : mx_ins 273 237 = some (.iadd, 1) := mx_ins_of mi273 dL_law_237 rfl
theorem u273_237 : ev d 273 237 lo st h = evI d 273 237 238 lo st h .iadd := ev_u n273_237 rfl
theorem n273_238 : mx_ins 273 238 = some (.iaload, 1) := mx_ins_of mi273 dL_law_238 rfl
theorem u273_238 : ev d 273 238 lo st h = evI d 273 238 239 lo st h .iaload := ev_u n273_238 rfl
theorem n273_239 : mx_ins 273 239 = some (.i2l, 1) := mx_ins_of mi273 dL_law_239 rfl
theorem u273_239 : ev d 273 239 lo st h = evI d 273 239 240 lo st h .i2l := ev_u n273_239 rfl
theorem n273_240 : mx_ins 273 240 = some ((.bipush 32), 2) := mx_ins_of mi273 dL_law_240 rfl
theorem u273_240 : ev d 273 240 lo st h = ev d 273 242 lo (.int 32 :: st) h := (ev_s (f := mx_push (.int 32)) n273_240 rfl rfl).trans es_push
theorem n273_242 : mx_ins 273 242 = some (.lshl, 1) := mx_ins_of mi273 dL_law_242 rfl
theorem u273_242 : ev d 273 242 lo st h = evI d 273 242 243 lo st h .lshl := ev_u n273_242 rfl
theorem n273_243 : mx_ins 273 243 = some ((.aload_n 0), 1) := mx_ins_of mi273 dL_law_243 rfl
theorem u273_243 : ev d 273 243 lo st h = evS (mx_ldA 0) d 273 244 lo st h := ev_s n273_243 rfl rfl
theorem n273_244 : mx_ins 273 244 = some ((.iload_n 3), 1) := mx_ins_of mi273 dL_law_244 rfl
theorem u273_244 : ev d 273 244 lo st h = evS (mx_ldI 3) d 273 245 lo st h := ev_s n273_244 rfl rfl
theorem n273_245 : mx_ins 273 245 = some ((.iconst 2), 1) := mx_ins_of mi273 dL_law_245 rfl
theorem u273_245 : ev d 273 245 lo st h = ev d 273 246 lo (.int 2 :: st) h := (ev_s (f := mx_push (.int 2)) n273_245 rfl rfl).trans es_push
theorem n273_246 : mx_ins 273 246 = some (.iadd, 1) := mx_ins_of mi273 dL_law_246 rfl
theorem u273_246 : ev d 273 246 lo st h = evI d 273 246 247 lo st h .iadd := ev_u n273_246 rfl
theorem n273_247 : mx_ins 273 247 = some (.iaload, 1) := mx_ins_of mi273 dL_law_247 rfl
theorem u273_247 : ev d 273 247 lo st h = evI d 273 247 248 lo st h .iaload := ev_u n273_247 rfl
theorem n273_248 : mx_ins 273 248 = some (.i2l, 1) := mx_ins_of mi273 dL_law_248 rfl
theorem u273_248 : ev d 273 248 lo st h = evI d 273 248 249 lo st h .i2l := ev_u n273_248 rfl
theorem n273_249 : mx_ins 273 249 = some ((.ldc2_w 13), 3) := mx_ins_of mi273 dL_law_249 rfl
theorem u273_249 : ev d 273 249 lo st h = ev d 273 252 lo (.long 4294967295 :: st) h := (ev_s (f := mx_push (.long 4294967295)) n273_249 rfl rfl).trans es_push
theorem n273_252 : mx_ins 273 252 = some (.land, 1) := mx_ins_of mi273 dL_law_252 rfl
theorem u273_252 : ev d 273 252 lo st h = evI d 273 252 253 lo st h .land := ev_u n273_252 rfl
theorem n273_253 : mx_ins 273 253 = some (.lor, 1) := mx_ins_of mi273 dL_law_253 rfl
theorem u273_253 : ev d 273 253 lo st h = evI d 273 253 254 lo st h .lor := ev_u n273_253 rfl
theorem n273_254 : mx_ins 273 254 = some ((.aload_n 0), 1) := mx_ins_of mi273 dL_law_254 rfl
theorem u273_254 : ev d 273 254 lo st h = evS (mx_ldA 0) d 273 255 lo st h := ev_s n273_254 rfl rfl
theorem n273_255 : mx_ins 273 255 = some ((.iload_n 3), 1) := mx_ins_of mi273 dL_law_255 rfl
theorem u273_255 : ev d 273 255 lo st h = evS (mx_ldI 3) d 273 256 lo st h := ev_s n273_255 rfl rfl
theorem n273_256 : mx_ins 273 256 = some ((.iconst 3), 1) := mx_ins_of mi273 dL_law_256 rfl
theorem u273_256 : ev d 273 256 lo st h = ev d 273 257 lo (.int 3 :: st) h := (ev_s (f := mx_push (.int 3)) n273_256 rfl rfl).trans es_push
theorem n273_257 : mx_ins 273 257 = some (.iadd, 1) := mx_ins_of mi273 dL_law_257 rfl
theorem u273_257 : ev d 273 257 lo st h = evI d 273 257 258 lo st h .iadd := ev_u n273_257 rfl
theorem n273_258 : mx_ins 273 258 = some (.iaload, 1) := mx_ins_of mi273 dL_law_258 rfl
theorem u273_258 : ev d 273 258 lo st h = evI d 273 258 259 lo st h .iaload := ev_u n273_258 rfl
theorem n273_259 : mx_ins 273 259 = some ((.invokevirtual 19), 3) := mx_ins_of mi273 dL_law_259 rfl
theorem u273_259 : ev d 273 259 lo st h = evIn d 273 259 262 37 19 3 false lo st h := ev_inv n273_259 rfl rfl ow273 ia37_19
theorem n273_262 : mx_ins 273 262 = some ((.if_icmp .eq 1079), 3) := mx_ins_of mi273 dL_law_262 rfl
theorem u273_262 : ev d 273 262 lo st h = evK .eq d 273 1341 265 lo st h := ev_ic n273_262 rfl rfl
theorem n273_265 : mx_ins 273 265 = some ((.iconst 0), 1) := mx_ins_of mi273 dL_law_265 rfl
theorem u273_265 : ev d 273 265 lo st h = ev d 273 266 lo (.int 0 :: st) h := (ev_s (f := mx_push (.int 0)) n273_265 rfl rfl).trans es_push
theorem n273_266 : mx_ins 273 266 = some (.ireturn, 1) := mx_ins_of mi273 dL_law_266 rfl
theorem u273_266 : ev d 273 266 lo st h = evI d 273 266 267 lo st h .ireturn := ev_u n273_266 rfl
theorem n273_267 : mx_ins 273 267 = some ((.aload_n 1), 1) := mx_ins_of mi273 dL_law_267 rfl
theorem u273_267 : ev d 273 267 lo st h = evS (mx_ldA 1) d 273 268 lo st h := ev_s n273_267 rfl rfl
theorem n273_268 : mx_ins 273 268 = some ((.invokevirtual 20), 3) := mx_ins_of mi273 dL_law_268 rfl
theorem u273_268 : ev d 273 268 lo st h = evIn d 273 268 271 37 20 1 false lo st h := ev_inv n273_268 rfl rfl ow273 ia37_20
theorem n273_271 : mx_ins 273 271 = some ((.aload_n 2), 1) := mx_ins_of mi273 dL_law_271 rfl
theorem u273_271 : ev d 273 271 lo st h = evS (mx_ldA 2) d 273 272 lo st h := ev_s n273_271 rfl rfl
theorem n273_272 : mx_ins 273 272 = some ((.invokevirtual 24), 3) := mx_ins_of mi273 dL_law_272 rfl
theorem u273_272 : ev d 273 272 lo st h = evIn d 273 272 275 37 24 1 false lo st h := ev_inv n273_272 rfl rfl ow273 ia37_24
theorem n273_275 : mx_ins 273 275 = some ((.if_icmp .eq 1066), 3) := mx_ins_of mi273 dL_law_275 rfl
theorem u273_275 : ev d 273 275 lo st h = evK .eq d 273 1341 278 lo st h := ev_ic n273_275 rfl rfl
theorem n273_278 : mx_ins 273 278 = some ((.iconst 0), 1) := mx_ins_of mi273 dL_law_278 rfl
theorem u273_278 : ev d 273 278 lo st h = ev d 273 279 lo (.int 0 :: st) h := (ev_s (f := mx_push (.int 0)) n273_278 rfl rfl).trans es_push
theorem n273_279 : mx_ins 273 279 = some (.ireturn, 1) := mx_ins_of mi273 dL_law_279 rfl
theorem u273_279 : ev d 273 279 lo st h = evI d 273 279 280 lo st h .ireturn := ev_u n273_279 rfl
theorem n273_280 : mx_ins 273 280 = some ((.aload_n 1), 1) := mx_ins_of mi273 dL_law_280 rfl
theorem u273_280 : ev d 273 280 lo st h = evS (mx_ldA 1) d 273 281 lo st h := ev_s n273_280 rfl rfl
theorem n273_281 : mx_ins 273 281 = some ((.aload_n 0), 1) := mx_ins_of mi273 dL_law_281 rfl
theorem u273_281 : ev d 273 281 lo st h = evS (mx_ldA 0) d 273 282 lo st h := ev_s n273_281 rfl rfl
theorem n273_282 : mx_ins 273 282 = some ((.iload_n 3), 1) := mx_ins_of mi273 dL_law_282 rfl
theorem u273_282 : ev d 273 282 lo st h = evS (mx_ldI 3) d 273 283 lo st h := ev_s n273_282 rfl rfl
theorem n273_283 : mx_ins 273 283 = some ((.iconst 1), 1) := mx_ins_of mi273 dL_law_283 rfl
theorem u273_283 : ev d 273 283 lo st h = ev d 273 284 lo (.int 1 :: st) h := (ev_s (f := mx_push (.int 1)) n273_283 rfl rfl).trans es_push
theorem n273_284 : mx_ins 273 284 = some (.iadd, 1) := mx_ins_of mi273 dL_law_284 rfl
theorem u273_284 : ev d 273 284 lo st h = evI d 273 284 285 lo st h .iadd := ev_u n273_284 rfl
theorem n273_285 : mx_ins 273 285 = some (.iaload, 1) := mx_ins_of mi273 dL_law_285 rfl
theorem u273_285 : ev d 273 285 lo st h = evI d 273 285 286 lo st h .iaload := ev_u n273_285 rfl
theorem n273_286 : mx_ins 273 286 = some ((.aload_n 0), 1) := mx_ins_of mi273 dL_law_286 rfl
theorem u273_286 : ev d 273 286 lo st h = evS (mx_ldA 0) d 273 287 lo st h := ev_s n273_286 rfl rfl
theorem n273_287 : mx_ins 273 287 = some ((.iload_n 3), 1) := mx_ins_of mi273 dL_law_287 rfl
theorem u273_287 : ev d 273 287 lo st h = evS (mx_ldI 3) d 273 288 lo st h := ev_s n273_287 rfl rfl
theorem n273_288 : mx_ins 273 288 = some ((.iconst 2), 1) := mx_ins_of mi273 dL_law_288 rfl
theorem u273_288 : ev d 273 288 lo st h = ev d 273 289 lo (.int 2 :: st) h := (ev_s (f := mx_push (.int 2)) n273_288 rfl rfl).trans es_push
theorem n273_289 : mx_ins 273 289 = some (.iadd, 1) := mx_ins_of mi273 dL_law_289 rfl
theorem u273_289 : ev d 273 289 lo st h = evI d 273 289 290 lo st h .iadd := ev_u n273_289 rfl
theorem n273_290 : mx_ins 273 290 = some (.iaload, 1) := mx_ins_of mi273 dL_law_290 rfl
theorem u273_290 : ev d 273 290 lo st h = evI d 273 290 291 lo st h .iaload := ev_u n273_290 rfl
theorem n273_291 : mx_ins 273 291 = some ((.invokevirtual 25), 3) := mx_ins_of mi273 dL_law_291 rfl
theorem u273_291 : ev d 273 291 lo st h = evIn d 273 291 294 37 25 3 false lo st h := ev_inv n273_291 rfl rfl ow273 ia37_25
theorem n273_294 : mx_ins 273 294 = some ((.aload_n 2), 1) := mx_ins_of mi273 dL_law_294 rfl
theorem u273_294 : ev d 273 294 lo st h = evS (mx_ldA 2) d 273 295 lo st h := ev_s n273_294 rfl rfl
theorem n273_295 : mx_ins 273 295 = some ((.aload_n 0), 1) := mx_ins_of mi273 dL_law_295 rfl
theorem u273_295 : ev d 273 295 lo st h = evS (mx_ldA 0) d 273 296 lo st h := ev_s n273_295 rfl rfl
theorem n273_296 : mx_ins 273 296 = some ((.iload_n 3), 1) := mx_ins_of mi273 dL_law_296 rfl
theorem u273_296 : ev d 273 296 lo st h = evS (mx_ldI 3) d 273 297 lo st h := ev_s n273_296 rfl rfl
theorem n273_297 : mx_ins 273 297 = some ((.iconst 1), 1) := mx_ins_of mi273 dL_law_297 rfl
theorem u273_297 : ev d 273 297 lo st h = ev d 273 298 lo (.int 1 :: st) h := (ev_s (f := mx_push (.int 1)) n273_297 rfl rfl).trans es_push
theorem n273_298 : mx_ins 273 298 = some (.iadd, 1) := mx_ins_of mi273 dL_law_298 rfl
theorem u273_298 : ev d 273 298 lo st h = evI d 273 298 299 lo st h .iadd := ev_u n273_298 rfl
theorem n273_299 : mx_ins 273 299 = some (.iaload, 1) := mx_ins_of mi273 dL_law_299 rfl
theorem u273_299 : ev d 273 299 lo st h = evI d 273 299 300 lo st h .iaload := ev_u n273_299 rfl
theorem n273_300 : mx_ins 273 300 = some ((.aload_n 0), 1) := mx_ins_of mi273 dL_law_300 rfl
theorem u273_300 : ev d 273 300 lo st h = evS (mx_ldA 0) d 273 301 lo st h := ev_s n273_300 rfl rfl
theorem n273_301 : mx_ins 273 301 = some ((.iload_n 3), 1) := mx_ins_of mi273 dL_law_301 rfl
theorem u273_301 : ev d 273 301 lo st h = evS (mx_ldI 3) d 273 302 lo st h := ev_s n273_301 rfl rfl
theorem n273_302 : mx_ins 273 302 = some ((.iconst 2), 1) := mx_ins_of mi273 dL_law_302 rfl
theorem u273_302 : ev d 273 302 lo st h = ev d 273 303 lo (.int 2 :: st) h := (ev_s (f := mx_push (.int 2)) n273_302 rfl rfl).trans es_push
theorem n273_303 : mx_ins 273 303 = some (.iadd, 1) := mx_ins_of mi273 dL_law_303 rfl
theorem u273_303 : ev d 273 303 lo st h = evI d 273 303 304 lo st h .iadd := ev_u n273_303 rfl
theorem n273_304 : mx_ins 273 304 = some (.iaload, 1) := mx_ins_of mi273 dL_law_304 rfl
theorem u273_304 : ev d 273 304 lo st h = evI d 273 304 305 lo st h .iaload := ev_u n273_304 rfl
theorem n273_305 : mx_ins 273 305 = some ((.invokevirtual 29), 3) := mx_ins_of mi273 dL_law_305 rfl
theorem u273_305 : ev d 273 305 lo st h = evIn d 273 305 308 37 29 3 false lo st h := ev_inv n273_305 rfl rfl ow273 ia37_29
theorem n273_308 : mx_ins 273 308 = some ((.if_icmp .eq 1033), 3) := mx_ins_of mi273 dL_law_308 rfl
theorem u273_308 : ev d 273 308 lo st h = evK .eq d 273 1341 311 lo st h := ev_ic n273_308 rfl rfl
theorem n273_311 : mx_ins 273 311 = some ((.iconst 0), 1) := mx_ins_of mi273 dL_law_311 rfl
theorem u273_311 : ev d 273 311 lo st h = ev d 273 312 lo (.int 0 :: st) h := (ev_s (f := mx_push (.int 0)) n273_311 rfl rfl).trans es_push
theorem n273_312 : mx_ins 273 312 = some (.ireturn, 1) := mx_ins_of mi273 dL_law_312 rfl
theorem u273_312 : ev d 273 312 lo st h = evI d 273 312 313 lo st h .ireturn := ev_u n273_312 rfl
theorem n273_313 : mx_ins 273 313 = some ((.aload_n 1), 1) := mx_ins_of mi273 dL_law_313 rfl
theorem u273_313 : ev d 273 313 lo st h = evS (mx_ldA 1) d 273 314 lo st h := ev_s n273_313 rfl rfl
theorem n273_314 : mx_ins 273 314 = some ((.aload_n 0), 1) := mx_ins_of mi273 dL_law_314 rfl
theorem u273_314 : ev d 273 314 lo st h = evS (mx_ldA 0) d 273 315 lo st h := ev_s n273_314 rfl rfl
theorem n273_315 : mx_ins 273 315 = some ((.iload_n 3), 1) := mx_ins_of mi273 dL_law_315 rfl
theorem u273_315 : ev d 273 315 lo st h = evS (mx_ldI 3) d 273 316 lo st h := ev_s n273_315 rfl rfl
theorem n273_316 : mx_ins 273 316 = some ((.iconst 1), 1) := mx_ins_of mi273 dL_law_316 rfl
theorem u273_316 : ev d 273 316 lo st h = ev d 273 317 lo (.int 1 :: st) h := (ev_s (f := mx_push (.int 1)) n273_316 rfl rfl).trans es_push
theorem n273_317 : mx_ins 273 317 = some (.iadd, 1) := mx_ins_of mi273 dL_law_317 rfl
theorem u273_317 : ev d 273 317 lo st h = evI d 273 317 318 lo st h .iadd := ev_u n273_317 rfl
theorem n273_318 : mx_ins 273 318 = some (.iaload, 1) := mx_ins_of mi273 dL_law_318 rfl
theorem u273_318 : ev d 273 318 lo st h = evI d 273 318 319 lo st h .iaload := ev_u n273_318 rfl
theorem n273_319 : mx_ins 273 319 = some ((.aload_n 0), 1) := mx_ins_of mi273 dL_law_319 rfl
theorem u273_319 : ev d 273 319 lo st h = evS (mx_ldA 0) d 273 320 lo st h := ev_s n273_319 rfl rfl
theorem n273_320 : mx_ins 273 320 = some ((.iload_n 3), 1) := mx_ins_of mi273 dL_law_320 rfl
theorem u273_320 : ev d 273 320 lo st h = evS (mx_ldI 3) d 273 321 lo st h := ev_s n273_320 rfl rfl
theorem n273_321 : mx_ins 273 321 = some ((.iconst 2), 1) := mx_ins_of mi273 dL_law_321 rfl
theorem u273_321 : ev d 273 321 lo st h = ev d 273 322 lo (.int 2 :: st) h := (ev_s (f := mx_push (.int 2)) n273_321 rfl rfl).trans es_push
theorem n273_322 : mx_ins 273 322 = some (.iadd, 1) := mx_ins_of mi273 dL_law_322 rfl
theorem u273_322 : ev d 273 322 lo st h = evI d 273 322 323 lo st h .iadd := ev_u n273_322 rfl
theorem n273_323 : mx_ins 273 323 = some (.iaload, 1) := mx_ins_of mi273 dL_law_323 rfl
theorem u273_323 : ev d 273 323 lo st h = evI d 273 323 324 lo st h .iaload := ev_u n273_323 rfl
theorem n273_324 : mx_ins 273 324 = some ((.invokevirtual 30), 3) := mx_ins_of mi273 dL_law_324 rfl
theorem u273_324 : ev d 273 324 lo st h = evIn d 273 324 327 37 30 3 false lo st h := ev_inv n273_324 rfl rfl ow273 ia37_30
theorem n273_327 : mx_ins 273 327 = some ((.aload_n 2), 1) := mx_ins_of mi273 dL_law_327 rfl
theorem u273_327 : ev d 273 327 lo st h = evS (mx_ldA 2) d 273 328 lo st h := ev_s n273_327 rfl rfl
theorem n273_328 : mx_ins 273 328 = some ((.aload_n 0), 1) := mx_ins_of mi273 dL_law_328 rfl
theorem u273_328 : ev d 273 328 lo st h = evS (mx_ldA 0) d 273 329 lo st h := ev_s n273_328 rfl rfl
theorem n273_329 : mx_ins 273 329 = some ((.iload_n 3), 1) := mx_ins_of mi273 dL_law_329 rfl
theorem u273_329 : ev d 273 329 lo st h = evS (mx_ldI 3) d 273 330 lo st h := ev_s n273_329 rfl rfl
theorem n273_330 : mx_ins 273 330 = some ((.iconst 1), 1) := mx_ins_of mi273 dL_law_330 rfl
theorem u273_330 : ev d 273 330 lo st h = ev d 273 331 lo (.int 1 :: st) h := (ev_s (f := mx_push (.int 1)) n273_330 rfl rfl).trans es_push
theorem n273_331 : mx_ins 273 331 = some (.iadd, 1) := mx_ins_of mi273 dL_law_331 rfl
theorem u273_331 : ev d 273 331 lo st h = evI d 273 331 332 lo st h .iadd := ev_u n273_331 rfl
theorem n273_332 : mx_ins 273 332 = some (.iaload, 1) := mx_ins_of mi273 dL_law_332 rfl
theorem u273_332 : ev d 273 332 lo st h = evI d 273 332 333 lo st h .iaload := ev_u n273_332 rfl
theorem n273_333 : mx_ins 273 333 = some ((.aload_n 0), 1) := mx_ins_of mi273 dL_law_333 rfl
theorem u273_333 : ev d 273 333 lo st h = evS (mx_ldA 0) d 273 334 lo st h := ev_s n273_333 rfl rfl
theorem n273_334 : mx_ins 273 334 = some ((.iload_n 3), 1) := mx_ins_of mi273 dL_law_334 rfl
theorem u273_334 : ev d 273 334 lo st h = evS (mx_ldI 3) d 273 335 lo st h := ev_s n273_334 rfl rfl
theorem n273_335 : mx_ins 273 335 = some ((.iconst 2), 1) := mx_ins_of mi273 dL_law_335 rfl
theorem u273_335 : ev d 273 335 lo st h = ev d 273 336 lo (.int 2 :: st) h := (ev_s (f := mx_push (.int 2)) n273_335 rfl rfl).trans es_push
theorem n273_336 : mx_ins 273 336 = some (.iadd, 1) := mx_ins_of mi273 dL_law_336 rfl
theorem u273_336 : ev d 273 336 lo st h = evI d 273 336 337 lo st h .iadd := ev_u n273_336 rfl
theorem n273_337 : mx_ins 273 337 = some (.iaload, 1) := mx_ins_of mi273 dL_law_337 rfl
theorem u273_337 : ev d 273 337 lo st h = evI d 273 337 338 lo st h .iaload := ev_u n273_337 rfl
theorem n273_338 : mx_ins 273 338 = some ((.invokevirtual 33), 3) := mx_ins_of mi273 dL_law_338 rfl
theorem u273_338 : ev d 273 338 lo st h = evIn d 273 338 341 37 33 3 false lo st h := ev_inv n273_338 rfl rfl ow273 ia37_33
theorem n273_341 : mx_ins 273 341 = some ((.if_icmp .eq 1000), 3) := mx_ins_of mi273 dL_law_341 rfl
theorem u273_341 : ev d 273 341 lo st h = evK .eq d 273 1341 344 lo st h := ev_ic n273_341 rfl rfl
theorem n273_344 : mx_ins 273 344 = some ((.iconst 0), 1) := mx_ins_of mi273 dL_law_344 rfl
theorem u273_344 : ev d 273 344 lo st h = ev d 273 345 lo (.int 0 :: st) h := (ev_s (f := mx_push (.int 0)) n273_344 rfl rfl).trans es_push
theorem n273_345 : mx_ins 273 345 = some (.ireturn, 1) := mx_ins_of mi273 dL_law_345 rfl
theorem u273_345 : ev d 273 345 lo st h = evI d 273 345 346 lo st h .ireturn := ev_u n273_345 rfl
theorem n273_346 : mx_ins 273 346 = some ((.aload_n 1), 1) := mx_ins_of mi273 dL_law_346 rfl
theorem u273_346 : ev d 273 346 lo st h = evS (mx_ldA 1) d 273 347 lo st h := ev_s n273_346 rfl rfl
theorem n273_347 : mx_ins 273 347 = some ((.aload_n 0), 1) := mx_ins_of mi273 dL_law_347 rfl
theorem u273_347 : ev d 273 347 lo st h = evS (mx_ldA 0) d 273 348 lo st h := ev_s n273_347 rfl rfl
theorem n273_348 : mx_ins 273 348 = some ((.iload_n 3), 1) := mx_ins_of mi273 dL_law_348 rfl
theorem u273_348 : ev d 273 348 lo st h = evS (mx_ldI 3) d 273 349 lo st h := ev_s n273_348 rfl rfl
theorem n273_349 : mx_ins 273 349 = some ((.iconst 1), 1) := mx_ins_of mi273 dL_law_349 rfl
theorem u273_349 : ev d 273 349 lo st h = ev d 273 350 lo (.int 1 :: st) h := (ev_s (f := mx_push (.int 1)) n273_349 rfl rfl).trans es_push
theorem n273_350 : mx_ins 273 350 = some (.iadd, 1) := mx_ins_of mi273 dL_law_350 rfl
theorem u273_350 : ev d 273 350 lo st h = evI d 273 350 351 lo st h .iadd := ev_u n273_350 rfl
theorem n273_351 : mx_ins 273 351 = some (.iaload, 1) := mx_ins_of mi273 dL_law_351 rfl
theorem u273_351 : ev d 273 351 lo st h = evI d 273 351 352 lo st h .iaload := ev_u n273_351 rfl
theorem n273_352 : mx_ins 273 352 = some ((.aload_n 0), 1) := mx_ins_of mi273 dL_law_352 rfl
theorem u273_352 : ev d 273 352 lo st h = evS (mx_ldA 0) d 273 353 lo st h := ev_s n273_352 rfl rfl
theorem n273_353 : mx_ins 273 353 = some ((.iload_n 3), 1) := mx_ins_of mi273 dL_law_353 rfl
theorem u273_353 : ev d 273 353 lo st h = evS (mx_ldI 3) d 273 354 lo st h := ev_s n273_353 rfl rfl
theorem n273_354 : mx_ins 273 354 = some ((.iconst 2), 1) := mx_ins_of mi273 dL_law_354 rfl
theorem u273_354 : ev d 273 354 lo st h = ev d 273 355 lo (.int 2 :: st) h := (ev_s (f := mx_push (.int 2)) n273_354 rfl rfl).trans es_push
theorem n273_355 : mx_ins 273 355 = some (.iadd, 1) := mx_ins_of mi273 dL_law_355 rfl
theorem u273_355 : ev d 273 355 lo st h = evI d 273 355 356 lo st h .iadd := ev_u n273_355 rfl
theorem n273_356 : mx_ins 273 356 = some (.iaload, 1) := mx_ins_of mi273 dL_law_356 rfl
theorem u273_356 : ev d 273 356 lo st h = evI d 273 356 357 lo st h .iaload := ev_u n273_356 rfl
theorem n273_357 : mx_ins 273 357 = some ((.aload_n 0), 1) := mx_ins_of mi273 dL_law_357 rfl
theorem u273_357 : ev d 273 357 lo st h = evS (mx_ldA 0) d 273 358 lo st h := ev_s n273_357 rfl rfl
theorem n273_358 : mx_ins 273 358 = some ((.iload_n 3), 1) := mx_ins_of mi273 dL_law_358 rfl
theorem u273_358 : ev d 273 358 lo st h = evS (mx_ldI 3) d 273 359 lo st h := ev_s n273_358 rfl rfl
theorem n273_359 : mx_ins 273 359 = some ((.iconst 3), 1) := mx_ins_of mi273 dL_law_359 rfl
theorem u273_359 : ev d 273 359 lo st h = ev d 273 360 lo (.int 3 :: st) h := (ev_s (f := mx_push (.int 3)) n273_359 rfl rfl).trans es_push
theorem n273_360 : mx_ins 273 360 = some (.iadd, 1) := mx_ins_of mi273 dL_law_360 rfl
theorem u273_360 : ev d 273 360 lo st h = evI d 273 360 361 lo st h .iadd := ev_u n273_360 rfl
theorem n273_361 : mx_ins 273 361 = some (.iaload, 1) := mx_ins_of mi273 dL_law_361 rfl
theorem u273_361 : ev d 273 361 lo st h = evI d 273 361 362 lo st h .iaload := ev_u n273_361 rfl
theorem n273_362 : mx_ins 273 362 = some ((.invokevirtual 34), 3) := mx_ins_of mi273 dL_law_362 rfl
theorem u273_362 : ev d 273 362 lo st h = evIn d 273 362 365 37 34 4 false lo st h := ev_inv n273_362 rfl rfl ow273 ia37_34
theorem n273_365 : mx_ins 273 365 = some ((.aload_n 2), 1) := mx_ins_of mi273 dL_law_365 rfl
theorem u273_365 : ev d 273 365 lo st h = evS (mx_ldA 2) d 273 366 lo st h := ev_s n273_365 rfl rfl
theorem n273_366 : mx_ins 273 366 = some ((.aload_n 0), 1) := mx_ins_of mi273 dL_law_366 rfl
theorem u273_366 : ev d 273 366 lo st h = evS (mx_ldA 0) d 273 367 lo st h := ev_s n273_366 rfl rfl
theorem n273_367 : mx_ins 273 367 = some ((.iload_n 3), 1) := mx_ins_of mi273 dL_law_367 rfl
theorem u273_367 : ev d 273 367 lo st h = evS (mx_ldI 3) d 273 368 lo st h := ev_s n273_367 rfl rfl
theorem n273_368 : mx_ins 273 368 = some ((.iconst 1), 1) := mx_ins_of mi273 dL_law_368 rfl
theorem u273_368 : ev d 273 368 lo st h = ev d 273 369 lo (.int 1 :: st) h := (ev_s (f := mx_push (.int 1)) n273_368 rfl rfl).trans es_push
theorem n273_369 : mx_ins 273 369 = some (.iadd, 1) := mx_ins_of mi273 dL_law_369 rfl
theorem u273_369 : ev d 273 369 lo st h = evI d 273 369 370 lo st h .iadd := ev_u n273_369 rfl
theorem n273_370 : mx_ins 273 370 = some (.iaload, 1) := mx_ins_of mi273 dL_law_370 rfl
theorem u273_370 : ev d 273 370 lo st h = evI d 273 370 371 lo st h .iaload := ev_u n273_370 rfl
theorem n273_371 : mx_ins 273 371 = some ((.aload_n 0), 1) := mx_ins_of mi273 dL_law_371 rfl
theorem u273_371 : ev d 273 371 lo st h = evS (mx_ldA 0) d 273 372 lo st h := ev_s n273_371 rfl rfl
theorem n273_372 : mx_ins 273 372 = some ((.iload_n 3), 1) := mx_ins_of mi273 dL_law_372 rfl
theorem u273_372 : ev d 273 372 lo st h = evS (mx_ldI 3) d 273 373 lo st h := ev_s n273_372 rfl rfl
theorem n273_373 : mx_ins 273 373 = some ((.iconst 2), 1) := mx_ins_of mi273 dL_law_373 rfl
theorem u273_373 : ev d 273 373 lo st h = ev d 273 374 lo (.int 2 :: st) h := (ev_s (f := mx_push (.int 2)) n273_373 rfl rfl).trans es_push
theorem n273_374 : mx_ins 273 374 = some (.iadd, 1) := mx_ins_of mi273 dL_law_374 rfl
theorem u273_374 : ev d 273 374 lo st h = evI d 273 374 375 lo st h .iadd := ev_u n273_374 rfl
theorem n273_375 : mx_ins 273 375 = some (.iaload, 1) := mx_ins_of mi273 dL_law_375 rfl
theorem u273_375 : ev d 273 375 lo st h = evI d 273 375 376 lo st h .iaload := ev_u n273_375 rfl
theorem n273_376 : mx_ins 273 376 = some ((.aload_n 0), 1) := mx_ins_of mi273 dL_law_376 rfl
theorem u273_376 : ev d 273 376 lo st h = evS (mx_ldA 0) d 273 377 lo st h := ev_s n273_376 rfl rfl
theorem n273_377 : mx_ins 273 377 = some ((.iload_n 3), 1) := mx_ins_of mi273 dL_law_377 rfl
theorem u273_377 : ev d 273 377 lo st h = evS (mx_ldI 3) d 273 378 lo st h := ev_s n273_377 rfl rfl
theorem n273_378 : mx_ins 273 378 = some ((.iconst 3), 1) := mx_ins_of mi273 dL_law_378 rfl
theorem u273_378 : ev d 273 378 lo st h = ev d 273 379 lo (.int 3 :: st) h := (ev_s (f := mx_push (.int 3)) n273_378 rfl rfl).trans es_push
theorem n273_379 : mx_ins 273 379 = some (.iadd, 1) := mx_ins_of mi273 dL_law_379 rfl
theorem u273_379 : ev d 273 379 lo st h = evI d 273 379 380 lo st h .iadd := ev_u n273_379 rfl
theorem n273_380 : mx_ins 273 380 = some (.iaload, 1) := mx_ins_of mi273 dL_law_380 rfl
theorem u273_380 : ev d 273 380 lo st h = evI d 273 380 381 lo st h .iaload := ev_u n273_380 rfl
theorem n273_381 : mx_ins 273 381 = some ((.invokevirtual 38), 3) := mx_ins_of mi273 dL_law_381 rfl
theorem u273_381 : ev d 273 381 lo st h = evIn d 273 381 384 37 38 4 false lo st h := ev_inv n273_381 rfl rfl ow273 ia37_38
theorem n273_384 : mx_ins 273 384 = some ((.if_icmp .eq 957), 3) := mx_ins_of mi273 dL_law_384 rfl
theorem u273_384 : ev d 273 384 lo st h = evK .eq d 273 1341 387 lo st h := ev_ic n273_384 rfl rfl
theorem n273_387 : mx_ins 273 387 = some ((.iconst 0), 1) := mx_ins_of mi273 dL_law_387 rfl
theorem u273_387 : ev d 273 387 lo st h = ev d 273 388 lo (.int 0 :: st) h := (ev_s (f := mx_push (.int 0)) n273_387 rfl rfl).trans es_push
theorem n273_388 : mx_ins 273 388 = some (.ireturn, 1) := mx_ins_of mi273 dL_law_388 rfl
theorem u273_388 : ev d 273 388 lo st h = evI d 273 388 389 lo st h .ireturn := ev_u n273_388 rfl
theorem n273_389 : mx_ins 273 389 = some ((.aload_n 1), 1) := mx_ins_of mi273 dL_law_389 rfl
theorem u273_389 : ev d 273 389 lo st h = evS (mx_ldA 1) d 273 390 lo st h := ev_s n273_389 rfl rfl
theorem n273_390 : mx_ins 273 390 = some ((.aload_n 0), 1) := mx_ins_of mi273 dL_law_390 rfl
theorem u273_390 : ev d 273 390 lo st h = evS (mx_ldA 0) d 273 391 lo st h := ev_s n273_390 rfl rfl
theorem n273_391 : mx_ins 273 391 = some ((.iload_n 3), 1) := mx_ins_of mi273 dL_law_391 rfl
theorem u273_391 : ev d 273 391 lo st h = evS (mx_ldI 3) d 273 392 lo st h := ev_s n273_391 rfl rfl
theorem n273_392 : mx_ins 273 392 = some ((.iconst 1), 1) := mx_ins_of mi273 dL_law_392 rfl
theorem u273_392 : ev d 273 392 lo st h = ev d 273 393 lo (.int 1 :: st) h := (ev_s (f := mx_push (.int 1)) n273_392 rfl rfl).trans es_push
theorem n273_393 : mx_ins 273 393 = some (.iadd, 1) := mx_ins_of mi273 dL_law_393 rfl
theorem u273_393 : ev d 273 393 lo st h = evI d 273 393 394 lo st h .iadd := ev_u n273_393 rfl
theorem n273_394 : mx_ins 273 394 = some (.iaload, 1) := mx_ins_of mi273 dL_law_394 rfl
theorem u273_394 : ev d 273 394 lo st h = evI d 273 394 395 lo st h .iaload := ev_u n273_394 rfl
theorem n273_395 : mx_ins 273 395 = some ((.aload_n 0), 1) := mx_ins_of mi273 dL_law_395 rfl
theorem u273_395 : ev d 273 395 lo st h = evS (mx_ldA 0) d 273 396 lo st h := ev_s n273_395 rfl rfl
theorem n273_396 : mx_ins 273 396 = some ((.iload_n 3), 1) := mx_ins_of mi273 dL_law_396 rfl
theorem u273_396 : ev d 273 396 lo st h = evS (mx_ldI 3) d 273 397 lo st h := ev_s n273_396 rfl rfl
theorem n273_397 : mx_ins 273 397 = some ((.iconst 2), 1) := mx_ins_of mi273 dL_law_397 rfl
theorem u273_397 : ev d 273 397 lo st h = ev d 273 398 lo (.int 2 :: st) h := (ev_s (f := mx_push (.int 2)) n273_397 rfl rfl).trans es_push
theorem n273_398 : mx_ins 273 398 = some (.iadd, 1) := mx_ins_of mi273 dL_law_398 rfl
theorem u273_398 : ev d 273 398 lo st h = evI d 273 398 399 lo st h .iadd := ev_u n273_398 rfl
theorem n273_399 : mx_ins 273 399 = some (.iaload, 1) := mx_ins_of mi273 dL_law_399 rfl
theorem u273_399 : ev d 273 399 lo st h = evI d 273 399 400 lo st h .iaload := ev_u n273_399 rfl
theorem n273_400 : mx_ins 273 400 = some ((.invokevirtual 39), 3) := mx_ins_of mi273 dL_law_400 rfl
theorem u273_400 : ev d 273 400 lo st h = evIn d 273 400 403 37 39 3 false lo st h := ev_inv n273_400 rfl rfl ow273 ia37_39
theorem n273_403 : mx_ins 273 403 = some ((.aload_n 2), 1) := mx_ins_of mi273 dL_law_403 rfl
theorem u273_403 : ev d 273 403 lo st h = evS (mx_ldA 2) d 273 404 lo st h := ev_s n273_403 rfl rfl
theorem n273_404 : mx_ins 273 404 = some ((.aload_n 0), 1) := mx_ins_of mi273 dL_law_404 rfl
theorem u273_404 : ev d 273 404 lo st h = evS (mx_ldA 0) d 273 405 lo st h := ev_s n273_404 rfl rfl
theorem n273_405 : mx_ins 273 405 = some ((.iload_n 3), 1) := mx_ins_of mi273 dL_law_405 rfl
theorem u273_405 : ev d 273 405 lo st h = evS (mx_ldI 3) d 273 406 lo st h := ev_s n273_405 rfl rfl
theorem n273_406 : mx_ins 273 406 = some ((.iconst 1), 1) := mx_ins_of mi273 dL_law_406 rfl
theorem u273_406 : ev d 273 406 lo st h = ev d 273 407 lo (.int 1 :: st) h := (ev_s (f := mx_push (.int 1)) n273_406 rfl rfl).trans es_push
theorem n273_407 : mx_ins 273 407 = some (.iadd, 1) := mx_ins_of mi273 dL_law_407 rfl
theorem u273_407 : ev d 273 407 lo st h = evI d 273 407 408 lo st h .iadd := ev_u n273_407 rfl
theorem n273_408 : mx_ins 273 408 = some (.iaload, 1) := mx_ins_of mi273 dL_law_408 rfl
theorem u273_408 : ev d 273 408 lo st h = evI d 273 408 409 lo st h .iaload := ev_u n273_408 rfl
theorem n273_409 : mx_ins 273 409 = some ((.aload_n 0), 1) := mx_ins_of mi273 dL_law_409 rfl
theorem u273_409 : ev d 273 409 lo st h = evS (mx_ldA 0) d 273 410 lo st h := ev_s n273_409 rfl rfl
theorem n273_410 : mx_ins 273 410 = some ((.iload_n 3), 1) := mx_ins_of mi273 dL_law_410 rfl
theorem u273_410 : ev d 273 410 lo st h = evS (mx_ldI 3) d 273 411 lo st h := ev_s n273_410 rfl rfl
theorem n273_411 : mx_ins 273 411 = some ((.iconst 2), 1) := mx_ins_of mi273 dL_law_411 rfl
theorem u273_411 : ev d 273 411 lo st h = ev d 273 412 lo (.int 2 :: st) h := (ev_s (f := mx_push (.int 2)) n273_411 rfl rfl).trans es_push
theorem n273_412 : mx_ins 273 412 = some (.iadd, 1) := mx_ins_of mi273 dL_law_412 rfl
theorem u273_412 : ev d 273 412 lo st h = evI d 273 412 413 lo st h .iadd := ev_u n273_412 rfl
theorem n273_413 : mx_ins 273 413 = some (.iaload, 1) := mx_ins_of mi273 dL_law_413 rfl
theorem u273_413 : ev d 273 413 lo st h = evI d 273 413 414 lo st h .iaload := ev_u n273_413 rfl
theorem n273_414 : mx_ins 273 414 = some ((.invokevirtual 42), 3) := mx_ins_of mi273 dL_law_414 rfl
theorem u273_414 : ev d 273 414 lo st h = evIn d 273 414 417 37 42 3 false lo st h := ev_inv n273_414 rfl rfl ow273 ia37_42
theorem n273_417 : mx_ins 273 417 = some ((.if_icmp .eq 924), 3) := mx_ins_of mi273 dL_law_417 rfl
theorem u273_417 : ev d 273 417 lo st h = evK .eq d 273 1341 420 lo st h := ev_ic n273_417 rfl rfl
theorem n273_420 : mx_ins 273 420 = some ((.iconst 0), 1) := mx_ins_of mi273 dL_law_420 rfl
theorem u273_420 : ev d 273 420 lo st h = ev d 273 421 lo (.int 0 :: st) h := (ev_s (f := mx_push (.int 0)) n273_420 rfl rfl).trans es_push
theorem n273_421 : mx_ins 273 421 = some (.ireturn, 1) := mx_ins_of mi273 dL_law_421 rfl
theorem u273_421 : ev d 273 421 lo st h = evI d 273 421 422 lo st h .ireturn := ev_u n273_421 rfl
theorem n273_422 : mx_ins 273 422 = some ((.aload_n 1), 1) := mx_ins_of mi273 dL_law_422 rfl
theorem u273_422 : ev d 273 422 lo st h = evS (mx_ldA 1) d 273 423 lo st h := ev_s n273_422 rfl rfl
theorem n273_423 : mx_ins 273 423 = some ((.aload_n 0), 1) := mx_ins_of mi273 dL_law_423 rfl
theorem u273_423 : ev d 273 423 lo st h = evS (mx_ldA 0) d 273 424 lo st h := ev_s n273_423 rfl rfl
theorem n273_424 : mx_ins 273 424 = some ((.iload_n 3), 1) := mx_ins_of mi273 dL_law_424 rfl
theorem u273_424 : ev d 273 424 lo st h = evS (mx_ldI 3) d 273 425 lo st h := ev_s n273_424 rfl rfl
theorem n273_425 : mx_ins 273 425 = some ((.iconst 1), 1) := mx_ins_of mi273 dL_law_425 rfl
theorem u273_425 : ev d 273 425 lo st h = ev d 273 426 lo (.int 1 :: st) h := (ev_s (f := mx_push (.int 1)) n273_425 rfl rfl).trans es_push
theorem n273_426 : mx_ins 273 426 = some (.iadd, 1) := mx_ins_of mi273 dL_law_426 rfl
theorem u273_426 : ev d 273 426 lo st h = evI d 273 426 427 lo st h .iadd := ev_u n273_426 rfl
theorem n273_427 : mx_ins 273 427 = some (.iaload, 1) := mx_ins_of mi273 dL_law_427 rfl
theorem u273_427 : ev d 273 427 lo st h = evI d 273 427 428 lo st h .iaload := ev_u n273_427 rfl
theorem n273_428 : mx_ins 273 428 = some ((.invokevirtual 43), 3) := mx_ins_of mi273 dL_law_428 rfl
theorem u273_428 : ev d 273 428 lo st h = evIn d 273 428 431 37 43 2 false lo st h := ev_inv n273_428 rfl rfl ow273 ia37_43
theorem n273_431 : mx_ins 273 431 = some ((.aload_n 2), 1) := mx_ins_of mi273 dL_law_431 rfl
theorem u273_431 : ev d 273 431 lo st h = evS (mx_ldA 2) d 273 432 lo st h := ev_s n273_431 rfl rfl
theorem n273_432 : mx_ins 273 432 = some ((.aload_n 0), 1) := mx_ins_of mi273 dL_law_432 rfl
theorem u273_432 : ev d 273 432 lo st h = evS (mx_ldA 0) d 273 433 lo st h := ev_s n273_432 rfl rfl
theorem n273_433 : mx_ins 273 433 = some ((.iload_n 3), 1) := mx_ins_of mi273 dL_law_433 rfl
theorem u273_433 : ev d 273 433 lo st h = evS (mx_ldI 3) d 273 434 lo st h := ev_s n273_433 rfl rfl
theorem n273_434 : mx_ins 273 434 = some ((.iconst 1), 1) := mx_ins_of mi273 dL_law_434 rfl
theorem u273_434 : ev d 273 434 lo st h = ev d 273 435 lo (.int 1 :: st) h := (ev_s (f := mx_push (.int 1)) n273_434 rfl rfl).trans es_push
theorem n273_435 : mx_ins 273 435 = some (.iadd, 1) := mx_ins_of mi273 dL_law_435 rfl
theorem u273_435 : ev d 273 435 lo st h = evI d 273 435 436 lo st h .iadd := ev_u n273_435 rfl
theorem n273_436 : mx_ins 273 436 = some (.iaload, 1) := mx_ins_of mi273 dL_law_436 rfl
theorem u273_436 : ev d 273 436 lo st h = evI d 273 436 437 lo st h .iaload := ev_u n273_436 rfl
theorem n273_437 : mx_ins 273 437 = some ((.invokevirtual 47), 3) := mx_ins_of mi273 dL_law_437 rfl
theorem u273_437 : ev d 273 437 lo st h = evIn d 273 437 440 37 47 2 false lo st h := ev_inv n273_437 rfl rfl ow273 ia37_47
theorem n273_440 : mx_ins 273 440 = some ((.if_icmp .eq 901), 3) := mx_ins_of mi273 dL_law_440 rfl
theorem u273_440 : ev d 273 440 lo st h = evK .eq d 273 1341 443 lo st h := ev_ic n273_440 rfl rfl
theorem n273_443 : mx_ins 273 443 = some ((.iconst 0), 1) := mx_ins_of mi273 dL_law_443 rfl
theorem u273_443 : ev d 273 443 lo st h = ev d 273 444 lo (.int 0 :: st) h := (ev_s (f := mx_push (.int 0)) n273_443 rfl rfl).trans es_push
theorem n273_444 : mx_ins 273 444 = some (.ireturn, 1) := mx_ins_of mi273 dL_law_444 rfl
theorem u273_444 : ev d 273 444 lo st h = evI d 273 444 445 lo st h .ireturn := ev_u n273_444 rfl
theorem n273_445 : mx_ins 273 445 = some ((.aload_n 1), 1) := mx_ins_of mi273 dL_law_445 rfl
theorem u273_445 : ev d 273 445 lo st h = evS (mx_ldA 1) d 273 446 lo st h := ev_s n273_445 rfl rfl
theorem n273_446 : mx_ins 273 446 = some ((.aload_n 0), 1) := mx_ins_of mi273 dL_law_446 rfl
theorem u273_446 : ev d 273 446 lo st h = evS (mx_ldA 0) d 273 447 lo st h := ev_s n273_446 rfl rfl
theorem n273_447 : mx_ins 273 447 = some ((.iload_n 3), 1) := mx_ins_of mi273 dL_law_447 rfl
theorem u273_447 : ev d 273 447 lo st h = evS (mx_ldI 3) d 273 448 lo st h := ev_s n273_447 rfl rfl
theorem n273_448 : mx_ins 273 448 = some ((.iconst 1), 1) := mx_ins_of mi273 dL_law_448 rfl
theorem u273_448 : ev d 273 448 lo st h = ev d 273 449 lo (.int 1 :: st) h := (ev_s (f := mx_push (.int 1)) n273_448 rfl rfl).trans es_push
theorem n273_449 : mx_ins 273 449 = some (.iadd, 1) := mx_ins_of mi273 dL_law_449 rfl
theorem u273_449 : ev d 273 449 lo st h = evI d 273 449 450 lo st h .iadd := ev_u n273_449 rfl
theorem n273_450 : mx_ins 273 450 = some (.iaload, 1) := mx_ins_of mi273 dL_law_450 rfl
theorem u273_450 : ev d 273 450 lo st h = evI d 273 450 451 lo st h .iaload := ev_u n273_450 rfl
theorem n273_451 : mx_ins 273 451 = some ((.aload_n 0), 1) := mx_ins_of mi273 dL_law_451 rfl
theorem u273_451 : ev d 273 451 lo st h = evS (mx_ldA 0) d 273 452 lo st h := ev_s n273_451 rfl rfl
theorem n273_452 : mx_ins 273 452 = some ((.iload_n 3), 1) := mx_ins_of mi273 dL_law_452 rfl
theorem u273_452 : ev d 273 452 lo st h = evS (mx_ldI 3) d 273 453 lo st h := ev_s n273_452 rfl rfl
theorem n273_453 : mx_ins 273 453 = some ((.iconst 2), 1) := mx_ins_of mi273 dL_law_453 rfl
theorem u273_453 : ev d 273 453 lo st h = ev d 273 454 lo (.int 2 :: st) h := (ev_s (f := mx_push (.int 2)) n273_453 rfl rfl).trans es_push
theorem n273_454 : mx_ins 273 454 = some (.iadd, 1) := mx_ins_of mi273 dL_law_454 rfl
theorem u273_454 : ev d 273 454 lo st h = evI d 273 454 455 lo st h .iadd := ev_u n273_454 rfl
theorem n273_455 : mx_ins 273 455 = some (.iaload, 1) := mx_ins_of mi273 dL_law_455 rfl
theorem u273_455 : ev d 273 455 lo st h = evI d 273 455 456 lo st h .iaload := ev_u n273_455 rfl
theorem n273_456 : mx_ins 273 456 = some ((.invokevirtual 48), 3) := mx_ins_of mi273 dL_law_456 rfl
theorem u273_456 : ev d 273 456 lo st h = evIn d 273 456 459 37 48 3 false lo st h := ev_inv n273_456 rfl rfl ow273 ia37_48
theorem n273_459 : mx_ins 273 459 = some ((.aload_n 2), 1) := mx_ins_of mi273 dL_law_459 rfl
theorem u273_459 : ev d 273 459 lo st h = evS (mx_ldA 2) d 273 460 lo st h := ev_s n273_459 rfl rfl
theorem n273_460 : mx_ins 273 460 = some ((.aload_n 0), 1) := mx_ins_of mi273 dL_law_460 rfl
theorem u273_460 : ev d 273 460 lo st h = evS (mx_ldA 0) d 273 461 lo st h := ev_s n273_460 rfl rfl
theorem n273_461 : mx_ins 273 461 = some ((.iload_n 3), 1) := mx_ins_of mi273 dL_law_461 rfl
theorem u273_461 : ev d 273 461 lo st h = evS (mx_ldI 3) d 273 462 lo st h := ev_s n273_461 rfl rfl
theorem n273_462 : mx_ins 273 462 = some ((.iconst 1), 1) := mx_ins_of mi273 dL_law_462 rfl
theorem u273_462 : ev d 273 462 lo st h = ev d 273 463 lo (.int 1 :: st) h := (ev_s (f := mx_push (.int 1)) n273_462 rfl rfl).trans es_push
theorem n273_463 : mx_ins 273 463 = some (.iadd, 1) := mx_ins_of mi273 dL_law_463 rfl
theorem u273_463 : ev d 273 463 lo st h = evI d 273 463 464 lo st h .iadd := ev_u n273_463 rfl
theorem n273_464 : mx_ins 273 464 = some (.iaload, 1) := mx_ins_of mi273 dL_law_464 rfl
theorem u273_464 : ev d 273 464 lo st h = evI d 273 464 465 lo st h .iaload := ev_u n273_464 rfl
theorem n273_465 : mx_ins 273 465 = some ((.aload_n 0), 1) := mx_ins_of mi273 dL_law_465 rfl
theorem u273_465 : ev d 273 465 lo st h = evS (mx_ldA 0) d 273 466 lo st h := ev_s n273_465 rfl rfl
theorem n273_466 : mx_ins 273 466 = some ((.iload_n 3), 1) := mx_ins_of mi273 dL_law_466 rfl
theorem u273_466 : ev d 273 466 lo st h = evS (mx_ldI 3) d 273 467 lo st h := ev_s n273_466 rfl rfl
theorem n273_467 : mx_ins 273 467 = some ((.iconst 2), 1) := mx_ins_of mi273 dL_law_467 rfl
theorem u273_467 : ev d 273 467 lo st h = ev d 273 468 lo (.int 2 :: st) h := (ev_s (f := mx_push (.int 2)) n273_467 rfl rfl).trans es_push
theorem n273_468 : mx_ins 273 468 = some (.iadd, 1) := mx_ins_of mi273 dL_law_468 rfl
theorem u273_468 : ev d 273 468 lo st h = evI d 273 468 469 lo st h .iadd := ev_u n273_468 rfl
theorem n273_469 : mx_ins 273 469 = some (.iaload, 1) := mx_ins_of mi273 dL_law_469 rfl
theorem u273_469 : ev d 273 469 lo st h = evI d 273 469 470 lo st h .iaload := ev_u n273_469 rfl
theorem n273_470 : mx_ins 273 470 = some ((.invokevirtual 51), 3) := mx_ins_of mi273 dL_law_470 rfl
theorem u273_470 : ev d 273 470 lo st h = evIn d 273 470 473 37 51 3 false lo st h := ev_inv n273_470 rfl rfl ow273 ia37_51
theorem n273_473 : mx_ins 273 473 = some ((.if_icmp .eq 868), 3) := mx_ins_of mi273 dL_law_473 rfl
theorem u273_473 : ev d 273 473 lo st h = evK .eq d 273 1341 476 lo st h := ev_ic n273_473 rfl rfl
theorem n273_476 : mx_ins 273 476 = some ((.iconst 0), 1) := mx_ins_of mi273 dL_law_476 rfl
theorem u273_476 : ev d 273 476 lo st h = ev d 273 477 lo (.int 0 :: st) h := (ev_s (f := mx_push (.int 0)) n273_476 rfl rfl).trans es_push
theorem n273_477 : mx_ins 273 477 = some (.ireturn, 1) := mx_ins_of mi273 dL_law_477 rfl
theorem u273_477 : ev d 273 477 lo st h = evI d 273 477 478 lo st h .ireturn := ev_u n273_477 rfl
theorem n273_478 : mx_ins 273 478 = some ((.aload_n 1), 1) := mx_ins_of mi273 dL_law_478 rfl
theorem u273_478 : ev d 273 478 lo st h = evS (mx_ldA 1) d 273 479 lo st h := ev_s n273_478 rfl rfl
theorem n273_479 : mx_ins 273 479 = some ((.aload_n 0), 1) := mx_ins_of mi273 dL_law_479 rfl
theorem u273_479 : ev d 273 479 lo st h = evS (mx_ldA 0) d 273 480 lo st h := ev_s n273_479 rfl rfl
theorem n273_480 : mx_ins 273 480 = some ((.iload_n 3), 1) := mx_ins_of mi273 dL_law_480 rfl
theorem u273_480 : ev d 273 480 lo st h = evS (mx_ldI 3) d 273 481 lo st h := ev_s n273_480 rfl rfl
theorem n273_481 : mx_ins 273 481 = some ((.iconst 1), 1) := mx_ins_of mi273 dL_law_481 rfl
theorem u273_481 : ev d 273 481 lo st h = ev d 273 482 lo (.int 1 :: st) h := (ev_s (f := mx_push (.int 1)) n273_481 rfl rfl).trans es_push
theorem n273_482 : mx_ins 273 482 = some (.iadd, 1) := mx_ins_of mi273 dL_law_482 rfl
theorem u273_482 : ev d 273 482 lo st h = evI d 273 482 483 lo st h .iadd := ev_u n273_482 rfl
theorem n273_483 : mx_ins 273 483 = some (.iaload, 1) := mx_ins_of mi273 dL_law_483 rfl
theorem u273_483 : ev d 273 483 lo st h = evI d 273 483 484 lo st h .iaload := ev_u n273_483 rfl
theorem n273_484 : mx_ins 273 484 = some ((.invokevirtual 52), 3) := mx_ins_of mi273 dL_law_484 rfl
theorem u273_484 : ev d 273 484 lo st h = evIn d 273 484 487 37 52 2 false lo st h := ev_inv n273_484 rfl rfl ow273 ia37_52
theorem n273_487 : mx_ins 273 487 = some ((.aload_n 2), 1) := mx_ins_of mi273 dL_law_487 rfl
theorem u273_487 : ev d 273 487 lo st h = evS (mx_ldA 2) d 273 488 lo st h := ev_s n273_487 rfl rfl
theorem n273_488 : mx_ins 273 488 = some ((.aload_n 0), 1) := mx_ins_of mi273 dL_law_488 rfl
theorem u273_488 : ev d 273 488 lo st h = evS (mx_ldA 0) d 273 489 lo st h := ev_s n273_488 rfl rfl
theorem n273_489 : mx_ins 273 489 = some ((.iload_n 3), 1) := mx_ins_of mi273 dL_law_489 rfl
theorem u273_489 : ev d 273 489 lo st h = evS (mx_ldI 3) d 273 490 lo st h := ev_s n273_489 rfl rfl
theorem n273_490 : mx_ins 273 490 = some ((.iconst 1), 1) := mx_ins_of mi273 dL_law_490 rfl
theorem u273_490 : ev d 273 490 lo st h = ev d 273 491 lo (.int 1 :: st) h := (ev_s (f := mx_push (.int 1)) n273_490 rfl rfl).trans es_push
theorem n273_491 : mx_ins 273 491 = some (.iadd, 1) := mx_ins_of mi273 dL_law_491 rfl
theorem u273_491 : ev d 273 491 lo st h = evI d 273 491 492 lo st h .iadd := ev_u n273_491 rfl
theorem n273_492 : mx_ins 273 492 = some (.iaload, 1) := mx_ins_of mi273 dL_law_492 rfl
theorem u273_492 : ev d 273 492 lo st h = evI d 273 492 493 lo st h .iaload := ev_u n273_492 rfl
theorem n273_493 : mx_ins 273 493 = some ((.invokevirtual 55), 3) := mx_ins_of mi273 dL_law_493 rfl
theorem u273_493 : ev d 273 493 lo st h = evIn d 273 493 496 37 55 2 false lo st h := ev_inv n273_493 rfl rfl ow273 ia37_55
theorem n273_496 : mx_ins 273 496 = some ((.if_icmp .eq 845), 3) := mx_ins_of mi273 dL_law_496 rfl
theorem u273_496 : ev d 273 496 lo st h = evK .eq d 273 1341 499 lo st h := ev_ic n273_496 rfl rfl
theorem n273_499 : mx_ins 273 499 = some ((.iconst 0), 1) := mx_ins_of mi273 dL_law_499 rfl
theorem u273_499 : ev d 273 499 lo st h = ev d 273 500 lo (.int 0 :: st) h := (ev_s (f := mx_push (.int 0)) n273_499 rfl rfl).trans es_push
theorem n273_500 : mx_ins 273 500 = some (.ireturn, 1) := mx_ins_of mi273 dL_law_500 rfl
theorem u273_500 : ev d 273 500 lo st h = evI d 273 500 501 lo st h .ireturn := ev_u n273_500 rfl
theorem n273_501 : mx_ins 273 501 = some ((.aload_n 1), 1) := mx_ins_of mi273 dL_law_501 rfl
theorem u273_501 : ev d 273 501 lo st h = evS (mx_ldA 1) d 273 502 lo st h := ev_s n273_501 rfl rfl
theorem n273_502 : mx_ins 273 502 = some ((.aload_n 0), 1) := mx_ins_of mi273 dL_law_502 rfl
theorem u273_502 : ev d 273 502 lo st h = evS (mx_ldA 0) d 273 503 lo st h := ev_s n273_502 rfl rfl
theorem n273_503 : mx_ins 273 503 = some ((.iload_n 3), 1) := mx_ins_of mi273 dL_law_503 rfl
theorem u273_503 : ev d 273 503 lo st h = evS (mx_ldI 3) d 273 504 lo st h := ev_s n273_503 rfl rfl
theorem n273_504 : mx_ins 273 504 = some ((.iconst 1), 1) := mx_ins_of mi273 dL_law_504 rfl
theorem u273_504 : ev d 273 504 lo st h = ev d 273 505 lo (.int 1 :: st) h := (ev_s (f := mx_push (.int 1)) n273_504 rfl rfl).trans es_push
theorem n273_505 : mx_ins 273 505 = some (.iadd, 1) := mx_ins_of mi273 dL_law_505 rfl
theorem u273_505 : ev d 273 505 lo st h = evI d 273 505 506 lo st h .iadd := ev_u n273_505 rfl
theorem n273_506 : mx_ins 273 506 = some (.iaload, 1) := mx_ins_of mi273 dL_law_506 rfl
theorem u273_506 : ev d 273 506 lo st h = evI d 273 506 507 lo st h .iaload := ev_u n273_506 rfl
theorem n273_507 : mx_ins 273 507 = some ((.aload_n 0), 1) := mx_ins_of mi273 dL_law_507 rfl
theorem u273_507 : ev d 273 507 lo st h = evS (mx_ldA 0) d 273 508 lo st h := ev_s n273_507 rfl rfl
theorem n273_508 : mx_ins 273 508 = some ((.iload_n 3), 1) := mx_ins_of mi273 dL_law_508 rfl
theorem u273_508 : ev d 273 508 lo st h = evS (mx_ldI 3) d 273 509 lo st h := ev_s n273_508 rfl rfl
theorem n273_509 : mx_ins 273 509 = some ((.iconst 2), 1) := mx_ins_of mi273 dL_law_509 rfl
theorem u273_509 : ev d 273 509 lo st h = ev d 273 510 lo (.int 2 :: st) h := (ev_s (f := mx_push (.int 2)) n273_509 rfl rfl).trans es_push
theorem n273_510 : mx_ins 273 510 = some (.iadd, 1) := mx_ins_of mi273 dL_law_510 rfl
theorem u273_510 : ev d 273 510 lo st h = evI d 273 510 511 lo st h .iadd := ev_u n273_510 rfl
theorem n273_511 : mx_ins 273 511 = some (.iaload, 1) := mx_ins_of mi273 dL_law_511 rfl
theorem u273_511 : ev d 273 511 lo st h = evI d 273 511 512 lo st h .iaload := ev_u n273_511 rfl
theorem n273_512 : mx_ins 273 512 = some ((.invokevirtual 56), 3) := mx_ins_of mi273 dL_law_512 rfl
theorem u273_512 : ev d 273 512 lo st h = evIn d 273 512 515 37 56 3 false lo st h := ev_inv n273_512 rfl rfl ow273 ia37_56
theorem n273_515 : mx_ins 273 515 = some ((.aload_n 2), 1) := mx_ins_of mi273 dL_law_515 rfl
theorem u273_515 : ev d 273 515 lo st h = evS (mx_ldA 2) d 273 516 lo st h := ev_s n273_515 rfl rfl
theorem n273_516 : mx_ins 273 516 = some ((.aload_n 0), 1) := mx_ins_of mi273 dL_law_516 rfl
theorem u273_516 : ev d 273 516 lo st h = evS (mx_ldA 0) d 273 517 lo st h := ev_s n273_516 rfl rfl
theorem n273_517 : mx_ins 273 517 = some ((.iload_n 3), 1) := mx_ins_of mi273 dL_law_517 rfl
theorem u273_517 : ev d 273 517 lo st h = evS (mx_ldI 3) d 273 518 lo st h := ev_s n273_517 rfl rfl
theorem n273_518 : mx_ins 273 518 = some ((.iconst 1), 1) := mx_ins_of mi273 dL_law_518 rfl
theorem u273_518 : ev d 273 518 lo st h = ev d 273 519 lo (.int 1 :: st) h := (ev_s (f := mx_push (.int 1)) n273_518 rfl rfl).trans es_push
theorem n273_519 : mx_ins 273 519 = some (.iadd, 1) := mx_ins_of mi273 dL_law_519 rfl
theorem u273_519 : ev d 273 519 lo st h = evI d 273 519 520 lo st h .iadd := ev_u n273_519 rfl
theorem n273_520 : mx_ins 273 520 = some (.iaload, 1) := mx_ins_of mi273 dL_law_520 rfl
theorem u273_520 : ev d 273 520 lo st h = evI d 273 520 521 lo st h .iaload := ev_u n273_520 rfl
theorem n273_521 : mx_ins 273 521 = some ((.aload_n 0), 1) := mx_ins_of mi273 dL_law_521 rfl
theorem u273_521 : ev d 273 521 lo st h = evS (mx_ldA 0) d 273 522 lo st h := ev_s n273_521 rfl rfl
theorem n273_522 : mx_ins 273 522 = some ((.iload_n 3), 1) := mx_ins_of mi273 dL_law_522 rfl
theorem u273_522 : ev d 273 522 lo st h = evS (mx_ldI 3) d 273 523 lo st h := ev_s n273_522 rfl rfl
theorem n273_523 : mx_ins 273 523 = some ((.iconst 2), 1) := mx_ins_of mi273 dL_law_523 rfl
theorem u273_523 : ev d 273 523 lo st h = ev d 273 524 lo (.int 2 :: st) h := (ev_s (f := mx_push (.int 2)) n273_523 rfl rfl).trans es_push
theorem n273_524 : mx_ins 273 524 = some (.iadd, 1) := mx_ins_of mi273 dL_law_524 rfl
theorem u273_524 : ev d 273 524 lo st h = evI d 273 524 525 lo st h .iadd := ev_u n273_524 rfl
theorem n273_525 : mx_ins 273 525 = some (.iaload, 1) := mx_ins_of mi273 dL_law_525 rfl
theorem u273_525 : ev d 273 525 lo st h = evI d 273 525 526 lo st h .iaload := ev_u n273_525 rfl
theorem n273_526 : mx_ins 273 526 = some ((.invokevirtual 59), 3) := mx_ins_of mi273 dL_law_526 rfl
theorem u273_526 : ev d 273 526 lo st h = evIn d 273 526 529 37 59 3 false lo st h := ev_inv n273_526 rfl rfl ow273 ia37_59
theorem n273_529 : mx_ins 273 529 = some ((.if_icmp .eq 812), 3) := mx_ins_of mi273 dL_law_529 rfl
theorem u273_529 : ev d 273 529 lo st h = evK .eq d 273 1341 532 lo st h := ev_ic n273_529 rfl rfl
theorem n273_532 : mx_ins 273 532 = some ((.iconst 0), 1) := mx_ins_of mi273 dL_law_532 rfl
theorem u273_532 : ev d 273 532 lo st h = ev d 273 533 lo (.int 0 :: st) h := (ev_s (f := mx_push (.int 0)) n273_532 rfl rfl).trans es_push
theorem n273_533 : mx_ins 273 533 = some (.ireturn, 1) := mx_ins_of mi273 dL_law_533 rfl
theorem u273_533 : ev d 273 533 lo st h = evI d 273 533 534 lo st h .ireturn := ev_u n273_533 rfl
theorem n273_534 : mx_ins 273 534 = some ((.aload_n 1), 1) := mx_ins_of mi273 dL_law_534 rfl
theorem u273_534 : ev d 273 534 lo st h = evS (mx_ldA 1) d 273 535 lo st h := ev_s n273_534 rfl rfl
theorem n273_535 : mx_ins 273 535 = some ((.aload_n 0), 1) := mx_ins_of mi273 dL_law_535 rfl
theorem u273_535 : ev d 273 535 lo st h = evS (mx_ldA 0) d 273 536 lo st h := ev_s n273_535 rfl rfl
theorem n273_536 : mx_ins 273 536 = some ((.iload_n 3), 1) := mx_ins_of mi273 dL_law_536 rfl
theorem u273_536 : ev d 273 536 lo st h = evS (mx_ldI 3) d 273 537 lo st h := ev_s n273_536 rfl rfl
theorem n273_537 : mx_ins 273 537 = some ((.iconst 1), 1) := mx_ins_of mi273 dL_law_537 rfl
theorem u273_537 : ev d 273 537 lo st h = ev d 273 538 lo (.int 1 :: st) h := (ev_s (f := mx_push (.int 1)) n273_537 rfl rfl).trans es_push
theorem n273_538 : mx_ins 273 538 = some (.iadd, 1) := mx_ins_of mi273 dL_law_538 rfl
theorem u273_538 : ev d 273 538 lo st h = evI d 273 538 539 lo st h .iadd := ev_u n273_538 rfl
theorem n273_539 : mx_ins 273 539 = some (.iaload, 1) := mx_ins_of mi273 dL_law_539 rfl
theorem u273_539 : ev d 273 539 lo st h = evI d 273 539 540 lo st h .iaload := ev_u n273_539 rfl
theorem n273_540 : mx_ins 273 540 = some ((.aload_n 0), 1) := mx_ins_of mi273 dL_law_540 rfl
theorem u273_540 : ev d 273 540 lo st h = evS (mx_ldA 0) d 273 541 lo st h := ev_s n273_540 rfl rfl
theorem n273_541 : mx_ins 273 541 = some ((.iload_n 3), 1) := mx_ins_of mi273 dL_law_541 rfl
theorem u273_541 : ev d 273 541 lo st h = evS (mx_ldI 3) d 273 542 lo st h := ev_s n273_541 rfl rfl
theorem n273_542 : mx_ins 273 542 = some ((.iconst 2), 1) := mx_ins_of mi273 dL_law_542 rfl
theorem u273_542 : ev d 273 542 lo st h = ev d 273 543 lo (.int 2 :: st) h := (ev_s (f := mx_push (.int 2)) n273_542 rfl rfl).trans es_push
theorem n273_543 : mx_ins 273 543 = some (.iadd, 1) := mx_ins_of mi273 dL_law_543 rfl
theorem u273_543 : ev d 273 543 lo st h = evI d 273 543 544 lo st h .iadd := ev_u n273_543 rfl
theorem n273_544 : mx_ins 273 544 = some (.iaload, 1) := mx_ins_of mi273 dL_law_544 rfl
theorem u273_544 : ev d 273 544 lo st h = evI d 273 544 545 lo st h .iaload := ev_u n273_544 rfl
theorem n273_545 : mx_ins 273 545 = some ((.invokevirtual 60), 3) := mx_ins_of mi273 dL_law_545 rfl
theorem u273_545 : ev d 273 545 lo st h = evIn d 273 545 548 37 60 3 false lo st h := ev_inv n273_545 rfl rfl ow273 ia37_60
theorem n273_548 : mx_ins 273 548 = some ((.aload_n 2), 1) := mx_ins_of mi273 dL_law_548 rfl
theorem u273_548 : ev d 273 548 lo st h = evS (mx_ldA 2) d 273 549 lo st h := ev_s n273_548 rfl rfl
theorem n273_549 : mx_ins 273 549 = some ((.aload_n 0), 1) := mx_ins_of mi273 dL_law_549 rfl
theorem u273_549 : ev d 273 549 lo st h = evS (mx_ldA 0) d 273 550 lo st h := ev_s n273_549 rfl rfl
theorem n273_550 : mx_ins 273 550 = some ((.iload_n 3), 1) := mx_ins_of mi273 dL_law_550 rfl
theorem u273_550 : ev d 273 550 lo st h = evS (mx_ldI 3) d 273 551 lo st h := ev_s n273_550 rfl rfl
theorem n273_551 : mx_ins 273 551 = some ((.iconst 1), 1) := mx_ins_of mi273 dL_law_551 rfl
theorem u273_551 : ev d 273 551 lo st h = ev d 273 552 lo (.int 1 :: st) h := (ev_s (f := mx_push (.int 1)) n273_551 rfl rfl).trans es_push
theorem n273_552 : mx_ins 273 552 = some (.iadd, 1) := mx_ins_of mi273 dL_law_552 rfl
theorem u273_552 : ev d 273 552 lo st h = evI d 273 552 553 lo st h .iadd := ev_u n273_552 rfl
theorem n273_553 : mx_ins 273 553 = some (.iaload, 1) := mx_ins_of mi273 dL_law_553 rfl
theorem u273_553 : ev d 273 553 lo st h = evI d 273 553 554 lo st h .iaload := ev_u n273_553 rfl
theorem n273_554 : mx_ins 273 554 = some ((.aload_n 0), 1) := mx_ins_of mi273 dL_law_554 rfl
theorem u273_554 : ev d 273 554 lo st h = evS (mx_ldA 0) d 273 555 lo st h := ev_s n273_554 rfl rfl
theorem n273_555 : mx_ins 273 555 = some ((.iload_n 3), 1) := mx_ins_of mi273 dL_law_555 rfl
theorem u273_555 : ev d 273 555 lo st h = evS (mx_ldI 3) d 273 556 lo st h := ev_s n273_555 rfl rfl
theorem n273_556 : mx_ins 273 556 = some ((.iconst 2), 1) := mx_ins_of mi273 dL_law_556 rfl
theorem u273_556 : ev d 273 556 lo st h = ev d 273 557 lo (.int 2 :: st) h := (ev_s (f := mx_push (.int 2)) n273_556 rfl rfl).trans es_push
theorem n273_557 : mx_ins 273 557 = some (.iadd, 1) := mx_ins_of mi273 dL_law_557 rfl
theorem u273_557 : ev d 273 557 lo st h = evI d 273 557 558 lo st h .iadd := ev_u n273_557 rfl
theorem n273_558 : mx_ins 273 558 = some (.iaload, 1) := mx_ins_of mi273 dL_law_558 rfl
theorem u273_558 : ev d 273 558 lo st h = evI d 273 558 559 lo st h .iaload := ev_u n273_558 rfl
theorem n273_559 : mx_ins 273 559 = some ((.invokevirtual 63), 3) := mx_ins_of mi273 dL_law_559 rfl
theorem u273_559 : ev d 273 559 lo st h = evIn d 273 559 562 37 63 3 false lo st h := ev_inv n273_559 rfl rfl ow273 ia37_63
theorem n273_562 : mx_ins 273 562 = some ((.if_icmp .eq 779), 3) := mx_ins_of mi273 dL_law_562 rfl
theorem u273_562 : ev d 273 562 lo st h = evK .eq d 273 1341 565 lo st h := ev_ic n273_562 rfl rfl
theorem n273_565 : mx_ins 273 565 = some ((.iconst 0), 1) := mx_ins_of mi273 dL_law_565 rfl
theorem u273_565 : ev d 273 565 lo st h = ev d 273 566 lo (.int 0 :: st) h := (ev_s (f := mx_push (.int 0)) n273_565 rfl rfl).trans es_push
theorem n273_566 : mx_ins 273 566 = some (.ireturn, 1) := mx_ins_of mi273 dL_law_566 rfl
theorem u273_566 : ev d 273 566 lo st h = evI d 273 566 567 lo st h .ireturn := ev_u n273_566 rfl
theorem n273_567 : mx_ins 273 567 = some ((.aload_n 1), 1) := mx_ins_of mi273 dL_law_567 rfl
theorem u273_567 : ev d 273 567 lo st h = evS (mx_ldA 1) d 273 568 lo st h := ev_s n273_567 rfl rfl
theorem n273_568 : mx_ins 273 568 = some ((.aload_n 0), 1) := mx_ins_of mi273 dL_law_568 rfl
theorem u273_568 : ev d 273 568 lo st h = evS (mx_ldA 0) d 273 569 lo st h := ev_s n273_568 rfl rfl
theorem n273_569 : mx_ins 273 569 = some ((.iload_n 3), 1) := mx_ins_of mi273 dL_law_569 rfl
theorem u273_569 : ev d 273 569 lo st h = evS (mx_ldI 3) d 273 570 lo st h := ev_s n273_569 rfl rfl
theorem n273_570 : mx_ins 273 570 = some ((.iconst 1), 1) := mx_ins_of mi273 dL_law_570 rfl
theorem u273_570 : ev d 273 570 lo st h = ev d 273 571 lo (.int 1 :: st) h := (ev_s (f := mx_push (.int 1)) n273_570 rfl rfl).trans es_push
theorem n273_571 : mx_ins 273 571 = some (.iadd, 1) := mx_ins_of mi273 dL_law_571 rfl
theorem u273_571 : ev d 273 571 lo st h = evI d 273 571 572 lo st h .iadd := ev_u n273_571 rfl
theorem n273_572 : mx_ins 273 572 = some (.iaload, 1) := mx_ins_of mi273 dL_law_572 rfl
theorem u273_572 : ev d 273 572 lo st h = evI d 273 572 573 lo st h .iaload := ev_u n273_572 rfl
theorem n273_573 : mx_ins 273 573 = some ((.invokevirtual 64), 3) := mx_ins_of mi273 dL_law_573 rfl
theorem u273_573 : ev d 273 573 lo st h = evIn d 273 573 576 37 64 2 false lo st h := ev_inv n273_573 rfl rfl ow273 ia37_64
theorem n273_576 : mx_ins 273 576 = some ((.aload_n 2), 1) := mx_ins_of mi273 dL_law_576 rfl
theorem u273_576 : ev d 273 576 lo st h = evS (mx_ldA 2) d 273 577 lo st h := ev_s n273_576 rfl rfl
theorem n273_577 : mx_ins 273 577 = some ((.aload_n 0), 1) := mx_ins_of mi273 dL_law_577 rfl
theorem u273_577 : ev d 273 577 lo st h = evS (mx_ldA 0) d 273 578 lo st h := ev_s n273_577 rfl rfl
theorem n273_578 : mx_ins 273 578 = some ((.iload_n 3), 1) := mx_ins_of mi273 dL_law_578 rfl
theorem u273_578 : ev d 273 578 lo st h = evS (mx_ldI 3) d 273 579 lo st h := ev_s n273_578 rfl rfl
theorem n273_579 : mx_ins 273 579 = some ((.iconst 1), 1) := mx_ins_of mi273 dL_law_579 rfl
theorem u273_579 : ev d 273 579 lo st h = ev d 273 580 lo (.int 1 :: st) h := (ev_s (f := mx_push (.int 1)) n273_579 rfl rfl).trans es_push
theorem n273_580 : mx_ins 273 580 = some (.iadd, 1) := mx_ins_of mi273 dL_law_580 rfl
theorem u273_580 : ev d 273 580 lo st h = evI d 273 580 581 lo st h .iadd := ev_u n273_580 rfl
theorem n273_581 : mx_ins 273 581 = some (.iaload, 1) := mx_ins_of mi273 dL_law_581 rfl
theorem u273_581 : ev d 273 581 lo st h = evI d 273 581 582 lo st h .iaload := ev_u n273_581 rfl
theorem n273_582 : mx_ins 273 582 = some ((.invokevirtual 67), 3) := mx_ins_of mi273 dL_law_582 rfl
theorem u273_582 : ev d 273 582 lo st h = evIn d 273 582 585 37 67 2 false lo st h := ev_inv n273_582 rfl rfl ow273 ia37_67
theorem n273_585 : mx_ins 273 585 = some ((.if_icmp .eq 756), 3) := mx_ins_of mi273 dL_law_585 rfl
theorem u273_585 : ev d 273 585 lo st h = evK .eq d 273 1341 588 lo st h := ev_ic n273_585 rfl rfl
theorem n273_588 : mx_ins 273 588 = some ((.iconst 0), 1) := mx_ins_of mi273 dL_law_588 rfl
theorem u273_588 : ev d 273 588 lo st h = ev d 273 589 lo (.int 0 :: st) h := (ev_s (f := mx_push (.int 0)) n273_588 rfl rfl).trans es_push
theorem n273_589 : mx_ins 273 589 = some (.ireturn, 1) := mx_ins_of mi273 dL_law_589 rfl
theorem u273_589 : ev d 273 589 lo st h = evI d 273 589 590 lo st h .ireturn := ev_u n273_589 rfl
theorem n273_590 : mx_ins 273 590 = some ((.aload_n 1), 1) := mx_ins_of mi273 dL_law_590 rfl
theorem u273_590 : ev d 273 590 lo st h = evS (mx_ldA 1) d 273 591 lo st h := ev_s n273_590 rfl rfl
theorem n273_591 : mx_ins 273 591 = some ((.aload_n 0), 1) := mx_ins_of mi273 dL_law_591 rfl
theorem u273_591 : ev d 273 591 lo st h = evS (mx_ldA 0) d 273 592 lo st h := ev_s n273_591 rfl rfl
theorem n273_592 : mx_ins 273 592 = some ((.iload_n 3), 1) := mx_ins_of mi273 dL_law_592 rfl
theorem u273_592 : ev d 273 592 lo st h = evS (mx_ldI 3) d 273 593 lo st h := ev_s n273_592 rfl rfl
theorem n273_593 : mx_ins 273 593 = some ((.iconst 1), 1) := mx_ins_of mi273 dL_law_593 rfl
theorem u273_593 : ev d 273 593 lo st h = ev d 273 594 lo (.int 1 :: st) h := (ev_s (f := mx_push (.int 1)) n273_593 rfl rfl).trans es_push
theorem n273_594 : mx_ins 273 594 = some (.iadd, 1) := mx_ins_of mi273 dL_law_594 rfl
theorem u273_594 : ev d 273 594 lo st h = evI d 273 594 595 lo st h .iadd := ev_u n273_594 rfl
theorem n273_595 : mx_ins 273 595 = some (.iaload, 1) := mx_ins_of mi273 dL_law_595 rfl
theorem u273_595 : ev d 273 595 lo st h = evI d 273 595 596 lo st h .iaload := ev_u n273_595 rfl
theorem n273_596 : mx_ins 273 596 = some ((.invokevirtual 68), 3) := mx_ins_of mi273 dL_law_596 rfl
theorem u273_596 : ev d 273 596 lo st h = evIn d 273 596 599 37 68 2 false lo st h := ev_inv n273_596 rfl rfl ow273 ia37_68
theorem n273_599 : mx_ins 273 599 = some ((.aload_n 2), 1) := mx_ins_of mi273 dL_law_599 rfl
theorem u273_599 : ev d 273 599 lo st h = evS (mx_ldA 2) d 273 600 lo st h := ev_s n273_599 rfl rfl
theorem n273_600 : mx_ins 273 600 = some ((.aload_n 0), 1) := mx_ins_of mi273 dL_law_600 rfl
theorem u273_600 : ev d 273 600 lo st h = evS (mx_ldA 0) d 273 601 lo st h := ev_s n273_600 rfl rfl
theorem n273_601 : mx_ins 273 601 = some ((.iload_n 3), 1) := mx_ins_of mi273 dL_law_601 rfl
theorem u273_601 : ev d 273 601 lo st h = evS (mx_ldI 3) d 273 602 lo st h := ev_s n273_601 rfl rfl
theorem n273_602 : mx_ins 273 602 = some ((.iconst 1), 1) := mx_ins_of mi273 dL_law_602 rfl
theorem u273_602 : ev d 273 602 lo st h = ev d 273 603 lo (.int 1 :: st) h := (ev_s (f := mx_push (.int 1)) n273_602 rfl rfl).trans es_push
theorem n273_603 : mx_ins 273 603 = some (.iadd, 1) := mx_ins_of mi273 dL_law_603 rfl
theorem u273_603 : ev d 273 603 lo st h = evI d 273 603 604 lo st h .iadd := ev_u n273_603 rfl
theorem n273_604 : mx_ins 273 604 = some (.iaload, 1) := mx_ins_of mi273 dL_law_604 rfl
theorem u273_604 : ev d 273 604 lo st h = evI d 273 604 605 lo st h .iaload := ev_u n273_604 rfl
theorem n273_605 : mx_ins 273 605 = some ((.invokevirtual 71), 3) := mx_ins_of mi273 dL_law_605 rfl
theorem u273_605 : ev d 273 605 lo st h = evIn d 273 605 608 37 71 2 false lo st h := ev_inv n273_605 rfl rfl ow273 ia37_71
theorem n273_608 : mx_ins 273 608 = some ((.if_icmp .eq 733), 3) := mx_ins_of mi273 dL_law_608 rfl
theorem u273_608 : ev d 273 608 lo st h = evK .eq d 273 1341 611 lo st h := ev_ic n273_608 rfl rfl
theorem n273_611 : mx_ins 273 611 = some ((.iconst 0), 1) := mx_ins_of mi273 dL_law_611 rfl
theorem u273_611 : ev d 273 611 lo st h = ev d 273 612 lo (.int 0 :: st) h := (ev_s (f := mx_push (.int 0)) n273_611 rfl rfl).trans es_push
theorem n273_612 : mx_ins 273 612 = some (.ireturn, 1) := mx_ins_of mi273 dL_law_612 rfl
theorem u273_612 : ev d 273 612 lo st h = evI d 273 612 613 lo st h .ireturn := ev_u n273_612 rfl
theorem n273_613 : mx_ins 273 613 = some ((.aload_n 1), 1) := mx_ins_of mi273 dL_law_613 rfl
theorem u273_613 : ev d 273 613 lo st h = evS (mx_ldA 1) d 273 614 lo st h := ev_s n273_613 rfl rfl
theorem n273_614 : mx_ins 273 614 = some ((.invokevirtual 72), 3) := mx_ins_of mi273 dL_law_614 rfl
theorem u273_614 : ev d 273 614 lo st h = evIn d 273 614 617 37 72 1 false lo st h := ev_inv n273_614 rfl rfl ow273 ia37_72
theorem n273_617 : mx_ins 273 617 = some ((.aload_n 2), 1) := mx_ins_of mi273 dL_law_617 rfl
theorem u273_617 : ev d 273 617 lo st h = evS (mx_ldA 2) d 273 618 lo st h := ev_s n273_617 rfl rfl
theorem n273_618 : mx_ins 273 618 = some ((.invokevirtual 75), 3) := mx_ins_of mi273 dL_law_618 rfl
theorem u273_618 : ev d 273 618 lo st h = evIn d 273 618 621 37 75 1 false lo st h := ev_inv n273_618 rfl rfl ow273 ia37_75
theorem n273_621 : mx_ins 273 621 = some ((.if_icmp .eq 720), 3) := mx_ins_of mi273 dL_law_621 rfl
theorem u273_621 : ev d 273 621 lo st h = evK .eq d 273 1341 624 lo st h := ev_ic n273_621 rfl rfl
theorem n273_624 : mx_ins 273 624 = some ((.iconst 0), 1) := mx_ins_of mi273 dL_law_624 rfl
theorem u273_624 : ev d 273 624 lo st h = ev d 273 625 lo (.int 0 :: st) h := (ev_s (f := mx_push (.int 0)) n273_624 rfl rfl).trans es_push
theorem n273_625 : mx_ins 273 625 = some (.ireturn, 1) := mx_ins_of mi273 dL_law_625 rfl
theorem u273_625 : ev d 273 625 lo st h = evI d 273 625 626 lo st h .ireturn := ev_u n273_625 rfl
theorem n273_626 : mx_ins 273 626 = some ((.aload_n 1), 1) := mx_ins_of mi273 dL_law_626 rfl
theorem u273_626 : ev d 273 626 lo st h = evS (mx_ldA 1) d 273 627 lo st h := ev_s n273_626 rfl rfl
theorem n273_627 : mx_ins 273 627 = some ((.invokevirtual 76), 3) := mx_ins_of mi273 dL_law_627 rfl
theorem u273_627 : ev d 273 627 lo st h = evIn d 273 627 630 37 76 1 false lo st h := ev_inv n273_627 rfl rfl ow273 ia37_76
theorem n273_630 : mx_ins 273 630 = some ((.aload_n 2), 1) := mx_ins_of mi273 dL_law_630 rfl
theorem u273_630 : ev d 273 630 lo st h = evS (mx_ldA 2) d 273 631 lo st h := ev_s n273_630 rfl rfl
theorem n273_631 : mx_ins 273 631 = some ((.invokevirtual 79), 3) := mx_ins_of mi273 dL_law_631 rfl
theorem u273_631 : ev d 273 631 lo st h = evIn d 273 631 634 37 79 1 false lo st h := ev_inv n273_631 rfl rfl ow273 ia37_79
theorem n273_634 : mx_ins 273 634 = some ((.if_icmp .eq 707), 3) := mx_ins_of mi273 dL_law_634 rfl
theorem u273_634 : ev d 273 634 lo st h = evK .eq d 273 1341 637 lo st h := ev_ic n273_634 rfl rfl
theorem n273_637 : mx_ins 273 637 = some ((.iconst 0), 1) := mx_ins_of mi273 dL_law_637 rfl
theorem u273_637 : ev d 273 637 lo st h = ev d 273 638 lo (.int 0 :: st) h := (ev_s (f := mx_push (.int 0)) n273_637 rfl rfl).trans es_push
theorem n273_638 : mx_ins 273 638 = some (.ireturn, 1) := mx_ins_of mi273 dL_law_638 rfl
theorem u273_638 : ev d 273 638 lo st h = evI d 273 638 639 lo st h .ireturn := ev_u n273_638 rfl
theorem n273_639 : mx_ins 273 639 = some ((.aload_n 1), 1) := mx_ins_of mi273 dL_law_639 rfl
theorem u273_639 : ev d 273 639 lo st h = evS (mx_ldA 1) d 273 640 lo st h := ev_s n273_639 rfl rfl
theorem n273_640 : mx_ins 273 640 = some ((.aload_n 0), 1) := mx_ins_of mi273 dL_law_640 rfl
theorem u273_640 : ev d 273 640 lo st h = evS (mx_ldA 0) d 273 641 lo st h := ev_s n273_640 rfl rfl
theorem n273_641 : mx_ins 273 641 = some ((.iload_n 3), 1) := mx_ins_of mi273 dL_law_641 rfl
theorem u273_641 : ev d 273 641 lo st h = evS (mx_ldI 3) d 273 642 lo st h := ev_s n273_641 rfl rfl
theorem n273_642 : mx_ins 273 642 = some ((.iconst 1), 1) := mx_ins_of mi273 dL_law_642 rfl
theorem u273_642 : ev d 273 642 lo st h = ev d 273 643 lo (.int 1 :: st) h := (ev_s (f := mx_push (.int 1)) n273_642 rfl rfl).trans es_push
theorem n273_643 : mx_ins 273 643 = some (.iadd, 1) := mx_ins_of mi273 dL_law_643 rfl
theorem u273_643 : ev d 273 643 lo st h = evI d 273 643 644 lo st h .iadd := ev_u n273_643 rfl
theorem n273_644 : mx_ins 273 644 = some (.iaload, 1) := mx_ins_of mi273 dL_law_644 rfl
theorem u273_644 : ev d 273 644 lo st h = evI d 273 644 645 lo st h .iaload := ev_u n273_644 rfl
theorem n273_645 : mx_ins 273 645 = some ((.invokevirtual 80), 3) := mx_ins_of mi273 dL_law_645 rfl
theorem u273_645 : ev d 273 645 lo st h = evIn d 273 645 648 37 80 2 false lo st h := ev_inv n273_645 rfl rfl ow273 ia37_80
theorem n273_648 : mx_ins 273 648 = some ((.aload_n 2), 1) := mx_ins_of mi273 dL_law_648 rfl
theorem u273_648 : ev d 273 648 lo st h = evS (mx_ldA 2) d 273 649 lo st h := ev_s n273_648 rfl rfl
theorem n273_649 : mx_ins 273 649 = some ((.aload_n 0), 1) := mx_ins_of mi273 dL_law_649 rfl
theorem u273_649 : ev d 273 649 lo st h = evS (mx_ldA 0) d 273 650 lo st h := ev_s n273_649 rfl rfl
theorem n273_650 : mx_ins 273 650 = some ((.iload_n 3), 1) := mx_ins_of mi273 dL_law_650 rfl
theorem u273_650 : ev d 273 650 lo st h = evS (mx_ldI 3) d 273 651 lo st h := ev_s n273_650 rfl rfl
theorem n273_651 : mx_ins 273 651 = some ((.iconst 1), 1) := mx_ins_of mi273 dL_law_651 rfl
theorem u273_651 : ev d 273 651 lo st h = ev d 273 652 lo (.int 1 :: st) h := (ev_s (f := mx_push (.int 1)) n273_651 rfl rfl).trans es_push
theorem n273_652 : mx_ins 273 652 = some (.iadd, 1) := mx_ins_of mi273 dL_law_652 rfl
theorem u273_652 : ev d 273 652 lo st h = evI d 273 652 653 lo st h .iadd := ev_u n273_652 rfl
theorem n273_653 : mx_ins 273 653 = some (.iaload, 1) := mx_ins_of mi273 dL_law_653 rfl
theorem u273_653 : ev d 273 653 lo st h = evI d 273 653 654 lo st h .iaload := ev_u n273_653 rfl
theorem n273_654 : mx_ins 273 654 = some ((.invokevirtual 83), 3) := mx_ins_of mi273 dL_law_654 rfl
theorem u273_654 : ev d 273 654 lo st h = evIn d 273 654 657 37 83 2 false lo st h := ev_inv n273_654 rfl rfl ow273 ia37_83
theorem n273_657 : mx_ins 273 657 = some ((.if_icmp .eq 684), 3) := mx_ins_of mi273 dL_law_657 rfl
theorem u273_657 : ev d 273 657 lo st h = evK .eq d 273 1341 660 lo st h := ev_ic n273_657 rfl rfl
theorem n273_660 : mx_ins 273 660 = some ((.iconst 0), 1) := mx_ins_of mi273 dL_law_660 rfl
theorem u273_660 : ev d 273 660 lo st h = ev d 273 661 lo (.int 0 :: st) h := (ev_s (f := mx_push (.int 0)) n273_660 rfl rfl).trans es_push
theorem n273_661 : mx_ins 273 661 = some (.ireturn, 1) := mx_ins_of mi273 dL_law_661 rfl
theorem u273_661 : ev d 273 661 lo st h = evI d 273 661 662 lo st h .ireturn := ev_u n273_661 rfl
theorem n273_662 : mx_ins 273 662 = some ((.aload_n 1), 1) := mx_ins_of mi273 dL_law_662 rfl
theorem u273_662 : ev d 273 662 lo st h = evS (mx_ldA 1) d 273 663 lo st h := ev_s n273_662 rfl rfl
theorem n273_663 : mx_ins 273 663 = some ((.aload_n 0), 1) := mx_ins_of mi273 dL_law_663 rfl
theorem u273_663 : ev d 273 663 lo st h = evS (mx_ldA 0) d 273 664 lo st h := ev_s n273_663 rfl rfl
theorem n273_664 : mx_ins 273 664 = some ((.iload_n 3), 1) := mx_ins_of mi273 dL_law_664 rfl
theorem u273_664 : ev d 273 664 lo st h = evS (mx_ldI 3) d 273 665 lo st h := ev_s n273_664 rfl rfl
theorem n273_665 : mx_ins 273 665 = some ((.iconst 1), 1) := mx_ins_of mi273 dL_law_665 rfl
theorem u273_665 : ev d 273 665 lo st h = ev d 273 666 lo (.int 1 :: st) h := (ev_s (f := mx_push (.int 1)) n273_665 rfl rfl).trans es_push
theorem n273_666 : mx_ins 273 666 = some (.iadd, 1) := mx_ins_of mi273 dL_law_666 rfl
theorem u273_666 : ev d 273 666 lo st h = evI d 273 666 667 lo st h .iadd := ev_u n273_666 rfl
theorem n273_667 : mx_ins 273 667 = some (.iaload, 1) := mx_ins_of mi273 dL_law_667 rfl
theorem u273_667 : ev d 273 667 lo st h = evI d 273 667 668 lo st h .iaload := ev_u n273_667 rfl
theorem n273_668 : mx_ins 273 668 = some ((.invokevirtual 84), 3) := mx_ins_of mi273 dL_law_668 rfl
theorem u273_668 : ev d 273 668 lo st h = evIn d 273 668 671 37 84 2 false lo st h := ev_inv n273_668 rfl rfl ow273 ia37_84
theorem n273_671 : mx_ins 273 671 = some ((.aload_n 2), 1) := mx_ins_of mi273 dL_law_671 rfl
theorem u273_671 : ev d 273 671 lo st h = evS (mx_ldA 2) d 273 672 lo st h := ev_s n273_671 rfl rfl
theorem n273_672 : mx_ins 273 672 = some ((.aload_n 0), 1) := mx_ins_of mi273 dL_law_672 rfl
theorem u273_672 : ev d 273 672 lo st h = evS (mx_ldA 0) d 273 673 lo st h := ev_s n273_672 rfl rfl
theorem n273_673 : mx_ins 273 673 = some ((.iload_n 3), 1) := mx_ins_of mi273 dL_law_673 rfl
theorem u273_673 : ev d 273 673 lo st h = evS (mx_ldI 3) d 273 674 lo st h := ev_s n273_673 rfl rfl
theorem n273_674 : mx_ins 273 674 = some ((.iconst 1), 1) := mx_ins_of mi273 dL_law_674 rfl
theorem u273_674 : ev d 273 674 lo st h = ev d 273 675 lo (.int 1 :: st) h := (ev_s (f := mx_push (.int 1)) n273_674 rfl rfl).trans es_push
theorem n273_675 : mx_ins 273 675 = some (.iadd, 1) := mx_ins_of mi273 dL_law_675 rfl
theorem u273_675 : ev d 273 675 lo st h = evI d 273 675 676 lo st h .iadd := ev_u n273_675 rfl
theorem n273_676 : mx_ins 273 676 = some (.iaload, 1) := mx_ins_of mi273 dL_law_676 rfl
theorem u273_676 : ev d 273 676 lo st h = evI d 273 676 677 lo st h .iaload := ev_u n273_676 rfl
theorem n273_677 : mx_ins 273 677 = some ((.invokevirtual 87), 3) := mx_ins_of mi273 dL_law_677 rfl
theorem u273_677 : ev d 273 677 lo st h = evIn d 273 677 680 37 87 2 false lo st h := ev_inv n273_677 rfl rfl ow273 ia37_87
theorem n273_680 : mx_ins 273 680 = some ((.if_icmp .eq 661), 3) := mx_ins_of mi273 dL_law_680 rfl
theorem u273_680 : ev d 273 680 lo st h = evK .eq d 273 1341 683 lo st h := ev_ic n273_680 rfl rfl
theorem n273_683 : mx_ins 273 683 = some ((.iconst 0), 1) := mx_ins_of mi273 dL_law_683 rfl
theorem u273_683 : ev d 273 683 lo st h = ev d 273 684 lo (.int 0 :: st) h := (ev_s (f := mx_push (.int 0)) n273_683 rfl rfl).trans es_push
theorem n273_684 : mx_ins 273 684 = some (.ireturn, 1) := mx_ins_of mi273 dL_law_684 rfl
theorem u273_684 : ev d 273 684 lo st h = evI d 273 684 685 lo st h .ireturn := ev_u n273_684 rfl
theorem n273_685 : mx_ins 273 685 = some ((.aload_n 1), 1) := mx_ins_of mi273 dL_law_685 rfl
theorem u273_685 : ev d 273 685 lo st h = evS (mx_ldA 1) d 273 686 lo st h := ev_s n273_685 rfl rfl
theorem n273_686 : mx_ins 273 686 = some ((.aload_n 0), 1) := mx_ins_of mi273 dL_law_686 rfl
theorem u273_686 : ev d 273 686 lo st h = evS (mx_ldA 0) d 273 687 lo st h := ev_s n273_686 rfl rfl
theorem n273_687 : mx_ins 273 687 = some ((.iload_n 3), 1) := mx_ins_of mi273 dL_law_687 rfl
theorem u273_687 : ev d 273 687 lo st h = evS (mx_ldI 3) d 273 688 lo st h := ev_s n273_687 rfl rfl
theorem n273_688 : mx_ins 273 688 = some ((.iconst 1), 1) := mx_ins_of mi273 dL_law_688 rfl
theorem u273_688 : ev d 273 688 lo st h = ev d 273 689 lo (.int 1 :: st) h := (ev_s (f := mx_push (.int 1)) n273_688 rfl rfl).trans es_push
theorem n273_689 : mx_ins 273 689 = some (.iadd, 1) := mx_ins_of mi273 dL_law_689 rfl
theorem u273_689 : ev d 273 689 lo st h = evI d 273 689 690 lo st h .iadd := ev_u n273_689 rfl
theorem n273_690 : mx_ins 273 690 = some (.iaload, 1) := mx_ins_of mi273 dL_law_690 rfl
theorem u273_690 : ev d 273 690 lo st h = evI d 273 690 691 lo st h .iaload := ev_u n273_690 rfl
theorem n273_691 : mx_ins 273 691 = some ((.aload_n 0), 1) := mx_ins_of mi273 dL_law_691 rfl
theorem u273_691 : ev d 273 691 lo st h = evS (mx_ldA 0) d 273 692 lo st h := ev_s n273_691 rfl rfl
theorem n273_692 : mx_ins 273 692 = some ((.iload_n 3), 1) := mx_ins_of mi273 dL_law_692 rfl
theorem u273_692 : ev d 273 692 lo st h = evS (mx_ldI 3) d 273 693 lo st h := ev_s n273_692 rfl rfl
theorem n273_693 : mx_ins 273 693 = some ((.iconst 2), 1) := mx_ins_of mi273 dL_law_693 rfl
theorem u273_693 : ev d 273 693 lo st h = ev d 273 694 lo (.int 2 :: st) h := (ev_s (f := mx_push (.int 2)) n273_693 rfl rfl).trans es_push
theorem n273_694 : mx_ins 273 694 = some (.iadd, 1) := mx_ins_of mi273 dL_law_694 rfl
theorem u273_694 : ev d 273 694 lo st h = evI d 273 694 695 lo st h .iadd := ev_u n273_694 rfl
theorem n273_695 : mx_ins 273 695 = some (.iaload, 1) := mx_ins_of mi273 dL_law_695 rfl
theorem u273_695 : ev d 273 695 lo st h = evI d 273 695 696 lo st h .iaload := ev_u n273_695 rfl
theorem n273_696 : mx_ins 273 696 = some ((.invokevirtual 88), 3) := mx_ins_of mi273 dL_law_696 rfl
theorem u273_696 : ev d 273 696 lo st h = evIn d 273 696 699 37 88 3 false lo st h := ev_inv n273_696 rfl rfl ow273 ia37_88
theorem n273_699 : mx_ins 273 699 = some ((.aload_n 2), 1) := mx_ins_of mi273 dL_law_699 rfl
theorem u273_699 : ev d 273 699 lo st h = evS (mx_ldA 2) d 273 700 lo st h := ev_s n273_699 rfl rfl
theorem n273_700 : mx_ins 273 700 = some ((.aload_n 0), 1) := mx_ins_of mi273 dL_law_700 rfl
theorem u273_700 : ev d 273 700 lo st h = evS (mx_ldA 0) d 273 701 lo st h := ev_s n273_700 rfl rfl
theorem n273_701 : mx_ins 273 701 = some ((.iload_n 3), 1) := mx_ins_of mi273 dL_law_701 rfl
theorem u273_701 : ev d 273 701 lo st h = evS (mx_ldI 3) d 273 702 lo st h := ev_s n273_701 rfl rfl
theorem n273_702 : mx_ins 273 702 = some ((.iconst 1), 1) := mx_ins_of mi273 dL_law_702 rfl
theorem u273_702 : ev d 273 702 lo st h = ev d 273 703 lo (.int 1 :: st) h := (ev_s (f := mx_push (.int 1)) n273_702 rfl rfl).trans es_push
theorem n273_703 : mx_ins 273 703 = some (.iadd, 1) := mx_ins_of mi273 dL_law_703 rfl
theorem u273_703 : ev d 273 703 lo st h = evI d 273 703 704 lo st h .iadd := ev_u n273_703 rfl
theorem n273_704 : mx_ins 273 704 = some (.iaload, 1) := mx_ins_of mi273 dL_law_704 rfl
theorem u273_704 : ev d 273 704 lo st h = evI d 273 704 705 lo st h .iaload := ev_u n273_704 rfl
theorem n273_705 : mx_ins 273 705 = some ((.aload_n 0), 1) := mx_ins_of mi273 dL_law_705 rfl
theorem u273_705 : ev d 273 705 lo st h = evS (mx_ldA 0) d 273 706 lo st h := ev_s n273_705 rfl rfl
theorem n273_706 : mx_ins 273 706 = some ((.iload_n 3), 1) := mx_ins_of mi273 dL_law_706 rfl
theorem u273_706 : ev d 273 706 lo st h = evS (mx_ldI 3) d 273 707 lo st h := ev_s n273_706 rfl rfl
theorem n273_707 : mx_ins 273 707 = some ((.iconst 2), 1) := mx_ins_of mi273 dL_law_707 rfl
theorem u273_707 : ev d 273 707 lo st h = ev d 273 708 lo (.int 2 :: st) h := (ev_s (f := mx_push (.int 2)) n273_707 rfl rfl).trans es_push
theorem n273_708 : mx_ins 273 708 = some (.iadd, 1) := mx_ins_of mi273 dL_law_708 rfl
theorem u273_708 : ev d 273 708 lo st h = evI d 273 708 709 lo st h .iadd := ev_u n273_708 rfl
theorem n273_709 : mx_ins 273 709 = some (.iaload, 1) := mx_ins_of mi273 dL_law_709 rfl
theorem u273_709 : ev d 273 709 lo st h = evI d 273 709 710 lo st h .iaload := ev_u n273_709 rfl
theorem n273_710 : mx_ins 273 710 = some ((.invokevirtual 91), 3) := mx_ins_of mi273 dL_law_710 rfl
theorem u273_710 : ev d 273 710 lo st h = evIn d 273 710 713 37 91 3 false lo st h := ev_inv n273_710 rfl rfl ow273 ia37_91
theorem n273_713 : mx_ins 273 713 = some ((.if_icmp .eq 628), 3) := mx_ins_of mi273 dL_law_713 rfl
theorem u273_713 : ev d 273 713 lo st h = evK .eq d 273 1341 716 lo st h := ev_ic n273_713 rfl rfl
theorem n273_716 : mx_ins 273 716 = some ((.iconst 0), 1) := mx_ins_of mi273 dL_law_716 rfl
theorem u273_716 : ev d 273 716 lo st h = ev d 273 717 lo (.int 0 :: st) h := (ev_s (f := mx_push (.int 0)) n273_716 rfl rfl).trans es_push
theorem n273_717 : mx_ins 273 717 = some (.ireturn, 1) := mx_ins_of mi273 dL_law_717 rfl
theorem u273_717 : ev d 273 717 lo st h = evI d 273 717 718 lo st h .ireturn := ev_u n273_717 rfl
theorem n273_718 : mx_ins 273 718 = some ((.aload_n 1), 1) := mx_ins_of mi273 dL_law_718 rfl
theorem u273_718 : ev d 273 718 lo st h = evS (mx_ldA 1) d 273 719 lo st h := ev_s n273_718 rfl rfl
theorem n273_719 : mx_ins 273 719 = some ((.aload_n 0), 1) := mx_ins_of mi273 dL_law_719 rfl
theorem u273_719 : ev d 273 719 lo st h = evS (mx_ldA 0) d 273 720 lo st h := ev_s n273_719 rfl rfl
theorem n273_720 : mx_ins 273 720 = some ((.iload_n 3), 1) := mx_ins_of mi273 dL_law_720 rfl
theorem u273_720 : ev d 273 720 lo st h = evS (mx_ldI 3) d 273 721 lo st h := ev_s n273_720 rfl rfl
theorem n273_721 : mx_ins 273 721 = some ((.iconst 1), 1) := mx_ins_of mi273 dL_law_721 rfl
theorem u273_721 : ev d 273 721 lo st h = ev d 273 722 lo (.int 1 :: st) h := (ev_s (f := mx_push (.int 1)) n273_721 rfl rfl).trans es_push
theorem n273_722 : mx_ins 273 722 = some (.iadd, 1) := mx_ins_of mi273 dL_law_722 rfl
theorem u273_722 : ev d 273 722 lo st h = evI d 273 722 723 lo st h .iadd := ev_u n273_722 rfl
theorem n273_723 : mx_ins 273 723 = some (.iaload, 1) := mx_ins_of mi273 dL_law_723 rfl
theorem u273_723 : ev d 273 723 lo st h = evI d 273 723 724 lo st h .iaload := ev_u n273_723 rfl
theorem n273_724 : mx_ins 273 724 = some ((.aload_n 0), 1) := mx_ins_of mi273 dL_law_724 rfl
theorem u273_724 : ev d 273 724 lo st h = evS (mx_ldA 0) d 273 725 lo st h := ev_s n273_724 rfl rfl
theorem n273_725 : mx_ins 273 725 = some ((.iload_n 3), 1) := mx_ins_of mi273 dL_law_725 rfl
theorem u273_725 : ev d 273 725 lo st h = evS (mx_ldI 3) d 273 726 lo st h := ev_s n273_725 rfl rfl
theorem n273_726 : mx_ins 273 726 = some ((.iconst 2), 1) := mx_ins_of mi273 dL_law_726 rfl
theorem u273_726 : ev d 273 726 lo st h = ev d 273 727 lo (.int 2 :: st) h := (ev_s (f := mx_push (.int 2)) n273_726 rfl rfl).trans es_push
theorem n273_727 : mx_ins 273 727 = some (.iadd, 1) := mx_ins_of mi273 dL_law_727 rfl
theorem u273_727 : ev d 273 727 lo st h = evI d 273 727 728 lo st h .iadd := ev_u n273_727 rfl
theorem n273_728 : mx_ins 273 728 = some (.iaload, 1) := mx_ins_of mi273 dL_law_728 rfl
theorem u273_728 : ev d 273 728 lo st h = evI d 273 728 729 lo st h .iaload := ev_u n273_728 rfl
theorem n273_729 : mx_ins 273 729 = some ((.invokevirtual 92), 3) := mx_ins_of mi273 dL_law_729 rfl
theorem u273_729 : ev d 273 729 lo st h = evIn d 273 729 732 37 92 3 false lo st h := ev_inv n273_729 rfl rfl ow273 ia37_92
theorem n273_732 : mx_ins 273 732 = some ((.aload_n 2), 1) := mx_ins_of mi273 dL_law_732 rfl
theorem u273_732 : ev d 273 732 lo st h = evS (mx_ldA 2) d 273 733 lo st h := ev_s n273_732 rfl rfl
theorem n273_733 : mx_ins 273 733 = some ((.aload_n 0), 1) := mx_ins_of mi273 dL_law_733 rfl
theorem u273_733 : ev d 273 733 lo st h = evS (mx_ldA 0) d 273 734 lo st h := ev_s n273_733 rfl rfl
theorem n273_734 : mx_ins 273 734 = some ((.iload_n 3), 1) := mx_ins_of mi273 dL_law_734 rfl
theorem u273_734 : ev d 273 734 lo st h = evS (mx_ldI 3) d 273 735 lo st h := ev_s n273_734 rfl rfl
theorem n273_735 : mx_ins 273 735 = some ((.iconst 1), 1) := mx_ins_of mi273 dL_law_735 rfl
theorem u273_735 : ev d 273 735 lo st h = ev d 273 736 lo (.int 1 :: st) h := (ev_s (f := mx_push (.int 1)) n273_735 rfl rfl).trans es_push
theorem n273_736 : mx_ins 273 736 = some (.iadd, 1) := mx_ins_of mi273 dL_law_736 rfl
theorem u273_736 : ev d 273 736 lo st h = evI d 273 736 737 lo st h .iadd := ev_u n273_736 rfl
theorem n273_737 : mx_ins 273 737 = some (.iaload, 1) := mx_ins_of mi273 dL_law_737 rfl
theorem u273_737 : ev d 273 737 lo st h = evI d 273 737 738 lo st h .iaload := ev_u n273_737 rfl
theorem n273_738 : mx_ins 273 738 = some ((.aload_n 0), 1) := mx_ins_of mi273 dL_law_738 rfl
theorem u273_738 : ev d 273 738 lo st h = evS (mx_ldA 0) d 273 739 lo st h := ev_s n273_738 rfl rfl
theorem n273_739 : mx_ins 273 739 = some ((.iload_n 3), 1) := mx_ins_of mi273 dL_law_739 rfl
theorem u273_739 : ev d 273 739 lo st h = evS (mx_ldI 3) d 273 740 lo st h := ev_s n273_739 rfl rfl
theorem n273_740 : mx_ins 273 740 = some ((.iconst 2), 1) := mx_ins_of mi273 dL_law_740 rfl
theorem u273_740 : ev d 273 740 lo st h = ev d 273 741 lo (.int 2 :: st) h := (ev_s (f := mx_push (.int 2)) n273_740 rfl rfl).trans es_push
theorem n273_741 : mx_ins 273 741 = some (.iadd, 1) := mx_ins_of mi273 dL_law_741 rfl
theorem u273_741 : ev d 273 741 lo st h = evI d 273 741 742 lo st h .iadd := ev_u n273_741 rfl
theorem n273_742 : mx_ins 273 742 = some (.iaload, 1) := mx_ins_of mi273 dL_law_742 rfl
theorem u273_742 : ev d 273 742 lo st h = evI d 273 742 743 lo st h .iaload := ev_u n273_742 rfl
theorem n273_743 : mx_ins 273 743 = some ((.invokevirtual 95), 3) := mx_ins_of mi273 dL_law_743 rfl
theorem u273_743 : ev d 273 743 lo st h = evIn d 273 743 746 37 95 3 false lo st h := ev_inv n273_743 rfl rfl ow273 ia37_95
theorem n273_746 : mx_ins 273 746 = some ((.if_icmp .eq 595), 3) := mx_ins_of mi273 dL_law_746 rfl
theorem u273_746 : ev d 273 746 lo st h = evK .eq d 273 1341 749 lo st h := ev_ic n273_746 rfl rfl
theorem n273_749 : mx_ins 273 749 = some ((.iconst 0), 1) := mx_ins_of mi273 dL_law_749 rfl
theorem u273_749 : ev d 273 749 lo st h = ev d 273 750 lo (.int 0 :: st) h := (ev_s (f := mx_push (.int 0)) n273_749 rfl rfl).trans es_push
theorem n273_750 : mx_ins 273 750 = some (.ireturn, 1) := mx_ins_of mi273 dL_law_750 rfl
theorem u273_750 : ev d 273 750 lo st h = evI d 273 750 751 lo st h .ireturn := ev_u n273_750 rfl
theorem n273_751 : mx_ins 273 751 = some ((.aload_n 1), 1) := mx_ins_of mi273 dL_law_751 rfl
theorem u273_751 : ev d 273 751 lo st h = evS (mx_ldA 1) d 273 752 lo st h := ev_s n273_751 rfl rfl
theorem n273_752 : mx_ins 273 752 = some ((.aload_n 0), 1) := mx_ins_of mi273 dL_law_752 rfl
theorem u273_752 : ev d 273 752 lo st h = evS (mx_ldA 0) d 273 753 lo st h := ev_s n273_752 rfl rfl
theorem n273_753 : mx_ins 273 753 = some ((.iload_n 3), 1) := mx_ins_of mi273 dL_law_753 rfl
theorem u273_753 : ev d 273 753 lo st h = evS (mx_ldI 3) d 273 754 lo st h := ev_s n273_753 rfl rfl
theorem n273_754 : mx_ins 273 754 = some ((.iconst 1), 1) := mx_ins_of mi273 dL_law_754 rfl
theorem u273_754 : ev d 273 754 lo st h = ev d 273 755 lo (.int 1 :: st) h := (ev_s (f := mx_push (.int 1)) n273_754 rfl rfl).trans es_push
theorem n273_755 : mx_ins 273 755 = some (.iadd, 1) := mx_ins_of mi273 dL_law_755 rfl
theorem u273_755 : ev d 273 755 lo st h = evI d 273 755 756 lo st h .iadd := ev_u n273_755 rfl
theorem n273_756 : mx_ins 273 756 = some (.iaload, 1) := mx_ins_of mi273 dL_law_756 rfl
theorem u273_756 : ev d 273 756 lo st h = evI d 273 756 757 lo st h .iaload := ev_u n273_756 rfl
theorem n273_757 : mx_ins 273 757 = some ((.invokevirtual 96), 3) := mx_ins_of mi273 dL_law_757 rfl
theorem u273_757 : ev d 273 757 lo st h = evIn d 273 757 760 37 96 2 false lo st h := ev_inv n273_757 rfl rfl ow273 ia37_96
theorem n273_760 : mx_ins 273 760 = some ((.aload_n 2), 1) := mx_ins_of mi273 dL_law_760 rfl
theorem u273_760 : ev d 273 760 lo st h = evS (mx_ldA 2) d 273 761 lo st h := ev_s n273_760 rfl rfl
theorem n273_761 : mx_ins 273 761 = some ((.aload_n 0), 1) := mx_ins_of mi273 dL_law_761 rfl
theorem u273_761 : ev d 273 761 lo st h = evS (mx_ldA 0) d 273 762 lo st h := ev_s n273_761 rfl rfl
theorem n273_762 : mx_ins 273 762 = some ((.iload_n 3), 1) := mx_ins_of mi273 dL_law_762 rfl
theorem u273_762 : ev d 273 762 lo st h = evS (mx_ldI 3) d 273 763 lo st h := ev_s n273_762 rfl rfl
theorem n273_763 : mx_ins 273 763 = some ((.iconst 1), 1) := mx_ins_of mi273 dL_law_763 rfl
theorem u273_763 : ev d 273 763 lo st h = ev d 273 764 lo (.int 1 :: st) h := (ev_s (f := mx_push (.int 1)) n273_763 rfl rfl).trans es_push
theorem n273_764 : mx_ins 273 764 = some (.iadd, 1) := mx_ins_of mi273 dL_law_764 rfl
theorem u273_764 : ev d 273 764 lo st h = evI d 273 764 765 lo st h .iadd := ev_u n273_764 rfl
theorem n273_765 : mx_ins 273 765 = some (.iaload, 1) := mx_ins_of mi273 dL_law_765 rfl
theorem u273_765 : ev d 273 765 lo st h = evI d 273 765 766 lo st h .iaload := ev_u n273_765 rfl
theorem n273_766 : mx_ins 273 766 = some ((.invokevirtual 99), 3) := mx_ins_of mi273 dL_law_766 rfl
theorem u273_766 : ev d 273 766 lo st h = evIn d 273 766 769 37 99 2 false lo st h := ev_inv n273_766 rfl rfl ow273 ia37_99
theorem n273_769 : mx_ins 273 769 = some ((.if_icmp .eq 572), 3) := mx_ins_of mi273 dL_law_769 rfl
theorem u273_769 : ev d 273 769 lo st h = evK .eq d 273 1341 772 lo st h := ev_ic n273_769 rfl rfl
theorem n273_772 : mx_ins 273 772 = some ((.iconst 0), 1) := mx_ins_of mi273 dL_law_772 rfl
theorem u273_772 : ev d 273 772 lo st h = ev d 273 773 lo (.int 0 :: st) h := (ev_s (f := mx_push (.int 0)) n273_772 rfl rfl).trans es_push
theorem n273_773 : mx_ins 273 773 = some (.ireturn, 1) := mx_ins_of mi273 dL_law_773 rfl
theorem u273_773 : ev d 273 773 lo st h = evI d 273 773 774 lo st h .ireturn := ev_u n273_773 rfl
theorem n273_774 : mx_ins 273 774 = some ((.aload_n 1), 1) := mx_ins_of mi273 dL_law_774 rfl
theorem u273_774 : ev d 273 774 lo st h = evS (mx_ldA 1) d 273 775 lo st h := ev_s n273_774 rfl rfl
theorem n273_775 : mx_ins 273 775 = some ((.aload_n 0), 1) := mx_ins_of mi273 dL_law_775 rfl
theorem u273_775 : ev d 273 775 lo st h = evS (mx_ldA 0) d 273 776 lo st h := ev_s n273_775 rfl rfl
theorem n273_776 : mx_ins 273 776 = some ((.iload_n 3), 1) := mx_ins_of mi273 dL_law_776 rfl
theorem u273_776 : ev d 273 776 lo st h = evS (mx_ldI 3) d 273 777 lo st h := ev_s n273_776 rfl rfl
theorem n273_777 : mx_ins 273 777 = some ((.iconst 1), 1) := mx_ins_of mi273 dL_law_777 rfl
theorem u273_777 : ev d 273 777 lo st h = ev d 273 778 lo (.int 1 :: st) h := (ev_s (f := mx_push (.int 1)) n273_777 rfl rfl).trans es_push
theorem n273_778 : mx_ins 273 778 = some (.iadd, 1) := mx_ins_of mi273 dL_law_778 rfl
theorem u273_778 : ev d 273 778 lo st h = evI d 273 778 779 lo st h .iadd := ev_u n273_778 rfl
theorem n273_779 : mx_ins 273 779 = some (.iaload, 1) := mx_ins_of mi273 dL_law_779 rfl
theorem u273_779 : ev d 273 779 lo st h = evI d 273 779 780 lo st h .iaload := ev_u n273_779 rfl
theorem n273_780 : mx_ins 273 780 = some ((.invokevirtual 100), 3) := mx_ins_of mi273 dL_law_780 rfl
theorem u273_780 : ev d 273 780 lo st h = evIn d 273 780 783 37 100 2 false lo st h := ev_inv n273_780 rfl rfl ow273 ia37_100
theorem n273_783 : mx_ins 273 783 = some ((.aload_n 2), 1) := mx_ins_of mi273 dL_law_783 rfl
theorem u273_783 : ev d 273 783 lo st h = evS (mx_ldA 2) d 273 784 lo st h := ev_s n273_783 rfl rfl
theorem n273_784 : mx_ins 273 784 = some ((.aload_n 0), 1) := mx_ins_of mi273 dL_law_784 rfl
theorem u273_784 : ev d 273 784 lo st h = evS (mx_ldA 0) d 273 785 lo st h := ev_s n273_784 rfl rfl
theorem n273_785 : mx_ins 273 785 = some ((.iload_n 3), 1) := mx_ins_of mi273 dL_law_785 rfl
theorem u273_785 : ev d 273 785 lo st h = evS (mx_ldI 3) d 273 786 lo st h := ev_s n273_785 rfl rfl
theorem n273_786 : mx_ins 273 786 = some ((.iconst 1), 1) := mx_ins_of mi273 dL_law_786 rfl
theorem u273_786 : ev d 273 786 lo st h = ev d 273 787 lo (.int 1 :: st) h := (ev_s (f := mx_push (.int 1)) n273_786 rfl rfl).trans es_push
theorem n273_787 : mx_ins 273 787 = some (.iadd, 1) := mx_ins_of mi273 dL_law_787 rfl
theorem u273_787 : ev d 273 787 lo st h = evI d 273 787 788 lo st h .iadd := ev_u n273_787 rfl
theorem n273_788 : mx_ins 273 788 = some (.iaload, 1) := mx_ins_of mi273 dL_law_788 rfl
theorem u273_788 : ev d 273 788 lo st h = evI d 273 788 789 lo st h .iaload := ev_u n273_788 rfl
theorem n273_789 : mx_ins 273 789 = some ((.invokevirtual 103), 3) := mx_ins_of mi273 dL_law_789 rfl
theorem u273_789 : ev d 273 789 lo st h = evIn d 273 789 792 37 103 2 false lo st h := ev_inv n273_789 rfl rfl ow273 ia37_103
theorem n273_792 : mx_ins 273 792 = some ((.if_icmp .eq 549), 3) := mx_ins_of mi273 dL_law_792 rfl
theorem u273_792 : ev d 273 792 lo st h = evK .eq d 273 1341 795 lo st h := ev_ic n273_792 rfl rfl
theorem n273_795 : mx_ins 273 795 = some ((.iconst 0), 1) := mx_ins_of mi273 dL_law_795 rfl
theorem u273_795 : ev d 273 795 lo st h = ev d 273 796 lo (.int 0 :: st) h := (ev_s (f := mx_push (.int 0)) n273_795 rfl rfl).trans es_push
theorem n273_796 : mx_ins 273 796 = some (.ireturn, 1) := mx_ins_of mi273 dL_law_796 rfl
theorem u273_796 : ev d 273 796 lo st h = evI d 273 796 797 lo st h .ireturn := ev_u n273_796 rfl
theorem n273_797 : mx_ins 273 797 = some ((.aload_n 1), 1) := mx_ins_of mi273 dL_law_797 rfl
theorem u273_797 : ev d 273 797 lo st h = evS (mx_ldA 1) d 273 798 lo st h := ev_s n273_797 rfl rfl
theorem n273_798 : mx_ins 273 798 = some ((.aload_n 0), 1) := mx_ins_of mi273 dL_law_798 rfl
theorem u273_798 : ev d 273 798 lo st h = evS (mx_ldA 0) d 273 799 lo st h := ev_s n273_798 rfl rfl
theorem n273_799 : mx_ins 273 799 = some ((.iload_n 3), 1) := mx_ins_of mi273 dL_law_799 rfl
theorem u273_799 : ev d 273 799 lo st h = evS (mx_ldI 3) d 273 800 lo st h := ev_s n273_799 rfl rfl
theorem n273_800 : mx_ins 273 800 = some ((.iconst 1), 1) := mx_ins_of mi273 dL_law_800 rfl
theorem u273_800 : ev d 273 800 lo st h = ev d 273 801 lo (.int 1 :: st) h := (ev_s (f := mx_push (.int 1)) n273_800 rfl rfl).trans es_push
theorem n273_801 : mx_ins 273 801 = some (.iadd, 1) := mx_ins_of mi273 dL_law_801 rfl
theorem u273_801 : ev d 273 801 lo st h = evI d 273 801 802 lo st h .iadd := ev_u n273_801 rfl
theorem n273_802 : mx_ins 273 802 = some (.iaload, 1) := mx_ins_of mi273 dL_law_802 rfl
theorem u273_802 : ev d 273 802 lo st h = evI d 273 802 803 lo st h .iaload := ev_u n273_802 rfl
theorem n273_803 : mx_ins 273 803 = some ((.aload_n 0), 1) := mx_ins_of mi273 dL_law_803 rfl
theorem u273_803 : ev d 273 803 lo st h = evS (mx_ldA 0) d 273 804 lo st h := ev_s n273_803 rfl rfl
theorem n273_804 : mx_ins 273 804 = some ((.iload_n 3), 1) := mx_ins_of mi273 dL_law_804 rfl
theorem u273_804 : ev d 273 804 lo st h = evS (mx_ldI 3) d 273 805 lo st h := ev_s n273_804 rfl rfl
theorem n273_805 : mx_ins 273 805 = some ((.iconst 2), 1) := mx_ins_of mi273 dL_law_805 rfl
theorem u273_805 : ev d 273 805 lo st h = ev d 273 806 lo (.int 2 :: st) h := (ev_s (f := mx_push (.int 2)) n273_805 rfl rfl).trans es_push
theorem n273_806 : mx_ins 273 806 = some (.iadd, 1) := mx_ins_of mi273 dL_law_806 rfl
theorem u273_806 : ev d 273 806 lo st h = evI d 273 806 807 lo st h .iadd := ev_u n273_806 rfl
theorem n273_807 : mx_ins 273 807 = some (.iaload, 1) := mx_ins_of mi273 dL_law_807 rfl
theorem u273_807 : ev d 273 807 lo st h = evI d 273 807 808 lo st h .iaload := ev_u n273_807 rfl
theorem n273_808 : mx_ins 273 808 = some ((.invokevirtual 104), 3) := mx_ins_of mi273 dL_law_808 rfl
theorem u273_808 : ev d 273 808 lo st h = evIn d 273 808 811 37 104 3 false lo st h := ev_inv n273_808 rfl rfl ow273 ia37_104
theorem n273_811 : mx_ins 273 811 = some ((.aload_n 2), 1) := mx_ins_of mi273 dL_law_811 rfl
theorem u273_811 : ev d 273 811 lo st h = evS (mx_ldA 2) d 273 812 lo st h := ev_s n273_811 rfl rfl
theorem n273_812 : mx_ins 273 812 = some ((.aload_n 0), 1) := mx_ins_of mi273 dL_law_812 rfl
theorem u273_812 : ev d 273 812 lo st h = evS (mx_ldA 0) d 273 813 lo st h := ev_s n273_812 rfl rfl
theorem n273_813 : mx_ins 273 813 = some ((.iload_n 3), 1) := mx_ins_of mi273 dL_law_813 rfl
theorem u273_813 : ev d 273 813 lo st h = evS (mx_ldI 3) d 273 814 lo st h := ev_s n273_813 rfl rfl
theorem n273_814 : mx_ins 273 814 = some ((.iconst 1), 1) := mx_ins_of mi273 dL_law_814 rfl
theorem u273_814 : ev d 273 814 lo st h = ev d 273 815 lo (.int 1 :: st) h := (ev_s (f := mx_push (.int 1)) n273_814 rfl rfl).trans es_push
theorem n273_815 : mx_ins 273 815 = some (.iadd, 1) := mx_ins_of mi273 dL_law_815 rfl
theorem u273_815 : ev d 273 815 lo st h = evI d 273 815 816 lo st h .iadd := ev_u n273_815 rfl
theorem n273_816 : mx_ins 273 816 = some (.iaload, 1) := mx_ins_of mi273 dL_law_816 rfl
theorem u273_816 : ev d 273 816 lo st h = evI d 273 816 817 lo st h .iaload := ev_u n273_816 rfl
theorem n273_817 : mx_ins 273 817 = some ((.aload_n 0), 1) := mx_ins_of mi273 dL_law_817 rfl
theorem u273_817 : ev d 273 817 lo st h = evS (mx_ldA 0) d 273 818 lo st h := ev_s n273_817 rfl rfl
theorem n273_818 : mx_ins 273 818 = some ((.iload_n 3), 1) := mx_ins_of mi273 dL_law_818 rfl
theorem u273_818 : ev d 273 818 lo st h = evS (mx_ldI 3) d 273 819 lo st h := ev_s n273_818 rfl rfl
theorem n273_819 : mx_ins 273 819 = some ((.iconst 2), 1) := mx_ins_of mi273 dL_law_819 rfl
theorem u273_819 : ev d 273 819 lo st h = ev d 273 820 lo (.int 2 :: st) h := (ev_s (f := mx_push (.int 2)) n273_819 rfl rfl).trans es_push
theorem n273_820 : mx_ins 273 820 = some (.iadd, 1) := mx_ins_of mi273 dL_law_820 rfl
theorem u273_820 : ev d 273 820 lo st h = evI d 273 820 821 lo st h .iadd := ev_u n273_820 rfl
theorem n273_821 : mx_ins 273 821 = some (.iaload, 1) := mx_ins_of mi273 dL_law_821 rfl
theorem u273_821 : ev d 273 821 lo st h = evI d 273 821 822 lo st h .iaload := ev_u n273_821 rfl
theorem n273_822 : mx_ins 273 822 = some ((.invokevirtual 107), 3) := mx_ins_of mi273 dL_law_822 rfl
theorem u273_822 : ev d 273 822 lo st h = evIn d 273 822 825 37 107 3 false lo st h := ev_inv n273_822 rfl rfl ow273 ia37_107
theorem n273_825 : mx_ins 273 825 = some ((.if_icmp .eq 516), 3) := mx_ins_of mi273 dL_law_825 rfl
theorem u273_825 : ev d 273 825 lo st h = evK .eq d 273 1341 828 lo st h := ev_ic n273_825 rfl rfl
theorem n273_828 : mx_ins 273 828 = some ((.iconst 0), 1) := mx_ins_of mi273 dL_law_828 rfl
theorem u273_828 : ev d 273 828 lo st h = ev d 273 829 lo (.int 0 :: st) h := (ev_s (f := mx_push (.int 0)) n273_828 rfl rfl).trans es_push
theorem n273_829 : mx_ins 273 829 = some (.ireturn, 1) := mx_ins_of mi273 dL_law_829 rfl
theorem u273_829 : ev d 273 829 lo st h = evI d 273 829 830 lo st h .ireturn := ev_u n273_829 rfl
theorem n273_830 : mx_ins 273 830 = some ((.aload_n 1), 1) := mx_ins_of mi273 dL_law_830 rfl
theorem u273_830 : ev d 273 830 lo st h = evS (mx_ldA 1) d 273 831 lo st h := ev_s n273_830 rfl rfl
theorem n273_831 : mx_ins 273 831 = some ((.invokevirtual 108), 3) := mx_ins_of mi273 dL_law_831 rfl
theorem u273_831 : ev d 273 831 lo st h = evIn d 273 831 834 37 108 1 false lo st h := ev_inv n273_831 rfl rfl ow273 ia37_108
theorem n273_834 : mx_ins 273 834 = some ((.aload_n 2), 1) := mx_ins_of mi273 dL_law_834 rfl
theorem u273_834 : ev d 273 834 lo st h = evS (mx_ldA 2) d 273 835 lo st h := ev_s n273_834 rfl rfl
theorem n273_835 : mx_ins 273 835 = some ((.invokevirtual 111), 3) := mx_ins_of mi273 dL_law_835 rfl
theorem u273_835 : ev d 273 835 lo st h = evIn d 273 835 838 37 111 1 false lo st h := ev_inv n273_835 rfl rfl ow273 ia37_111
theorem n273_838 : mx_ins 273 838 = some ((.if_icmp .eq 503), 3) := mx_ins_of mi273 dL_law_838 rfl
theorem u273_838 : ev d 273 838 lo st h = evK .eq d 273 1341 841 lo st h := ev_ic n273_838 rfl rfl
theorem n273_841 : mx_ins 273 841 = some ((.iconst 0), 1) := mx_ins_of mi273 dL_law_841 rfl
theorem u273_841 : ev d 273 841 lo st h = ev d 273 842 lo (.int 0 :: st) h := (ev_s (f := mx_push (.int 0)) n273_841 rfl rfl).trans es_push
theorem n273_842 : mx_ins 273 842 = some (.ireturn, 1) := mx_ins_of mi273 dL_law_842 rfl
theorem u273_842 : ev d 273 842 lo st h = evI d 273 842 843 lo st h .ireturn := ev_u n273_842 rfl
theorem n273_843 : mx_ins 273 843 = some ((.aload_n 1), 1) := mx_ins_of mi273 dL_law_843 rfl
theorem u273_843 : ev d 273 843 lo st h = evS (mx_ldA 1) d 273 844 lo st h := ev_s n273_843 rfl rfl
theorem n273_844 : mx_ins 273 844 = some ((.aload_n 0), 1) := mx_ins_of mi273 dL_law_844 rfl
theorem u273_844 : ev d 273 844 lo st h = evS (mx_ldA 0) d 273 845 lo st h := ev_s n273_844 rfl rfl
theorem n273_845 : mx_ins 273 845 = some ((.iload_n 3), 1) := mx_ins_of mi273 dL_law_845 rfl
theorem u273_845 : ev d 273 845 lo st h = evS (mx_ldI 3) d 273 846 lo st h := ev_s n273_845 rfl rfl
theorem n273_846 : mx_ins 273 846 = some ((.iconst 1), 1) := mx_ins_of mi273 dL_law_846 rfl
theorem u273_846 : ev d 273 846 lo st h = ev d 273 847 lo (.int 1 :: st) h := (ev_s (f := mx_push (.int 1)) n273_846 rfl rfl).trans es_push
theorem n273_847 : mx_ins 273 847 = some (.iadd, 1) := mx_ins_of mi273 dL_law_847 rfl
theorem u273_847 : ev d 273 847 lo st h = evI d 273 847 848 lo st h .iadd := ev_u n273_847 rfl
theorem n273_848 : mx_ins 273 848 = some (.iaload, 1) := mx_ins_of mi273 dL_law_848 rfl
theorem u273_848 : ev d 273 848 lo st h = evI d 273 848 849 lo st h .iaload := ev_u n273_848 rfl
theorem n273_849 : mx_ins 273 849 = some ((.invokevirtual 112), 3) := mx_ins_of mi273 dL_law_849 rfl
theorem u273_849 : ev d 273 849 lo st h = evIn d 273 849 852 37 112 2 false lo st h := ev_inv n273_849 rfl rfl ow273 ia37_112
theorem n273_852 : mx_ins 273 852 = some ((.aload_n 2), 1) := mx_ins_of mi273 dL_law_852 rfl
theorem u273_852 : ev d 273 852 lo st h = evS (mx_ldA 2) d 273 853 lo st h := ev_s n273_852 rfl rfl
theorem n273_853 : mx_ins 273 853 = some ((.aload_n 0), 1) := mx_ins_of mi273 dL_law_853 rfl
theorem u273_853 : ev d 273 853 lo st h = evS (mx_ldA 0) d 273 854 lo st h := ev_s n273_853 rfl rfl
theorem n273_854 : mx_ins 273 854 = some ((.iload_n 3), 1) := mx_ins_of mi273 dL_law_854 rfl
theorem u273_854 : ev d 273 854 lo st h = evS (mx_ldI 3) d 273 855 lo st h := ev_s n273_854 rfl rfl
theorem n273_855 : mx_ins 273 855 = some ((.iconst 1), 1) := mx_ins_of mi273 dL_law_855 rfl
theorem u273_855 : ev d 273 855 lo st h = ev d 273 856 lo (.int 1 :: st) h := (ev_s (f := mx_push (.int 1)) n273_855 rfl rfl).trans es_push
theorem n273_856 : mx_ins 273 856 = some (.iadd, 1) := mx_ins_of mi273 dL_law_856 rfl
theorem u273_856 : ev d 273 856 lo st h = evI d 273 856 857 lo st h .iadd := ev_u n273_856 rfl
theorem n273_857 : mx_ins 273 857 = some (.iaload, 1) := mx_ins_of mi273 dL_law_857 rfl
theorem u273_857 : ev d 273 857 lo st h = evI d 273 857 858 lo st h .iaload := ev_u n273_857 rfl
theorem n273_858 : mx_ins 273 858 = some ((.invokevirtual 115), 3) := mx_ins_of mi273 dL_law_858 rfl
theorem u273_858 : ev d 273 858 lo st h = evIn d 273 858 861 37 115 2 false lo st h := ev_inv n273_858 rfl rfl ow273 ia37_115
theorem n273_861 : mx_ins 273 861 = some ((.if_icmp .eq 480), 3) := mx_ins_of mi273 dL_law_861 rfl
theorem u273_861 : ev d 273 861 lo st h = evK .eq d 273 1341 864 lo st h := ev_ic n273_861 rfl rfl
theorem n273_864 : mx_ins 273 864 = some ((.iconst 0), 1) := mx_ins_of mi273 dL_law_864 rfl
theorem u273_864 : ev d 273 864 lo st h = ev d 273 865 lo (.int 0 :: st) h := (ev_s (f := mx_push (.int 0)) n273_864 rfl rfl).trans es_push
theorem n273_865 : mx_ins 273 865 = some (.ireturn, 1) := mx_ins_of mi273 dL_law_865 rfl
theorem u273_865 : ev d 273 865 lo st h = evI d 273 865 866 lo st h .ireturn := ev_u n273_865 rfl
theorem n273_866 : mx_ins 273 866 = some ((.aload_n 1), 1) := mx_ins_of mi273 dL_law_866 rfl
theorem u273_866 : ev d 273 866 lo st h = evS (mx_ldA 1) d 273 867 lo st h := ev_s n273_866 rfl rfl
theorem n273_867 : mx_ins 273 867 = some ((.invokevirtual 116), 3) := mx_ins_of mi273 dL_law_867 rfl
theorem u273_867 : ev d 273 867 lo st h = evIn d 273 867 870 37 116 1 false lo st h := ev_inv n273_867 rfl rfl ow273 ia37_116
theorem n273_870 : mx_ins 273 870 = some ((.aload_n 2), 1) := mx_ins_of mi273 dL_law_870 rfl
theorem u273_870 : ev d 273 870 lo st h = evS (mx_ldA 2) d 273 871 lo st h := ev_s n273_870 rfl rfl
theorem n273_871 : mx_ins 273 871 = some ((.invokevirtual 119), 3) := mx_ins_of mi273 dL_law_871 rfl
theorem u273_871 : ev d 273 871 lo st h = evIn d 273 871 874 37 119 1 false lo st h := ev_inv n273_871 rfl rfl ow273 ia37_119
theorem n273_874 : mx_ins 273 874 = some ((.if_icmp .eq 467), 3) := mx_ins_of mi273 dL_law_874 rfl
theorem u273_874 : ev d 273 874 lo st h = evK .eq d 273 1341 877 lo st h := ev_ic n273_874 rfl rfl
theorem n273_877 : mx_ins 273 877 = some ((.iconst 0), 1) := mx_ins_of mi273 dL_law_877 rfl
theorem u273_877 : ev d 273 877 lo st h = ev d 273 878 lo (.int 0 :: st) h := (ev_s (f := mx_push (.int 0)) n273_877 rfl rfl).trans es_push
theorem n273_878 : mx_ins 273 878 = some (.ireturn, 1) := mx_ins_of mi273 dL_law_878 rfl
theorem u273_878 : ev d 273 878 lo st h = evI d 273 878 879 lo st h .ireturn := ev_u n273_878 rfl
theorem n273_879 : mx_ins 273 879 = some ((.aload_n 1), 1) := mx_ins_of mi273 dL_law_879 rfl
theorem u273_879 : ev d 273 879 lo st h = evS (mx_ldA 1) d 273 880 lo st h := ev_s n273_879 rfl rfl
theorem n273_880 : mx_ins 273 880 = some ((.aload_n 0), 1) := mx_ins_of mi273 dL_law_880 rfl
theorem u273_880 : ev d 273 880 lo st h = evS (mx_ldA 0) d 273 881 lo st h := ev_s n273_880 rfl rfl
theorem n273_881 : mx_ins 273 881 = some ((.iload_n 3), 1) := mx_ins_of mi273 dL_law_881 rfl
theorem u273_881 : ev d 273 881 lo st h = evS (mx_ldI 3) d 273 882 lo st h := ev_s n273_881 rfl rfl
theorem n273_882 : mx_ins 273 882 = some ((.iconst 1), 1) := mx_ins_of mi273 dL_law_882 rfl
theorem u273_882 : ev d 273 882 lo st h = ev d 273 883 lo (.int 1 :: st) h := (ev_s (f := mx_push (.int 1)) n273_882 rfl rfl).trans es_push
theorem n273_883 : mx_ins 273 883 = some (.iadd, 1) := mx_ins_of mi273 dL_law_883 rfl
theorem u273_883 : ev d 273 883 lo st h = evI d 273 883 884 lo st h .iadd := ev_u n273_883 rfl
theorem n273_884 : mx_ins 273 884 = some (.iaload, 1) := mx_ins_of mi273 dL_law_884 rfl
theorem u273_884 : ev d 273 884 lo st h = evI d 273 884 885 lo st h .iaload := ev_u n273_884 rfl
theorem n273_885 : mx_ins 273 885 = some ((.aload_n 0), 1) := mx_ins_of mi273 dL_law_885 rfl
theorem u273_885 : ev d 273 885 lo st h = evS (mx_ldA 0) d 273 886 lo st h := ev_s n273_885 rfl rfl
theorem n273_886 : mx_ins 273 886 = some ((.iload_n 3), 1) := mx_ins_of mi273 dL_law_886 rfl
theorem u273_886 : ev d 273 886 lo st h = evS (mx_ldI 3) d 273 887 lo st h := ev_s n273_886 rfl rfl
theorem n273_887 : mx_ins 273 887 = some ((.iconst 2), 1) := mx_ins_of mi273 dL_law_887 rfl
theorem u273_887 : ev d 273 887 lo st h = ev d 273 888 lo (.int 2 :: st) h := (ev_s (f := mx_push (.int 2)) n273_887 rfl rfl).trans es_push
theorem n273_888 : mx_ins 273 888 = some (.iadd, 1) := mx_ins_of mi273 dL_law_888 rfl
theorem u273_888 : ev d 273 888 lo st h = evI d 273 888 889 lo st h .iadd := ev_u n273_888 rfl
theorem n273_889 : mx_ins 273 889 = some (.iaload, 1) := mx_ins_of mi273 dL_law_889 rfl
theorem u273_889 : ev d 273 889 lo st h = evI d 273 889 890 lo st h .iaload := ev_u n273_889 rfl
theorem n273_890 : mx_ins 273 890 = some ((.invokevirtual 120), 3) := mx_ins_of mi273 dL_law_890 rfl
theorem u273_890 : ev d 273 890 lo st h = evIn d 273 890 893 37 120 3 false lo st h := ev_inv n273_890 rfl rfl ow273 ia37_120
theorem n273_893 : mx_ins 273 893 = some ((.aload_n 2), 1) := mx_ins_of mi273 dL_law_893 rfl
theorem u273_893 : ev d 273 893 lo st h = evS (mx_ldA 2) d 273 894 lo st h := ev_s n273_893 rfl rfl
theorem n273_894 : mx_ins 273 894 = some ((.aload_n 0), 1) := mx_ins_of mi273 dL_law_894 rfl
theorem u273_894 : ev d 273 894 lo st h = evS (mx_ldA 0) d 273 895 lo st h := ev_s n273_894 rfl rfl
theorem n273_895 : mx_ins 273 895 = some ((.iload_n 3), 1) := mx_ins_of mi273 dL_law_895 rfl
theorem u273_895 : ev d 273 895 lo st h = evS (mx_ldI 3) d 273 896 lo st h := ev_s n273_895 rfl rfl
theorem n273_896 : mx_ins 273 896 = some ((.iconst 1), 1) := mx_ins_of mi273 dL_law_896 rfl
theorem u273_896 : ev d 273 896 lo st h = ev d 273 897 lo (.int 1 :: st) h := (ev_s (f := mx_push (.int 1)) n273_896 rfl rfl).trans es_push
theorem n273_897 : mx_ins 273 897 = some (.iadd, 1) := mx_ins_of mi273 dL_law_897 rfl
theorem u273_897 : ev d 273 897 lo st h = evI d 273 897 898 lo st h .iadd := ev_u n273_897 rfl
theorem n273_898 : mx_ins 273 898 = some (.iaload, 1) := mx_ins_of mi273 dL_law_898 rfl
theorem u273_898 : ev d 273 898 lo st h = evI d 273 898 899 lo st h .iaload := ev_u n273_898 rfl
theorem n273_899 : mx_ins 273 899 = some ((.aload_n 0), 1) := mx_ins_of mi273 dL_law_899 rfl
theorem u273_899 : ev d 273 899 lo st h = evS (mx_ldA 0) d 273 900 lo st h := ev_s n273_899 rfl rfl
theorem n273_900 : mx_ins 273 900 = some ((.iload_n 3), 1) := mx_ins_of mi273 dL_law_900 rfl
theorem u273_900 : ev d 273 900 lo st h = evS (mx_ldI 3) d 273 901 lo st h := ev_s n273_900 rfl rfl
theorem n273_901 : mx_ins 273 901 = some ((.iconst 2), 1) := mx_ins_of mi273 dL_law_901 rfl
theorem u273_901 : ev d 273 901 lo st h = ev d 273 902 lo (.int 2 :: st) h := (ev_s (f := mx_push (.int 2)) n273_901 rfl rfl).trans es_push
theorem n273_902 : mx_ins 273 902 = some (.iadd, 1) := mx_ins_of mi273 dL_law_902 rfl
theorem u273_902 : ev d 273 902 lo st h = evI d 273 902 903 lo st h .iadd := ev_u n273_902 rfl
theorem n273_903 : mx_ins 273 903 = some (.iaload, 1) := mx_ins_of mi273 dL_law_903 rfl
theorem u273_903 : ev d 273 903 lo st h = evI d 273 903 904 lo st h .iaload := ev_u n273_903 rfl
theorem n273_904 : mx_ins 273 904 = some ((.invokevirtual 123), 3) := mx_ins_of mi273 dL_law_904 rfl
theorem u273_904 : ev d 273 904 lo st h = evIn d 273 904 907 37 123 3 false lo st h := ev_inv n273_904 rfl rfl ow273 ia37_123
theorem n273_907 : mx_ins 273 907 = some ((.if_icmp .eq 434), 3) := mx_ins_of mi273 dL_law_907 rfl
theorem u273_907 : ev d 273 907 lo st h = evK .eq d 273 1341 910 lo st h := ev_ic n273_907 rfl rfl
theorem n273_910 : mx_ins 273 910 = some ((.iconst 0), 1) := mx_ins_of mi273 dL_law_910 rfl
theorem u273_910 : ev d 273 910 lo st h = ev d 273 911 lo (.int 0 :: st) h := (ev_s (f := mx_push (.int 0)) n273_910 rfl rfl).trans es_push
theorem n273_911 : mx_ins 273 911 = some (.ireturn, 1) := mx_ins_of mi273 dL_law_911 rfl
theorem u273_911 : ev d 273 911 lo st h = evI d 273 911 912 lo st h .ireturn := ev_u n273_911 rfl
theorem n273_912 : mx_ins 273 912 = some ((.aload_n 1), 1) := mx_ins_of mi273 dL_law_912 rfl
theorem u273_912 : ev d 273 912 lo st h = evS (mx_ldA 1) d 273 913 lo st h := ev_s n273_912 rfl rfl
theorem n273_913 : mx_ins 273 913 = some ((.aload_n 0), 1) := mx_ins_of mi273 dL_law_913 rfl
theorem u273_913 : ev d 273 913 lo st h = evS (mx_ldA 0) d 273 914 lo st h := ev_s n273_913 rfl rfl
theorem n273_914 : mx_ins 273 914 = some ((.iload_n 3), 1) := mx_ins_of mi273 dL_law_914 rfl
theorem u273_914 : ev d 273 914 lo st h = evS (mx_ldI 3) d 273 915 lo st h := ev_s n273_914 rfl rfl
theorem n273_915 : mx_ins 273 915 = some ((.iconst 1), 1) := mx_ins_of mi273 dL_law_915 rfl
theorem u273_915 : ev d 273 915 lo st h = ev d 273 916 lo (.int 1 :: st) h := (ev_s (f := mx_push (.int 1)) n273_915 rfl rfl).trans es_push
theorem n273_916 : mx_ins 273 916 = some (.iadd, 1) := mx_ins_of mi273 dL_law_916 rfl
theorem u273_916 : ev d 273 916 lo st h = evI d 273 916 917 lo st h .iadd := ev_u n273_916 rfl
theorem n273_917 : mx_ins 273 917 = some (.iaload, 1) := mx_ins_of mi273 dL_law_917 rfl
theorem u273_917 : ev d 273 917 lo st h = evI d 273 917 918 lo st h .iaload := ev_u n273_917 rfl
theorem n273_918 : mx_ins 273 918 = some ((.aload_n 0), 1) := mx_ins_of mi273 dL_law_918 rfl
theorem u273_918 : ev d 273 918 lo st h = evS (mx_ldA 0) d 273 919 lo st h := ev_s n273_918 rfl rfl
theorem n273_919 : mx_ins 273 919 = some ((.iload_n 3), 1) := mx_ins_of mi273 dL_law_919 rfl
theorem u273_919 : ev d 273 919 lo st h = evS (mx_ldI 3) d 273 920 lo st h := ev_s n273_919 rfl rfl
theorem n273_920 : mx_ins 273 920 = some ((.iconst 2), 1) := mx_ins_of mi273 dL_law_920 rfl
theorem u273_920 : ev d 273 920 lo st h = ev d 273 921 lo (.int 2 :: st) h := (ev_s (f := mx_push (.int 2)) n273_920 rfl rfl).trans es_push
theorem n273_921 : mx_ins 273 921 = some (.iadd, 1) := mx_ins_of mi273 dL_law_921 rfl
theorem u273_921 : ev d 273 921 lo st h = evI d 273 921 922 lo st h .iadd := ev_u n273_921 rfl
theorem n273_922 : mx_ins 273 922 = some (.iaload, 1) := mx_ins_of mi273 dL_law_922 rfl
theorem u273_922 : ev d 273 922 lo st h = evI d 273 922 923 lo st h .iaload := ev_u n273_922 rfl
theorem n273_923 : mx_ins 273 923 = some ((.aload_n 0), 1) := mx_ins_of mi273 dL_law_923 rfl
theorem u273_923 : ev d 273 923 lo st h = evS (mx_ldA 0) d 273 924 lo st h := ev_s n273_923 rfl rfl
theorem n273_924 : mx_ins 273 924 = some ((.iload_n 3), 1) := mx_ins_of mi273 dL_law_924 rfl
theorem u273_924 : ev d 273 924 lo st h = evS (mx_ldI 3) d 273 925 lo st h := ev_s n273_924 rfl rfl
theorem n273_925 : mx_ins 273 925 = some ((.iconst 3), 1) := mx_ins_of mi273 dL_law_925 rfl
theorem u273_925 : ev d 273 925 lo st h = ev d 273 926 lo (.int 3 :: st) h := (ev_s (f := mx_push (.int 3)) n273_925 rfl rfl).trans es_push
theorem n273_926 : mx_ins 273 926 = some (.iadd, 1) := mx_ins_of mi273 dL_law_926 rfl
theorem u273_926 : ev d 273 926 lo st h = evI d 273 926 927 lo st h .iadd := ev_u n273_926 rfl
theorem n273_927 : mx_ins 273 927 = some (.iaload, 1) := mx_ins_of mi273 dL_law_927 rfl
theorem u273_927 : ev d 273 927 lo st h = evI d 273 927 928 lo st h .iaload := ev_u n273_927 rfl
theorem n273_928 : mx_ins 273 928 = some ((.invokevirtual 124), 3) := mx_ins_of mi273 dL_law_928 rfl
theorem u273_928 : ev d 273 928 lo st h = evIn d 273 928 931 37 124 4 false lo st h := ev_inv n273_928 rfl rfl ow273 ia37_124
theorem n273_931 : mx_ins 273 931 = some ((.aload_n 2), 1) := mx_ins_of mi273 dL_law_931 rfl
theorem u273_931 : ev d 273 931 lo st h = evS (mx_ldA 2) d 273 932 lo st h := ev_s n273_931 rfl rfl
theorem n273_932 : mx_ins 273 932 = some ((.aload_n 0), 1) := mx_ins_of mi273 dL_law_932 rfl
theorem u273_932 : ev d 273 932 lo st h = evS (mx_ldA 0) d 273 933 lo st h := ev_s n273_932 rfl rfl
theorem n273_933 : mx_ins 273 933 = some ((.iload_n 3), 1) := mx_ins_of mi273 dL_law_933 rfl
theorem u273_933 : ev d 273 933 lo st h = evS (mx_ldI 3) d 273 934 lo st h := ev_s n273_933 rfl rfl
theorem n273_934 : mx_ins 273 934 = some ((.iconst 1), 1) := mx_ins_of mi273 dL_law_934 rfl
theorem u273_934 : ev d 273 934 lo st h = ev d 273 935 lo (.int 1 :: st) h := (ev_s (f := mx_push (.int 1)) n273_934 rfl rfl).trans es_push
theorem n273_935 : mx_ins 273 935 = some (.iadd, 1) := mx_ins_of mi273 dL_law_935 rfl
theorem u273_935 : ev d 273 935 lo st h = evI d 273 935 936 lo st h .iadd := ev_u n273_935 rfl
theorem n273_936 : mx_ins 273 936 = some (.iaload, 1) := mx_ins_of mi273 dL_law_936 rfl
theorem u273_936 : ev d 273 936 lo st h = evI d 273 936 937 lo st h .iaload := ev_u n273_936 rfl
theorem n273_937 : mx_ins 273 937 = some ((.aload_n 0), 1) := mx_ins_of mi273 dL_law_937 rfl
theorem u273_937 : ev d 273 937 lo st h = evS (mx_ldA 0) d 273 938 lo st h := ev_s n273_937 rfl rfl
theorem n273_938 : mx_ins 273 938 = some ((.iload_n 3), 1) := mx_ins_of mi273 dL_law_938 rfl
theorem u273_938 : ev d 273 938 lo st h = evS (mx_ldI 3) d 273 939 lo st h := ev_s n273_938 rfl rfl
theorem n273_939 : mx_ins 273 939 = some ((.iconst 2), 1) := mx_ins_of mi273 dL_law_939 rfl
theorem u273_939 : ev d 273 939 lo st h = ev d 273 940 lo (.int 2 :: st) h := (ev_s (f := mx_push (.int 2)) n273_939 rfl rfl).trans es_push
theorem n273_940 : mx_ins 273 940 = some (.iadd, 1) := mx_ins_of mi273 dL_law_940 rfl
theorem u273_940 : ev d 273 940 lo st h = evI d 273 940 941 lo st h .iadd := ev_u n273_940 rfl
theorem n273_941 : mx_ins 273 941 = some (.iaload, 1) := mx_ins_of mi273 dL_law_941 rfl
theorem u273_941 : ev d 273 941 lo st h = evI d 273 941 942 lo st h .iaload := ev_u n273_941 rfl
theorem n273_942 : mx_ins 273 942 = some ((.aload_n 0), 1) := mx_ins_of mi273 dL_law_942 rfl
theorem u273_942 : ev d 273 942 lo st h = evS (mx_ldA 0) d 273 943 lo st h := ev_s n273_942 rfl rfl
theorem n273_943 : mx_ins 273 943 = some ((.iload_n 3), 1) := mx_ins_of mi273 dL_law_943 rfl
theorem u273_943 : ev d 273 943 lo st h = evS (mx_ldI 3) d 273 944 lo st h := ev_s n273_943 rfl rfl
theorem n273_944 : mx_ins 273 944 = some ((.iconst 3), 1) := mx_ins_of mi273 dL_law_944 rfl
theorem u273_944 : ev d 273 944 lo st h = ev d 273 945 lo (.int 3 :: st) h := (ev_s (f := mx_push (.int 3)) n273_944 rfl rfl).trans es_push
theorem n273_945 : mx_ins 273 945 = some (.iadd, 1) := mx_ins_of mi273 dL_law_945 rfl
theorem u273_945 : ev d 273 945 lo st h = evI d 273 945 946 lo st h .iadd := ev_u n273_945 rfl
theorem n273_946 : mx_ins 273 946 = some (.iaload, 1) := mx_ins_of mi273 dL_law_946 rfl
theorem u273_946 : ev d 273 946 lo st h = evI d 273 946 947 lo st h .iaload := ev_u n273_946 rfl
theorem n273_947 : mx_ins 273 947 = some ((.invokevirtual 127), 3) := mx_ins_of mi273 dL_law_947 rfl
theorem u273_947 : ev d 273 947 lo st h = evIn d 273 947 950 37 127 4 false lo st h := ev_inv n273_947 rfl rfl ow273 ia37_127
theorem n273_950 : mx_ins 273 950 = some ((.if_icmp .eq 391), 3) := mx_ins_of mi273 dL_law_950 rfl
theorem u273_950 : ev d 273 950 lo st h = evK .eq d 273 1341 953 lo st h := ev_ic n273_950 rfl rfl
theorem n273_953 : mx_ins 273 953 = some ((.iconst 0), 1) := mx_ins_of mi273 dL_law_953 rfl
theorem u273_953 : ev d 273 953 lo st h = ev d 273 954 lo (.int 0 :: st) h := (ev_s (f := mx_push (.int 0)) n273_953 rfl rfl).trans es_push
theorem n273_954 : mx_ins 273 954 = some (.ireturn, 1) := mx_ins_of mi273 dL_law_954 rfl
theorem u273_954 : ev d 273 954 lo st h = evI d 273 954 955 lo st h .ireturn := ev_u n273_954 rfl
theorem n273_955 : mx_ins 273 955 = some ((.aload_n 1), 1) := mx_ins_of mi273 dL_law_955 rfl
theorem u273_955 : ev d 273 955 lo st h = evS (mx_ldA 1) d 273 956 lo st h := ev_s n273_955 rfl rfl
theorem n273_956 : mx_ins 273 956 = some ((.invokevirtual 128), 3) := mx_ins_of mi273 dL_law_956 rfl
theorem u273_956 : ev d 273 956 lo st h = evIn d 273 956 959 37 128 1 false lo st h := ev_inv n273_956 rfl rfl ow273 ia37_128
theorem n273_959 : mx_ins 273 959 = some ((.aload_n 2), 1) := mx_ins_of mi273 dL_law_959 rfl
theorem u273_959 : ev d 273 959 lo st h = evS (mx_ldA 2) d 273 960 lo st h := ev_s n273_959 rfl rfl
theorem n273_960 : mx_ins 273 960 = some ((.invokevirtual 131), 3) := mx_ins_of mi273 dL_law_960 rfl
theorem u273_960 : ev d 273 960 lo st h = evIn d 273 960 963 37 131 1 false lo st h := ev_inv n273_960 rfl rfl ow273 ia37_131
theorem n273_963 : mx_ins 273 963 = some ((.if_icmp .eq 378), 3) := mx_ins_of mi273 dL_law_963 rfl
theorem u273_963 : ev d 273 963 lo st h = evK .eq d 273 1341 966 lo st h := ev_ic n273_963 rfl rfl
theorem n273_966 : mx_ins 273 966 = some ((.iconst 0), 1) := mx_ins_of mi273 dL_law_966 rfl
theorem u273_966 : ev d 273 966 lo st h = ev d 273 967 lo (.int 0 :: st) h := (ev_s (f := mx_push (.int 0)) n273_966 rfl rfl).trans es_push
theorem n273_967 : mx_ins 273 967 = some (.ireturn, 1) := mx_ins_of mi273 dL_law_967 rfl
theorem u273_967 : ev d 273 967 lo st h = evI d 273 967 968 lo st h .ireturn := ev_u n273_967 rfl
theorem n273_968 : mx_ins 273 968 = some ((.aload_n 1), 1) := mx_ins_of mi273 dL_law_968 rfl
theorem u273_968 : ev d 273 968 lo st h = evS (mx_ldA 1) d 273 969 lo st h := ev_s n273_968 rfl rfl
theorem n273_969 : mx_ins 273 969 = some ((.aload_n 0), 1) := mx_ins_of mi273 dL_law_969 rfl
theorem u273_969 : ev d 273 969 lo st h = evS (mx_ldA 0) d 273 970 lo st h := ev_s n273_969 rfl rfl
theorem n273_970 : mx_ins 273 970 = some ((.iload_n 3), 1) := mx_ins_of mi273 dL_law_970 rfl
theorem u273_970 : ev d 273 970 lo st h = evS (mx_ldI 3) d 273 971 lo st h := ev_s n273_970 rfl rfl
theorem n273_971 : mx_ins 273 971 = some ((.iconst 1), 1) := mx_ins_of mi273 dL_law_971 rfl
theorem u273_971 : ev d 273 971 lo st h = ev d 273 972 lo (.int 1 :: st) h := (ev_s (f := mx_push (.int 1)) n273_971 rfl rfl).trans es_push
theorem n273_972 : mx_ins 273 972 = some (.iadd, 1) := mx_ins_of mi273 dL_law_972 rfl
theorem u273_972 : ev d 273 972 lo st h = evI d 273 972 973 lo st h .iadd := ev_u n273_972 rfl
theorem n273_973 : mx_ins 273 973 = some (.iaload, 1) := mx_ins_of mi273 dL_law_973 rfl
theorem u273_973 : ev d 273 973 lo st h = evI d 273 973 974 lo st h .iaload := ev_u n273_973 rfl
theorem n273_974 : mx_ins 273 974 = some ((.aload_n 0), 1) := mx_ins_of mi273 dL_law_974 rfl
theorem u273_974 : ev d 273 974 lo st h = evS (mx_ldA 0) d 273 975 lo st h := ev_s n273_974 rfl rfl
theorem n273_975 : mx_ins 273 975 = some ((.iload_n 3), 1) := mx_ins_of mi273 dL_law_975 rfl
theorem u273_975 : ev d 273 975 lo st h = evS (mx_ldI 3) d 273 976 lo st h := ev_s n273_975 rfl rfl
theorem n273_976 : mx_ins 273 976 = some ((.iconst 2), 1) := mx_ins_of mi273 dL_law_976 rfl
theorem u273_976 : ev d 273 976 lo st h = ev d 273 977 lo (.int 2 :: st) h := (ev_s (f := mx_push (.int 2)) n273_976 rfl rfl).trans es_push
theorem n273_977 : mx_ins 273 977 = some (.iadd, 1) := mx_ins_of mi273 dL_law_977 rfl
theorem u273_977 : ev d 273 977 lo st h = evI d 273 977 978 lo st h .iadd := ev_u n273_977 rfl
theorem n273_978 : mx_ins 273 978 = some (.iaload, 1) := mx_ins_of mi273 dL_law_978 rfl
theorem u273_978 : ev d 273 978 lo st h = evI d 273 978 979 lo st h .iaload := ev_u n273_978 rfl
theorem n273_979 : mx_ins 273 979 = some ((.aload_n 0), 1) := mx_ins_of mi273 dL_law_979 rfl
theorem u273_979 : ev d 273 979 lo st h = evS (mx_ldA 0) d 273 980 lo st h := ev_s n273_979 rfl rfl
theorem n273_980 : mx_ins 273 980 = some ((.iload_n 3), 1) := mx_ins_of mi273 dL_law_980 rfl
theorem u273_980 : ev d 273 980 lo st h = evS (mx_ldI 3) d 273 981 lo st h := ev_s n273_980 rfl rfl
theorem n273_981 : mx_ins 273 981 = some ((.iconst 3), 1) := mx_ins_of mi273 dL_law_981 rfl
theorem u273_981 : ev d 273 981 lo st h = ev d 273 982 lo (.int 3 :: st) h := (ev_s (f := mx_push (.int 3)) n273_981 rfl rfl).trans es_push
theorem n273_982 : mx_ins 273 982 = some (.iadd, 1) := mx_ins_of mi273 dL_law_982 rfl
theorem u273_982 : ev d 273 982 lo st h = evI d 273 982 983 lo st h .iadd := ev_u n273_982 rfl
theorem n273_983 : mx_ins 273 983 = some (.iaload, 1) := mx_ins_of mi273 dL_law_983 rfl
theorem u273_983 : ev d 273 983 lo st h = evI d 273 983 984 lo st h .iaload := ev_u n273_983 rfl
theorem n273_984 : mx_ins 273 984 = some ((.aload_n 0), 1) := mx_ins_of mi273 dL_law_984 rfl
theorem u273_984 : ev d 273 984 lo st h = evS (mx_ldA 0) d 273 985 lo st h := ev_s n273_984 rfl rfl
theorem n273_985 : mx_ins 273 985 = some ((.iload_n 3), 1) := mx_ins_of mi273 dL_law_985 rfl
theorem u273_985 : ev d 273 985 lo st h = evS (mx_ldI 3) d 273 986 lo st h := ev_s n273_985 rfl rfl
theorem n273_986 : mx_ins 273 986 = some ((.iconst 4), 1) := mx_ins_of mi273 dL_law_986 rfl
theorem u273_986 : ev d 273 986 lo st h = ev d 273 987 lo (.int 4 :: st) h := (ev_s (f := mx_push (.int 4)) n273_986 rfl rfl).trans es_push
theorem n273_987 : mx_ins 273 987 = some (.iadd, 1) := mx_ins_of mi273 dL_law_987 rfl
theorem u273_987 : ev d 273 987 lo st h = evI d 273 987 988 lo st h .iadd := ev_u n273_987 rfl
theorem n273_988 : mx_ins 273 988 = some (.iaload, 1) := mx_ins_of mi273 dL_law_988 rfl
theorem u273_988 : ev d 273 988 lo st h = evI d 273 988 989 lo st h .iaload := ev_u n273_988 rfl
theorem n273_989 : mx_ins 273 989 = some ((.invokevirtual 132), 3) := mx_ins_of mi273 dL_law_989 rfl
theorem u273_989 : ev d 273 989 lo st h = evIn d 273 989 992 37 132 5 false lo st h := ev_inv n273_989 rfl rfl ow273 ia37_132
theorem n273_992 : mx_ins 273 992 = some ((.aload_n 2), 1) := mx_ins_of mi273 dL_law_992 rfl
theorem u273_992 : ev d 273 992 lo st h = evS (mx_ldA 2) d 273 993 lo st h := ev_s n273_992 rfl rfl
theorem n273_993 : mx_ins 273 993 = some ((.aload_n 0), 1) := mx_ins_of mi273 dL_law_993 rfl
theorem u273_993 : ev d 273 993 lo st h = evS (mx_ldA 0) d 273 994 lo st h := ev_s n273_993 rfl rfl
theorem n273_994 : mx_ins 273 994 = some ((.iload_n 3), 1) := mx_ins_of mi273 dL_law_994 rfl
theorem u273_994 : ev d 273 994 lo st h = evS (mx_ldI 3) d 273 995 lo st h := ev_s n273_994 rfl rfl
theorem n273_995 : mx_ins 273 995 = some ((.iconst 1), 1) := mx_ins_of mi273 dL_law_995 rfl
theorem u273_995 : ev d 273 995 lo st h = ev d 273 996 lo (.int 1 :: st) h := (ev_s (f := mx_push (.int 1)) n273_995 rfl rfl).trans es_push
theorem n273_996 : mx_ins 273 996 = some (.iadd, 1) := mx_ins_of mi273 dL_law_996 rfl
theorem u273_996 : ev d 273 996 lo st h = evI d 273 996 997 lo st h .iadd := ev_u n273_996 rfl
theorem n273_997 : mx_ins 273 997 = some (.iaload, 1) := mx_ins_of mi273 dL_law_997 rfl
theorem u273_997 : ev d 273 997 lo st h = evI d 273 997 998 lo st h .iaload := ev_u n273_997 rfl
theorem n273_998 : mx_ins 273 998 = some ((.aload_n 0), 1) := mx_ins_of mi273 dL_law_998 rfl
theorem u273_998 : ev d 273 998 lo st h = evS (mx_ldA 0) d 273 999 lo st h := ev_s n273_998 rfl rfl
theorem n273_999 : mx_ins 273 999 = some ((.iload_n 3), 1) := mx_ins_of mi273 dL_law_999 rfl
theorem u273_999 : ev d 273 999 lo st h = evS (mx_ldI 3) d 273 1000 lo st h := ev_s n273_999 rfl rfl
theorem n273_1000 : mx_ins 273 1000 = some ((.iconst 2), 1) := mx_ins_of mi273 dL_law_1000 rfl
theorem u273_1000 : ev d 273 1000 lo st h = ev d 273 1001 lo (.int 2 :: st) h := (ev_s (f := mx_push (.int 2)) n273_1000 rfl rfl).trans es_push
theorem n273_1001 : mx_ins 273 1001 = some (.iadd, 1) := mx_ins_of mi273 dL_law_1001 rfl
theorem u273_1001 : ev d 273 1001 lo st h = evI d 273 1001 1002 lo st h .iadd := ev_u n273_1001 rfl
theorem n273_1002 : mx_ins 273 1002 = some (.iaload, 1) := mx_ins_of mi273 dL_law_1002 rfl
theorem u273_1002 : ev d 273 1002 lo st h = evI d 273 1002 1003 lo st h .iaload := ev_u n273_1002 rfl
theorem n273_1003 : mx_ins 273 1003 = some ((.aload_n 0), 1) := mx_ins_of mi273 dL_law_1003 rfl
theorem u273_1003 : ev d 273 1003 lo st h = evS (mx_ldA 0) d 273 1004 lo st h := ev_s n273_1003 rfl rfl
theorem n273_1004 : mx_ins 273 1004 = some ((.iload_n 3), 1) := mx_ins_of mi273 dL_law_1004 rfl
theorem u273_1004 : ev d 273 1004 lo st h = evS (mx_ldI 3) d 273 1005 lo st h := ev_s n273_1004 rfl rfl
theorem n273_1005 : mx_ins 273 1005 = some ((.iconst 3), 1) := mx_ins_of mi273 dL_law_1005 rfl
theorem u273_1005 : ev d 273 1005 lo st h = ev d 273 1006 lo (.int 3 :: st) h := (ev_s (f := mx_push (.int 3)) n273_1005 rfl rfl).trans es_push
theorem n273_1006 : mx_ins 273 1006 = some (.iadd, 1) := mx_ins_of mi273 dL_law_1006 rfl
theorem u273_1006 : ev d 273 1006 lo st h = evI d 273 1006 1007 lo st h .iadd := ev_u n273_1006 rfl
theorem n273_1007 : mx_ins 273 1007 = some (.iaload, 1) := mx_ins_of mi273 dL_law_1007 rfl
theorem u273_1007 : ev d 273 1007 lo st h = evI d 273 1007 1008 lo st h .iaload := ev_u n273_1007 rfl
theorem n273_1008 : mx_ins 273 1008 = some ((.aload_n 0), 1) := mx_ins_of mi273 dL_law_1008 rfl
theorem u273_1008 : ev d 273 1008 lo st h = evS (mx_ldA 0) d 273 1009 lo st h := ev_s n273_1008 rfl rfl
theorem n273_1009 : mx_ins 273 1009 = some ((.iload_n 3), 1) := mx_ins_of mi273 dL_law_1009 rfl
theorem u273_1009 : ev d 273 1009 lo st h = evS (mx_ldI 3) d 273 1010 lo st h := ev_s n273_1009 rfl rfl
theorem n273_1010 : mx_ins 273 1010 = some ((.iconst 4), 1) := mx_ins_of mi273 dL_law_1010 rfl
theorem u273_1010 : ev d 273 1010 lo st h = ev d 273 1011 lo (.int 4 :: st) h := (ev_s (f := mx_push (.int 4)) n273_1010 rfl rfl).trans es_push
theorem n273_1011 : mx_ins 273 1011 = some (.iadd, 1) := mx_ins_of mi273 dL_law_1011 rfl
theorem u273_1011 : ev d 273 1011 lo st h = evI d 273 1011 1012 lo st h .iadd := ev_u n273_1011 rfl
theorem n273_1012 : mx_ins 273 1012 = some (.iaload, 1) := mx_ins_of mi273 dL_law_1012 rfl
theorem u273_1012 : ev d 273 1012 lo st h = evI d 273 1012 1013 lo st h .iaload := ev_u n273_1012 rfl
theorem n273_1013 : mx_ins 273 1013 = some ((.invokevirtual 136), 3) := mx_ins_of mi273 dL_law_1013 rfl
theorem u273_1013 : ev d 273 1013 lo st h = evIn d 273 1013 1016 37 136 5 false lo st h := ev_inv n273_1013 rfl rfl ow273 ia37_136
theorem n273_1016 : mx_ins 273 1016 = some ((.if_icmp .eq 325), 3) := mx_ins_of mi273 dL_law_1016 rfl
theorem u273_1016 : ev d 273 1016 lo st h = evK .eq d 273 1341 1019 lo st h := ev_ic n273_1016 rfl rfl
theorem n273_1019 : mx_ins 273 1019 = some ((.iconst 0), 1) := mx_ins_of mi273 dL_law_1019 rfl
theorem u273_1019 : ev d 273 1019 lo st h = ev d 273 1020 lo (.int 0 :: st) h := (ev_s (f := mx_push (.int 0)) n273_1019 rfl rfl).trans es_push
theorem n273_1020 : mx_ins 273 1020 = some (.ireturn, 1) := mx_ins_of mi273 dL_law_1020 rfl
theorem u273_1020 : ev d 273 1020 lo st h = evI d 273 1020 1021 lo st h .ireturn := ev_u n273_1020 rfl
theorem n273_1021 : mx_ins 273 1021 = some ((.aload_n 1), 1) := mx_ins_of mi273 dL_law_1021 rfl
theorem u273_1021 : ev d 273 1021 lo st h = evS (mx_ldA 1) d 273 1022 lo st h := ev_s n273_1021 rfl rfl
theorem n273_1022 : mx_ins 273 1022 = some ((.aload_n 0), 1) := mx_ins_of mi273 dL_law_1022 rfl
theorem u273_1022 : ev d 273 1022 lo st h = evS (mx_ldA 0) d 273 1023 lo st h := ev_s n273_1022 rfl rfl
theorem n273_1023 : mx_ins 273 1023 = some ((.iload_n 3), 1) := mx_ins_of mi273 dL_law_1023 rfl
theorem u273_1023 : ev d 273 1023 lo st h = evS (mx_ldI 3) d 273 1024 lo st h := ev_s n273_1023 rfl rfl
theorem n273_1024 : mx_ins 273 1024 = some ((.iconst 1), 1) := mx_ins_of mi273 dL_law_1024 rfl
theorem u273_1024 : ev d 273 1024 lo st h = ev d 273 1025 lo (.int 1 :: st) h := (ev_s (f := mx_push (.int 1)) n273_1024 rfl rfl).trans es_push
theorem n273_1025 : mx_ins 273 1025 = some (.iadd, 1) := mx_ins_of mi273 dL_law_1025 rfl
theorem u273_1025 : ev d 273 1025 lo st h = evI d 273 1025 1026 lo st h .iadd := ev_u n273_1025 rfl
theorem n273_1026 : mx_ins 273 1026 = some (.iaload, 1) := mx_ins_of mi273 dL_law_1026 rfl
theorem u273_1026 : ev d 273 1026 lo st h = evI d 273 1026 1027 lo st h .iaload := ev_u n273_1026 rfl
theorem n273_1027 : mx_ins 273 1027 = some ((.aload_n 0), 1) := mx_ins_of mi273 dL_law_1027 rfl
theorem u273_1027 : ev d 273 1027 lo st h = evS (mx_ldA 0) d 273 1028 lo st h := ev_s n273_1027 rfl rfl
theorem n273_1028 : mx_ins 273 1028 = some ((.iload_n 3), 1) := mx_ins_of mi273 dL_law_1028 rfl
theorem u273_1028 : ev d 273 1028 lo st h = evS (mx_ldI 3) d 273 1029 lo st h := ev_s n273_1028 rfl rfl
theorem n273_1029 : mx_ins 273 1029 = some ((.iconst 2), 1) := mx_ins_of mi273 dL_law_1029 rfl
theorem u273_1029 : ev d 273 1029 lo st h = ev d 273 1030 lo (.int 2 :: st) h := (ev_s (f := mx_push (.int 2)) n273_1029 rfl rfl).trans es_push
theorem n273_1030 : mx_ins 273 1030 = some (.iadd, 1) := mx_ins_of mi273 dL_law_1030 rfl
theorem u273_1030 : ev d 273 1030 lo st h = evI d 273 1030 1031 lo st h .iadd := ev_u n273_1030 rfl
theorem n273_1031 : mx_ins 273 1031 = some (.iaload, 1) := mx_ins_of mi273 dL_law_1031 rfl
theorem u273_1031 : ev d 273 1031 lo st h = evI d 273 1031 1032 lo st h .iaload := ev_u n273_1031 rfl
theorem n273_1032 : mx_ins 273 1032 = some ((.aload_n 0), 1) := mx_ins_of mi273 dL_law_1032 rfl
theorem u273_1032 : ev d 273 1032 lo st h = evS (mx_ldA 0) d 273 1033 lo st h := ev_s n273_1032 rfl rfl
theorem n273_1033 : mx_ins 273 1033 = some ((.iload_n 3), 1) := mx_ins_of mi273 dL_law_1033 rfl
theorem u273_1033 : ev d 273 1033 lo st h = evS (mx_ldI 3) d 273 1034 lo st h := ev_s n273_1033 rfl rfl
theorem n273_1034 : mx_ins 273 1034 = some ((.iconst 3), 1) := mx_ins_of mi273 dL_law_1034 rfl
theorem u273_1034 : ev d 273 1034 lo st h = ev d 273 1035 lo (.int 3 :: st) h := (ev_s (f := mx_push (.int 3)) n273_1034 rfl rfl).trans es_push
theorem n273_1035 : mx_ins 273 1035 = some (.iadd, 1) := mx_ins_of mi273 dL_law_1035 rfl
theorem u273_1035 : ev d 273 1035 lo st h = evI d 273 1035 1036 lo st h .iadd := ev_u n273_1035 rfl
theorem n273_1036 : mx_ins 273 1036 = some (.iaload, 1) := mx_ins_of mi273 dL_law_1036 rfl
theorem u273_1036 : ev d 273 1036 lo st h = evI d 273 1036 1037 lo st h .iaload := ev_u n273_1036 rfl
theorem n273_1037 : mx_ins 273 1037 = some ((.invokevirtual 137), 3) := mx_ins_of mi273 dL_law_1037 rfl
theorem u273_1037 : ev d 273 1037 lo st h = evIn d 273 1037 1040 37 137 4 false lo st h := ev_inv n273_1037 rfl rfl ow273 ia37_137
theorem n273_1040 : mx_ins 273 1040 = some ((.aload_n 2), 1) := mx_ins_of mi273 dL_law_1040 rfl
theorem u273_1040 : ev d 273 1040 lo st h = evS (mx_ldA 2) d 273 1041 lo st h := ev_s n273_1040 rfl rfl
theorem n273_1041 : mx_ins 273 1041 = some ((.aload_n 0), 1) := mx_ins_of mi273 dL_law_1041 rfl
theorem u273_1041 : ev d 273 1041 lo st h = evS (mx_ldA 0) d 273 1042 lo st h := ev_s n273_1041 rfl rfl
theorem n273_1042 : mx_ins 273 1042 = some ((.iload_n 3), 1) := mx_ins_of mi273 dL_law_1042 rfl
theorem u273_1042 : ev d 273 1042 lo st h = evS (mx_ldI 3) d 273 1043 lo st h := ev_s n273_1042 rfl rfl
theorem n273_1043 : mx_ins 273 1043 = some ((.iconst 1), 1) := mx_ins_of mi273 dL_law_1043 rfl
theorem u273_1043 : ev d 273 1043 lo st h = ev d 273 1044 lo (.int 1 :: st) h := (ev_s (f := mx_push (.int 1)) n273_1043 rfl rfl).trans es_push
theorem n273_1044 : mx_ins 273 1044 = some (.iadd, 1) := mx_ins_of mi273 dL_law_1044 rfl
theorem u273_1044 : ev d 273 1044 lo st h = evI d 273 1044 1045 lo st h .iadd := ev_u n273_1044 rfl
theorem n273_1045 : mx_ins 273 1045 = some (.iaload, 1) := mx_ins_of mi273 dL_law_1045 rfl
theorem u273_1045 : ev d 273 1045 lo st h = evI d 273 1045 1046 lo st h .iaload := ev_u n273_1045 rfl
theorem n273_1046 : mx_ins 273 1046 = some ((.aload_n 0), 1) := mx_ins_of mi273 dL_law_1046 rfl
theorem u273_1046 : ev d 273 1046 lo st h = evS (mx_ldA 0) d 273 1047 lo st h := ev_s n273_1046 rfl rfl
theorem n273_1047 : mx_ins 273 1047 = some ((.iload_n 3), 1) := mx_ins_of mi273 dL_law_1047 rfl
theorem u273_1047 : ev d 273 1047 lo st h = evS (mx_ldI 3) d 273 1048 lo st h := ev_s n273_1047 rfl rfl
theorem n273_1048 : mx_ins 273 1048 = some ((.iconst 2), 1) := mx_ins_of mi273 dL_law_1048 rfl
theorem u273_1048 : ev d 273 1048 lo st h = ev d 273 1049 lo (.int 2 :: st) h := (ev_s (f := mx_push (.int 2)) n273_1048 rfl rfl).trans es_push
theorem n273_1049 : mx_ins 273 1049 = some (.iadd, 1) := mx_ins_of mi273 dL_law_1049 rfl
theorem u273_1049 : ev d 273 1049 lo st h = evI d 273 1049 1050 lo st h .iadd := ev_u n273_1049 rfl
theorem n273_1050 : mx_ins 273 1050 = some (.iaload, 1) := mx_ins_of mi273 dL_law_1050 rfl
theorem u273_1050 : ev d 273 1050 lo st h = evI d 273 1050 1051 lo st h .iaload := ev_u n273_1050 rfl
theorem n273_1051 : mx_ins 273 1051 = some ((.aload_n 0), 1) := mx_ins_of mi273 dL_law_1051 rfl
theorem u273_1051 : ev d 273 1051 lo st h = evS (mx_ldA 0) d 273 1052 lo st h := ev_s n273_1051 rfl rfl
theorem n273_1052 : mx_ins 273 1052 = some ((.iload_n 3), 1) := mx_ins_of mi273 dL_law_1052 rfl
theorem u273_1052 : ev d 273 1052 lo st h = evS (mx_ldI 3) d 273 1053 lo st h := ev_s n273_1052 rfl rfl
theorem n273_1053 : mx_ins 273 1053 = some ((.iconst 3), 1) := mx_ins_of mi273 dL_law_1053 rfl
theorem u273_1053 : ev d 273 1053 lo st h = ev d 273 1054 lo (.int 3 :: st) h := (ev_s (f := mx_push (.int 3)) n273_1053 rfl rfl).trans es_push
theorem n273_1054 : mx_ins 273 1054 = some (.iadd, 1) := mx_ins_of mi273 dL_law_1054 rfl
theorem u273_1054 : ev d 273 1054 lo st h = evI d 273 1054 1055 lo st h .iadd := ev_u n273_1054 rfl
theorem n273_1055 : mx_ins 273 1055 = some (.iaload, 1) := mx_ins_of mi273 dL_law_1055 rfl
theorem u273_1055 : ev d 273 1055 lo st h = evI d 273 1055 1056 lo st h .iaload := ev_u n273_1055 rfl
theorem n273_1056 : mx_ins 273 1056 = some ((.invokevirtual 140), 3) := mx_ins_of mi273 dL_law_1056 rfl
theorem u273_1056 : ev d 273 1056 lo st h = evIn d 273 1056 1059 37 140 4 false lo st h := ev_inv n273_1056 rfl rfl ow273 ia37_140
theorem n273_1059 : mx_ins 273 1059 = some ((.if_icmp .eq 282), 3) := mx_ins_of mi273 dL_law_1059 rfl
theorem u273_1059 : ev d 273 1059 lo st h = evK .eq d 273 1341 1062 lo st h := ev_ic n273_1059 rfl rfl
theorem n273_1062 : mx_ins 273 1062 = some ((.iconst 0), 1) := mx_ins_of mi273 dL_law_1062 rfl
theorem u273_1062 : ev d 273 1062 lo st h = ev d 273 1063 lo (.int 0 :: st) h := (ev_s (f := mx_push (.int 0)) n273_1062 rfl rfl).trans es_push
theorem n273_1063 : mx_ins 273 1063 = some (.ireturn, 1) := mx_ins_of mi273 dL_law_1063 rfl
theorem u273_1063 : ev d 273 1063 lo st h = evI d 273 1063 1064 lo st h .ireturn := ev_u n273_1063 rfl
theorem n273_1064 : mx_ins 273 1064 = some ((.aload_n 1), 1) := mx_ins_of mi273 dL_law_1064 rfl
theorem u273_1064 : ev d 273 1064 lo st h = evS (mx_ldA 1) d 273 1065 lo st h := ev_s n273_1064 rfl rfl
theorem n273_1065 : mx_ins 273 1065 = some ((.aload_n 0), 1) := mx_ins_of mi273 dL_law_1065 rfl
theorem u273_1065 : ev d 273 1065 lo st h = evS (mx_ldA 0) d 273 1066 lo st h := ev_s n273_1065 rfl rfl
theorem n273_1066 : mx_ins 273 1066 = some ((.iload_n 3), 1) := mx_ins_of mi273 dL_law_1066 rfl
theorem u273_1066 : ev d 273 1066 lo st h = evS (mx_ldI 3) d 273 1067 lo st h := ev_s n273_1066 rfl rfl
theorem n273_1067 : mx_ins 273 1067 = some ((.iconst 1), 1) := mx_ins_of mi273 dL_law_1067 rfl
theorem u273_1067 : ev d 273 1067 lo st h = ev d 273 1068 lo (.int 1 :: st) h := (ev_s (f := mx_push (.int 1)) n273_1067 rfl rfl).trans es_push
theorem n273_1068 : mx_ins 273 1068 = some (.iadd, 1) := mx_ins_of mi273 dL_law_1068 rfl
theorem u273_1068 : ev d 273 1068 lo st h = evI d 273 1068 1069 lo st h .iadd := ev_u n273_1068 rfl
theorem n273_1069 : mx_ins 273 1069 = some (.iaload, 1) := mx_ins_of mi273 dL_law_1069 rfl
theorem u273_1069 : ev d 273 1069 lo st h = evI d 273 1069 1070 lo st h .iaload := ev_u n273_1069 rfl
theorem n273_1070 : mx_ins 273 1070 = some ((.aload_n 0), 1) := mx_ins_of mi273 dL_law_1070 rfl
theorem u273_1070 : ev d 273 1070 lo st h = evS (mx_ldA 0) d 273 1071 lo st h := ev_s n273_1070 rfl rfl
theorem n273_1071 : mx_ins 273 1071 = some ((.iload_n 3), 1) := mx_ins_of mi273 dL_law_1071 rfl
theorem u273_1071 : ev d 273 1071 lo st h = evS (mx_ldI 3) d 273 1072 lo st h := ev_s n273_1071 rfl rfl
theorem n273_1072 : mx_ins 273 1072 = some ((.iconst 2), 1) := mx_ins_of mi273 dL_law_1072 rfl
theorem u273_1072 : ev d 273 1072 lo st h = ev d 273 1073 lo (.int 2 :: st) h := (ev_s (f := mx_push (.int 2)) n273_1072 rfl rfl).trans es_push
theorem n273_1073 : mx_ins 273 1073 = some (.iadd, 1) := mx_ins_of mi273 dL_law_1073 rfl
theorem u273_1073 : ev d 273 1073 lo st h = evI d 273 1073 1074 lo st h .iadd := ev_u n273_1073 rfl
theorem n273_1074 : mx_ins 273 1074 = some (.iaload, 1) := mx_ins_of mi273 dL_law_1074 rfl
theorem u273_1074 : ev d 273 1074 lo st h = evI d 273 1074 1075 lo st h .iaload := ev_u n273_1074 rfl
theorem n273_1075 : mx_ins 273 1075 = some ((.aload_n 0), 1) := mx_ins_of mi273 dL_law_1075 rfl
theorem u273_1075 : ev d 273 1075 lo st h = evS (mx_ldA 0) d 273 1076 lo st h := ev_s n273_1075 rfl rfl
theorem n273_1076 : mx_ins 273 1076 = some ((.iload_n 3), 1) := mx_ins_of mi273 dL_law_1076 rfl
theorem u273_1076 : ev d 273 1076 lo st h = evS (mx_ldI 3) d 273 1077 lo st h := ev_s n273_1076 rfl rfl
theorem n273_1077 : mx_ins 273 1077 = some ((.iconst 3), 1) := mx_ins_of mi273 dL_law_1077 rfl
theorem u273_1077 : ev d 273 1077 lo st h = ev d 273 1078 lo (.int 3 :: st) h := (ev_s (f := mx_push (.int 3)) n273_1077 rfl rfl).trans es_push
theorem n273_1078 : mx_ins 273 1078 = some (.iadd, 1) := mx_ins_of mi273 dL_law_1078 rfl
theorem u273_1078 : ev d 273 1078 lo st h = evI d 273 1078 1079 lo st h .iadd := ev_u n273_1078 rfl
theorem n273_1079 : mx_ins 273 1079 = some (.iaload, 1) := mx_ins_of mi273 dL_law_1079 rfl
theorem u273_1079 : ev d 273 1079 lo st h = evI d 273 1079 1080 lo st h .iaload := ev_u n273_1079 rfl
theorem n273_1080 : mx_ins 273 1080 = some ((.invokevirtual 141), 3) := mx_ins_of mi273 dL_law_1080 rfl
theorem u273_1080 : ev d 273 1080 lo st h = evIn d 273 1080 1083 37 141 4 false lo st h := ev_inv n273_1080 rfl rfl ow273 ia37_141
theorem n273_1083 : mx_ins 273 1083 = some ((.aload_n 2), 1) := mx_ins_of mi273 dL_law_1083 rfl
theorem u273_1083 : ev d 273 1083 lo st h = evS (mx_ldA 2) d 273 1084 lo st h := ev_s n273_1083 rfl rfl
theorem n273_1084 : mx_ins 273 1084 = some ((.aload_n 0), 1) := mx_ins_of mi273 dL_law_1084 rfl
theorem u273_1084 : ev d 273 1084 lo st h = evS (mx_ldA 0) d 273 1085 lo st h := ev_s n273_1084 rfl rfl
theorem n273_1085 : mx_ins 273 1085 = some ((.iload_n 3), 1) := mx_ins_of mi273 dL_law_1085 rfl
theorem u273_1085 : ev d 273 1085 lo st h = evS (mx_ldI 3) d 273 1086 lo st h := ev_s n273_1085 rfl rfl
theorem n273_1086 : mx_ins 273 1086 = some ((.iconst 1), 1) := mx_ins_of mi273 dL_law_1086 rfl
theorem u273_1086 : ev d 273 1086 lo st h = ev d 273 1087 lo (.int 1 :: st) h := (ev_s (f := mx_push (.int 1)) n273_1086 rfl rfl).trans es_push
theorem n273_1087 : mx_ins 273 1087 = some (.iadd, 1) := mx_ins_of mi273 dL_law_1087 rfl
theorem u273_1087 : ev d 273 1087 lo st h = evI d 273 1087 1088 lo st h .iadd := ev_u n273_1087 rfl
theorem n273_1088 : mx_ins 273 1088 = some (.iaload, 1) := mx_ins_of mi273 dL_law_1088 rfl
theorem u273_1088 : ev d 273 1088 lo st h = evI d 273 1088 1089 lo st h .iaload := ev_u n273_1088 rfl
theorem n273_1089 : mx_ins 273 1089 = some ((.aload_n 0), 1) := mx_ins_of mi273 dL_law_1089 rfl
theorem u273_1089 : ev d 273 1089 lo st h = evS (mx_ldA 0) d 273 1090 lo st h := ev_s n273_1089 rfl rfl
theorem n273_1090 : mx_ins 273 1090 = some ((.iload_n 3), 1) := mx_ins_of mi273 dL_law_1090 rfl
theorem u273_1090 : ev d 273 1090 lo st h = evS (mx_ldI 3) d 273 1091 lo st h := ev_s n273_1090 rfl rfl
theorem n273_1091 : mx_ins 273 1091 = some ((.iconst 2), 1) := mx_ins_of mi273 dL_law_1091 rfl
theorem u273_1091 : ev d 273 1091 lo st h = ev d 273 1092 lo (.int 2 :: st) h := (ev_s (f := mx_push (.int 2)) n273_1091 rfl rfl).trans es_push
theorem n273_1092 : mx_ins 273 1092 = some (.iadd, 1) := mx_ins_of mi273 dL_law_1092 rfl
theorem u273_1092 : ev d 273 1092 lo st h = evI d 273 1092 1093 lo st h .iadd := ev_u n273_1092 rfl
theorem n273_1093 : mx_ins 273 1093 = some (.iaload, 1) := mx_ins_of mi273 dL_law_1093 rfl
theorem u273_1093 : ev d 273 1093 lo st h = evI d 273 1093 1094 lo st h .iaload := ev_u n273_1093 rfl
theorem n273_1094 : mx_ins 273 1094 = some ((.aload_n 0), 1) := mx_ins_of mi273 dL_law_1094 rfl
theorem u273_1094 : ev d 273 1094 lo st h = evS (mx_ldA 0) d 273 1095 lo st h := ev_s n273_1094 rfl rfl
theorem n273_1095 : mx_ins 273 1095 = some ((.iload_n 3), 1) := mx_ins_of mi273 dL_law_1095 rfl
theorem u273_1095 : ev d 273 1095 lo st h = evS (mx_ldI 3) d 273 1096 lo st h := ev_s n273_1095 rfl rfl
theorem n273_1096 : mx_ins 273 1096 = some ((.iconst 3), 1) := mx_ins_of mi273 dL_law_1096 rfl
theorem u273_1096 : ev d 273 1096 lo st h = ev d 273 1097 lo (.int 3 :: st) h := (ev_s (f := mx_push (.int 3)) n273_1096 rfl rfl).trans es_push
theorem n273_1097 : mx_ins 273 1097 = some (.iadd, 1) := mx_ins_of mi273 dL_law_1097 rfl
theorem u273_1097 : ev d 273 1097 lo st h = evI d 273 1097 1098 lo st h .iadd := ev_u n273_1097 rfl
theorem n273_1098 : mx_ins 273 1098 = some (.iaload, 1) := mx_ins_of mi273 dL_law_1098 rfl
theorem u273_1098 : ev d 273 1098 lo st h = evI d 273 1098 1099 lo st h .iaload := ev_u n273_1098 rfl
theorem n273_1099 : mx_ins 273 1099 = some ((.invokevirtual 144), 3) := mx_ins_of mi273 dL_law_1099 rfl
theorem u273_1099 : ev d 273 1099 lo st h = evIn d 273 1099 1102 37 144 4 false lo st h := ev_inv n273_1099 rfl rfl ow273 ia37_144
theorem n273_1102 : mx_ins 273 1102 = some ((.if_icmp .eq 239), 3) := mx_ins_of mi273 dL_law_1102 rfl
theorem u273_1102 : ev d 273 1102 lo st h = evK .eq d 273 1341 1105 lo st h := ev_ic n273_1102 rfl rfl
theorem n273_1105 : mx_ins 273 1105 = some ((.iconst 0), 1) := mx_ins_of mi273 dL_law_1105 rfl
theorem u273_1105 : ev d 273 1105 lo st h = ev d 273 1106 lo (.int 0 :: st) h := (ev_s (f := mx_push (.int 0)) n273_1105 rfl rfl).trans es_push
theorem n273_1106 : mx_ins 273 1106 = some (.ireturn, 1) := mx_ins_of mi273 dL_law_1106 rfl
theorem u273_1106 : ev d 273 1106 lo st h = evI d 273 1106 1107 lo st h .ireturn := ev_u n273_1106 rfl
theorem n273_1107 : mx_ins 273 1107 = some ((.aload_n 1), 1) := mx_ins_of mi273 dL_law_1107 rfl
theorem u273_1107 : ev d 273 1107 lo st h = evS (mx_ldA 1) d 273 1108 lo st h := ev_s n273_1107 rfl rfl
theorem n273_1108 : mx_ins 273 1108 = some ((.aload_n 0), 1) := mx_ins_of mi273 dL_law_1108 rfl
theorem u273_1108 : ev d 273 1108 lo st h = evS (mx_ldA 0) d 273 1109 lo st h := ev_s n273_1108 rfl rfl
theorem n273_1109 : mx_ins 273 1109 = some ((.iload_n 3), 1) := mx_ins_of mi273 dL_law_1109 rfl
theorem u273_1109 : ev d 273 1109 lo st h = evS (mx_ldI 3) d 273 1110 lo st h := ev_s n273_1109 rfl rfl
theorem n273_1110 : mx_ins 273 1110 = some ((.iconst 1), 1) := mx_ins_of mi273 dL_law_1110 rfl
theorem u273_1110 : ev d 273 1110 lo st h = ev d 273 1111 lo (.int 1 :: st) h := (ev_s (f := mx_push (.int 1)) n273_1110 rfl rfl).trans es_push
theorem n273_1111 : mx_ins 273 1111 = some (.iadd, 1) := mx_ins_of mi273 dL_law_1111 rfl
theorem u273_1111 : ev d 273 1111 lo st h = evI d 273 1111 1112 lo st h .iadd := ev_u n273_1111 rfl
theorem n273_1112 : mx_ins 273 1112 = some (.iaload, 1) := mx_ins_of mi273 dL_law_1112 rfl
theorem u273_1112 : ev d 273 1112 lo st h = evI d 273 1112 1113 lo st h .iaload := ev_u n273_1112 rfl
theorem n273_1113 : mx_ins 273 1113 = some ((.aload_n 0), 1) := mx_ins_of mi273 dL_law_1113 rfl
theorem u273_1113 : ev d 273 1113 lo st h = evS (mx_ldA 0) d 273 1114 lo st h := ev_s n273_1113 rfl rfl
theorem n273_1114 : mx_ins 273 1114 = some ((.iload_n 3), 1) := mx_ins_of mi273 dL_law_1114 rfl
theorem u273_1114 : ev d 273 1114 lo st h = evS (mx_ldI 3) d 273 1115 lo st h := ev_s n273_1114 rfl rfl
theorem n273_1115 : mx_ins 273 1115 = some ((.iconst 2), 1) := mx_ins_of mi273 dL_law_1115 rfl
theorem u273_1115 : ev d 273 1115 lo st h = ev d 273 1116 lo (.int 2 :: st) h := (ev_s (f := mx_push (.int 2)) n273_1115 rfl rfl).trans es_push
theorem n273_1116 : mx_ins 273 1116 = some (.iadd, 1) := mx_ins_of mi273 dL_law_1116 rfl
theorem u273_1116 : ev d 273 1116 lo st h = evI d 273 1116 1117 lo st h .iadd := ev_u n273_1116 rfl
theorem n273_1117 : mx_ins 273 1117 = some (.iaload, 1) := mx_ins_of mi273 dL_law_1117 rfl
theorem u273_1117 : ev d 273 1117 lo st h = evI d 273 1117 1118 lo st h .iaload := ev_u n273_1117 rfl
theorem n273_1118 : mx_ins 273 1118 = some ((.aload_n 0), 1) := mx_ins_of mi273 dL_law_1118 rfl
theorem u273_1118 : ev d 273 1118 lo st h = evS (mx_ldA 0) d 273 1119 lo st h := ev_s n273_1118 rfl rfl
theorem n273_1119 : mx_ins 273 1119 = some ((.iload_n 3), 1) := mx_ins_of mi273 dL_law_1119 rfl
theorem u273_1119 : ev d 273 1119 lo st h = evS (mx_ldI 3) d 273 1120 lo st h := ev_s n273_1119 rfl rfl
theorem n273_1120 : mx_ins 273 1120 = some ((.iconst 3), 1) := mx_ins_of mi273 dL_law_1120 rfl
theorem u273_1120 : ev d 273 1120 lo st h = ev d 273 1121 lo (.int 3 :: st) h := (ev_s (f := mx_push (.int 3)) n273_1120 rfl rfl).trans es_push
theorem n273_1121 : mx_ins 273 1121 = some (.iadd, 1) := mx_ins_of mi273 dL_law_1121 rfl
theorem u273_1121 : ev d 273 1121 lo st h = evI d 273 1121 1122 lo st h .iadd := ev_u n273_1121 rfl
theorem n273_1122 : mx_ins 273 1122 = some (.iaload, 1) := mx_ins_of mi273 dL_law_1122 rfl
theorem u273_1122 : ev d 273 1122 lo st h = evI d 273 1122 1123 lo st h .iaload := ev_u n273_1122 rfl
theorem n273_1123 : mx_ins 273 1123 = some ((.invokevirtual 145), 3) := mx_ins_of mi273 dL_law_1123 rfl
theorem u273_1123 : ev d 273 1123 lo st h = evIn d 273 1123 1126 37 145 4 false lo st h := ev_inv n273_1123 rfl rfl ow273 ia37_145
theorem n273_1126 : mx_ins 273 1126 = some ((.aload_n 2), 1) := mx_ins_of mi273 dL_law_1126 rfl
theorem u273_1126 : ev d 273 1126 lo st h = evS (mx_ldA 2) d 273 1127 lo st h := ev_s n273_1126 rfl rfl
theorem n273_1127 : mx_ins 273 1127 = some ((.aload_n 0), 1) := mx_ins_of mi273 dL_law_1127 rfl
theorem u273_1127 : ev d 273 1127 lo st h = evS (mx_ldA 0) d 273 1128 lo st h := ev_s n273_1127 rfl rfl
theorem n273_1128 : mx_ins 273 1128 = some ((.iload_n 3), 1) := mx_ins_of mi273 dL_law_1128 rfl
theorem u273_1128 : ev d 273 1128 lo st h = evS (mx_ldI 3) d 273 1129 lo st h := ev_s n273_1128 rfl rfl
theorem n273_1129 : mx_ins 273 1129 = some ((.iconst 1), 1) := mx_ins_of mi273 dL_law_1129 rfl
theorem u273_1129 : ev d 273 1129 lo st h = ev d 273 1130 lo (.int 1 :: st) h := (ev_s (f := mx_push (.int 1)) n273_1129 rfl rfl).trans es_push
theorem n273_1130 : mx_ins 273 1130 = some (.iadd, 1) := mx_ins_of mi273 dL_law_1130 rfl
theorem u273_1130 : ev d 273 1130 lo st h = evI d 273 1130 1131 lo st h .iadd := ev_u n273_1130 rfl
theorem n273_1131 : mx_ins 273 1131 = some (.iaload, 1) := mx_ins_of mi273 dL_law_1131 rfl
theorem u273_1131 : ev d 273 1131 lo st h = evI d 273 1131 1132 lo st h .iaload := ev_u n273_1131 rfl
theorem n273_1132 : mx_ins 273 1132 = some ((.aload_n 0), 1) := mx_ins_of mi273 dL_law_1132 rfl
theorem u273_1132 : ev d 273 1132 lo st h = evS (mx_ldA 0) d 273 1133 lo st h := ev_s n273_1132 rfl rfl
theorem n273_1133 : mx_ins 273 1133 = some ((.iload_n 3), 1) := mx_ins_of mi273 dL_law_1133 rfl
theorem u273_1133 : ev d 273 1133 lo st h = evS (mx_ldI 3) d 273 1134 lo st h := ev_s n273_1133 rfl rfl
theorem n273_1134 : mx_ins 273 1134 = some ((.iconst 2), 1) := mx_ins_of mi273 dL_law_1134 rfl
theorem u273_1134 : ev d 273 1134 lo st h = ev d 273 1135 lo (.int 2 :: st) h := (ev_s (f := mx_push (.int 2)) n273_1134 rfl rfl).trans es_push
theorem n273_1135 : mx_ins 273 1135 = some (.iadd, 1) := mx_ins_of mi273 dL_law_1135 rfl
theorem u273_1135 : ev d 273 1135 lo st h = evI d 273 1135 1136 lo st h .iadd := ev_u n273_1135 rfl
theorem n273_1136 : mx_ins 273 1136 = some (.iaload, 1) := mx_ins_of mi273 dL_law_1136 rfl
theorem u273_1136 : ev d 273 1136 lo st h = evI d 273 1136 1137 lo st h .iaload := ev_u n273_1136 rfl
theorem n273_1137 : mx_ins 273 1137 = some ((.aload_n 0), 1) := mx_ins_of mi273 dL_law_1137 rfl
theorem u273_1137 : ev d 273 1137 lo st h = evS (mx_ldA 0) d 273 1138 lo st h := ev_s n273_1137 rfl rfl
theorem n273_1138 : mx_ins 273 1138 = some ((.iload_n 3), 1) := mx_ins_of mi273 dL_law_1138 rfl
theorem u273_1138 : ev d 273 1138 lo st h = evS (mx_ldI 3) d 273 1139 lo st h := ev_s n273_1138 rfl rfl
theorem n273_1139 : mx_ins 273 1139 = some ((.iconst 3), 1) := mx_ins_of mi273 dL_law_1139 rfl
theorem u273_1139 : ev d 273 1139 lo st h = ev d 273 1140 lo (.int 3 :: st) h := (ev_s (f := mx_push (.int 3)) n273_1139 rfl rfl).trans es_push
theorem n273_1140 : mx_ins 273 1140 = some (.iadd, 1) := mx_ins_of mi273 dL_law_1140 rfl
theorem u273_1140 : ev d 273 1140 lo st h = evI d 273 1140 1141 lo st h .iadd := ev_u n273_1140 rfl
theorem n273_1141 : mx_ins 273 1141 = some (.iaload, 1) := mx_ins_of mi273 dL_law_1141 rfl
theorem u273_1141 : ev d 273 1141 lo st h = evI d 273 1141 1142 lo st h .iaload := ev_u n273_1141 rfl
theorem n273_1142 : mx_ins 273 1142 = some ((.invokevirtual 148), 3) := mx_ins_of mi273 dL_law_1142 rfl
theorem u273_1142 : ev d 273 1142 lo st h = evIn d 273 1142 1145 37 148 4 false lo st h := ev_inv n273_1142 rfl rfl ow273 ia37_148
theorem n273_1145 : mx_ins 273 1145 = some ((.if_icmp .eq 196), 3) := mx_ins_of mi273 dL_law_1145 rfl
theorem u273_1145 : ev d 273 1145 lo st h = evK .eq d 273 1341 1148 lo st h := ev_ic n273_1145 rfl rfl
theorem n273_1148 : mx_ins 273 1148 = some ((.iconst 0), 1) := mx_ins_of mi273 dL_law_1148 rfl
theorem u273_1148 : ev d 273 1148 lo st h = ev d 273 1149 lo (.int 0 :: st) h := (ev_s (f := mx_push (.int 0)) n273_1148 rfl rfl).trans es_push
theorem n273_1149 : mx_ins 273 1149 = some (.ireturn, 1) := mx_ins_of mi273 dL_law_1149 rfl
theorem u273_1149 : ev d 273 1149 lo st h = evI d 273 1149 1150 lo st h .ireturn := ev_u n273_1149 rfl
theorem n273_1150 : mx_ins 273 1150 = some ((.aload_n 1), 1) := mx_ins_of mi273 dL_law_1150 rfl
theorem u273_1150 : ev d 273 1150 lo st h = evS (mx_ldA 1) d 273 1151 lo st h := ev_s n273_1150 rfl rfl
theorem n273_1151 : mx_ins 273 1151 = some ((.aload_n 0), 1) := mx_ins_of mi273 dL_law_1151 rfl
theorem u273_1151 : ev d 273 1151 lo st h = evS (mx_ldA 0) d 273 1152 lo st h := ev_s n273_1151 rfl rfl
theorem n273_1152 : mx_ins 273 1152 = some ((.iload_n 3), 1) := mx_ins_of mi273 dL_law_1152 rfl
theorem u273_1152 : ev d 273 1152 lo st h = evS (mx_ldI 3) d 273 1153 lo st h := ev_s n273_1152 rfl rfl
theorem n273_1153 : mx_ins 273 1153 = some ((.iconst 1), 1) := mx_ins_of mi273 dL_law_1153 rfl
theorem u273_1153 : ev d 273 1153 lo st h = ev d 273 1154 lo (.int 1 :: st) h := (ev_s (f := mx_push (.int 1)) n273_1153 rfl rfl).trans es_push
theorem n273_1154 : mx_ins 273 1154 = some (.iadd, 1) := mx_ins_of mi273 dL_law_1154 rfl
theorem u273_1154 : ev d 273 1154 lo st h = evI d 273 1154 1155 lo st h .iadd := ev_u n273_1154 rfl
theorem n273_1155 : mx_ins 273 1155 = some (.iaload, 1) := mx_ins_of mi273 dL_law_1155 rfl
theorem u273_1155 : ev d 273 1155 lo st h = evI d 273 1155 1156 lo st h .iaload := ev_u n273_1155 rfl
theorem n273_1156 : mx_ins 273 1156 = some ((.aload_n 0), 1) := mx_ins_of mi273 dL_law_1156 rfl
theorem u273_1156 : ev d 273 1156 lo st h = evS (mx_ldA 0) d 273 1157 lo st h := ev_s n273_1156 rfl rfl
theorem n273_1157 : mx_ins 273 1157 = some ((.iload_n 3), 1) := mx_ins_of mi273 dL_law_1157 rfl
theorem u273_1157 : ev d 273 1157 lo st h = evS (mx_ldI 3) d 273 1158 lo st h := ev_s n273_1157 rfl rfl
theorem n273_1158 : mx_ins 273 1158 = some ((.iconst 2), 1) := mx_ins_of mi273 dL_law_1158 rfl
theorem u273_1158 : ev d 273 1158 lo st h = ev d 273 1159 lo (.int 2 :: st) h := (ev_s (f := mx_push (.int 2)) n273_1158 rfl rfl).trans es_push
theorem n273_1159 : mx_ins 273 1159 = some (.iadd, 1) := mx_ins_of mi273 dL_law_1159 rfl
theorem u273_1159 : ev d 273 1159 lo st h = evI d 273 1159 1160 lo st h .iadd := ev_u n273_1159 rfl
theorem n273_1160 : mx_ins 273 1160 = some (.iaload, 1) := mx_ins_of mi273 dL_law_1160 rfl
theorem u273_1160 : ev d 273 1160 lo st h = evI d 273 1160 1161 lo st h .iaload := ev_u n273_1160 rfl
theorem n273_1161 : mx_ins 273 1161 = some ((.aload_n 0), 1) := mx_ins_of mi273 dL_law_1161 rfl
theorem u273_1161 : ev d 273 1161 lo st h = evS (mx_ldA 0) d 273 1162 lo st h := ev_s n273_1161 rfl rfl
theorem n273_1162 : mx_ins 273 1162 = some ((.iload_n 3), 1) := mx_ins_of mi273 dL_law_1162 rfl
theorem u273_1162 : ev d 273 1162 lo st h = evS (mx_ldI 3) d 273 1163 lo st h := ev_s n273_1162 rfl rfl
theorem n273_1163 : mx_ins 273 1163 = some ((.iconst 3), 1) := mx_ins_of mi273 dL_law_1163 rfl
theorem u273_1163 : ev d 273 1163 lo st h = ev d 273 1164 lo (.int 3 :: st) h := (ev_s (f := mx_push (.int 3)) n273_1163 rfl rfl).trans es_push
theorem n273_1164 : mx_ins 273 1164 = some (.iadd, 1) := mx_ins_of mi273 dL_law_1164 rfl
theorem u273_1164 : ev d 273 1164 lo st h = evI d 273 1164 1165 lo st h .iadd := ev_u n273_1164 rfl
theorem n273_1165 : mx_ins 273 1165 = some (.iaload, 1) := mx_ins_of mi273 dL_law_1165 rfl
theorem u273_1165 : ev d 273 1165 lo st h = evI d 273 1165 1166 lo st h .iaload := ev_u n273_1165 rfl
theorem n273_1166 : mx_ins 273 1166 = some ((.invokevirtual 149), 3) := mx_ins_of mi273 dL_law_1166 rfl
theorem u273_1166 : ev d 273 1166 lo st h = evIn d 273 1166 1169 37 149 4 false lo st h := ev_inv n273_1166 rfl rfl ow273 ia37_149
theorem n273_1169 : mx_ins 273 1169 = some ((.aload_n 2), 1) := mx_ins_of mi273 dL_law_1169 rfl
theorem u273_1169 : ev d 273 1169 lo st h = evS (mx_ldA 2) d 273 1170 lo st h := ev_s n273_1169 rfl rfl
theorem n273_1170 : mx_ins 273 1170 = some ((.aload_n 0), 1) := mx_ins_of mi273 dL_law_1170 rfl
theorem u273_1170 : ev d 273 1170 lo st h = evS (mx_ldA 0) d 273 1171 lo st h := ev_s n273_1170 rfl rfl
theorem n273_1171 : mx_ins 273 1171 = some ((.iload_n 3), 1) := mx_ins_of mi273 dL_law_1171 rfl
theorem u273_1171 : ev d 273 1171 lo st h = evS (mx_ldI 3) d 273 1172 lo st h := ev_s n273_1171 rfl rfl
theorem n273_1172 : mx_ins 273 1172 = some ((.iconst 1), 1) := mx_ins_of mi273 dL_law_1172 rfl
theorem u273_1172 : ev d 273 1172 lo st h = ev d 273 1173 lo (.int 1 :: st) h := (ev_s (f := mx_push (.int 1)) n273_1172 rfl rfl).trans es_push
theorem n273_1173 : mx_ins 273 1173 = some (.iadd, 1) := mx_ins_of mi273 dL_law_1173 rfl
theorem u273_1173 : ev d 273 1173 lo st h = evI d 273 1173 1174 lo st h .iadd := ev_u n273_1173 rfl
theorem n273_1174 : mx_ins 273 1174 = some (.iaload, 1) := mx_ins_of mi273 dL_law_1174 rfl
theorem u273_1174 : ev d 273 1174 lo st h = evI d 273 1174 1175 lo st h .iaload := ev_u n273_1174 rfl
theorem n273_1175 : mx_ins 273 1175 = some ((.aload_n 0), 1) := mx_ins_of mi273 dL_law_1175 rfl
theorem u273_1175 : ev d 273 1175 lo st h = evS (mx_ldA 0) d 273 1176 lo st h := ev_s n273_1175 rfl rfl
theorem n273_1176 : mx_ins 273 1176 = some ((.iload_n 3), 1) := mx_ins_of mi273 dL_law_1176 rfl
theorem u273_1176 : ev d 273 1176 lo st h = evS (mx_ldI 3) d 273 1177 lo st h := ev_s n273_1176 rfl rfl
theorem n273_1177 : mx_ins 273 1177 = some ((.iconst 2), 1) := mx_ins_of mi273 dL_law_1177 rfl
theorem u273_1177 : ev d 273 1177 lo st h = ev d 273 1178 lo (.int 2 :: st) h := (ev_s (f := mx_push (.int 2)) n273_1177 rfl rfl).trans es_push
theorem n273_1178 : mx_ins 273 1178 = some (.iadd, 1) := mx_ins_of mi273 dL_law_1178 rfl
theorem u273_1178 : ev d 273 1178 lo st h = evI d 273 1178 1179 lo st h .iadd := ev_u n273_1178 rfl
theorem n273_1179 : mx_ins 273 1179 = some (.iaload, 1) := mx_ins_of mi273 dL_law_1179 rfl
theorem u273_1179 : ev d 273 1179 lo st h = evI d 273 1179 1180 lo st h .iaload := ev_u n273_1179 rfl
theorem n273_1180 : mx_ins 273 1180 = some ((.aload_n 0), 1) := mx_ins_of mi273 dL_law_1180 rfl
theorem u273_1180 : ev d 273 1180 lo st h = evS (mx_ldA 0) d 273 1181 lo st h := ev_s n273_1180 rfl rfl
theorem n273_1181 : mx_ins 273 1181 = some ((.iload_n 3), 1) := mx_ins_of mi273 dL_law_1181 rfl
theorem u273_1181 : ev d 273 1181 lo st h = evS (mx_ldI 3) d 273 1182 lo st h := ev_s n273_1181 rfl rfl
theorem n273_1182 : mx_ins 273 1182 = some ((.iconst 3), 1) := mx_ins_of mi273 dL_law_1182 rfl
theorem u273_1182 : ev d 273 1182 lo st h = ev d 273 1183 lo (.int 3 :: st) h := (ev_s (f := mx_push (.int 3)) n273_1182 rfl rfl).trans es_push
theorem n273_1183 : mx_ins 273 1183 = some (.iadd, 1) := mx_ins_of mi273 dL_law_1183 rfl
theorem u273_1183 : ev d 273 1183 lo st h = evI d 273 1183 1184 lo st h .iadd := ev_u n273_1183 rfl
theorem n273_1184 : mx_ins 273 1184 = some (.iaload, 1) := mx_ins_of mi273 dL_law_1184 rfl
theorem u273_1184 : ev d 273 1184 lo st h = evI d 273 1184 1185 lo st h .iaload := ev_u n273_1184 rfl
theorem n273_1185 : mx_ins 273 1185 = some ((.invokevirtual 152), 3) := mx_ins_of mi273 dL_law_1185 rfl
theorem u273_1185 : ev d 273 1185 lo st h = evIn d 273 1185 1188 37 152 4 false lo st h := ev_inv n273_1185 rfl rfl ow273 ia37_152
theorem n273_1188 : mx_ins 273 1188 = some ((.if_icmp .eq 153), 3) := mx_ins_of mi273 dL_law_1188 rfl
theorem u273_1188 : ev d 273 1188 lo st h = evK .eq d 273 1341 1191 lo st h := ev_ic n273_1188 rfl rfl
theorem n273_1191 : mx_ins 273 1191 = some ((.iconst 0), 1) := mx_ins_of mi273 dL_law_1191 rfl
theorem u273_1191 : ev d 273 1191 lo st h = ev d 273 1192 lo (.int 0 :: st) h := (ev_s (f := mx_push (.int 0)) n273_1191 rfl rfl).trans es_push
theorem n273_1192 : mx_ins 273 1192 = some (.ireturn, 1) := mx_ins_of mi273 dL_law_1192 rfl
theorem u273_1192 : ev d 273 1192 lo st h = evI d 273 1192 1193 lo st h .ireturn := ev_u n273_1192 rfl
theorem n273_1193 : mx_ins 273 1193 = some ((.aload_n 1), 1) := mx_ins_of mi273 dL_law_1193 rfl
theorem u273_1193 : ev d 273 1193 lo st h = evS (mx_ldA 1) d 273 1194 lo st h := ev_s n273_1193 rfl rfl
theorem n273_1194 : mx_ins 273 1194 = some ((.aload_n 0), 1) := mx_ins_of mi273 dL_law_1194 rfl
theorem u273_1194 : ev d 273 1194 lo st h = evS (mx_ldA 0) d 273 1195 lo st h := ev_s n273_1194 rfl rfl
theorem n273_1195 : mx_ins 273 1195 = some ((.iload_n 3), 1) := mx_ins_of mi273 dL_law_1195 rfl
theorem u273_1195 : ev d 273 1195 lo st h = evS (mx_ldI 3) d 273 1196 lo st h := ev_s n273_1195 rfl rfl
theorem n273_1196 : mx_ins 273 1196 = some ((.iconst 1), 1) := mx_ins_of mi273 dL_law_1196 rfl
theorem u273_1196 : ev d 273 1196 lo st h = ev d 273 1197 lo (.int 1 :: st) h := (ev_s (f := mx_push (.int 1)) n273_1196 rfl rfl).trans es_push
theorem n273_1197 : mx_ins 273 1197 = some (.iadd, 1) := mx_ins_of mi273 dL_law_1197 rfl
theorem u273_1197 : ev d 273 1197 lo st h = evI d 273 1197 1198 lo st h .iadd := ev_u n273_1197 rfl
theorem n273_1198 : mx_ins 273 1198 = some (.iaload, 1) := mx_ins_of mi273 dL_law_1198 rfl
theorem u273_1198 : ev d 273 1198 lo st h = evI d 273 1198 1199 lo st h .iaload := ev_u n273_1198 rfl
theorem n273_1199 : mx_ins 273 1199 = some ((.aload_n 0), 1) := mx_ins_of mi273 dL_law_1199 rfl
theorem u273_1199 : ev d 273 1199 lo st h = evS (mx_ldA 0) d 273 1200 lo st h := ev_s n273_1199 rfl rfl
theorem n273_1200 : mx_ins 273 1200 = some ((.iload_n 3), 1) := mx_ins_of mi273 dL_law_1200 rfl
theorem u273_1200 : ev d 273 1200 lo st h = evS (mx_ldI 3) d 273 1201 lo st h := ev_s n273_1200 rfl rfl
theorem n273_1201 : mx_ins 273 1201 = some ((.iconst 2), 1) := mx_ins_of mi273 dL_law_1201 rfl
theorem u273_1201 : ev d 273 1201 lo st h = ev d 273 1202 lo (.int 2 :: st) h := (ev_s (f := mx_push (.int 2)) n273_1201 rfl rfl).trans es_push
theorem n273_1202 : mx_ins 273 1202 = some (.iadd, 1) := mx_ins_of mi273 dL_law_1202 rfl
theorem u273_1202 : ev d 273 1202 lo st h = evI d 273 1202 1203 lo st h .iadd := ev_u n273_1202 rfl
theorem n273_1203 : mx_ins 273 1203 = some (.iaload, 1) := mx_ins_of mi273 dL_law_1203 rfl
theorem u273_1203 : ev d 273 1203 lo st h = evI d 273 1203 1204 lo st h .iaload := ev_u n273_1203 rfl
theorem n273_1204 : mx_ins 273 1204 = some ((.invokevirtual 153), 3) := mx_ins_of mi273 dL_law_1204 rfl
theorem u273_1204 : ev d 273 1204 lo st h = evIn d 273 1204 1207 37 153 3 false lo st h := ev_inv n273_1204 rfl rfl ow273 ia37_153
theorem n273_1207 : mx_ins 273 1207 = some ((.aload_n 2), 1) := mx_ins_of mi273 dL_law_1207 rfl
theorem u273_1207 : ev d 273 1207 lo st h = evS (mx_ldA 2) d 273 1208 lo st h := ev_s n273_1207 rfl rfl
theorem n273_1208 : mx_ins 273 1208 = some ((.aload_n 0), 1) := mx_ins_of mi273 dL_law_1208 rfl
theorem u273_1208 : ev d 273 1208 lo st h = evS (mx_ldA 0) d 273 1209 lo st h := ev_s n273_1208 rfl rfl
theorem n273_1209 : mx_ins 273 1209 = some ((.iload_n 3), 1) := mx_ins_of mi273 dL_law_1209 rfl
theorem u273_1209 : ev d 273 1209 lo st h = evS (mx_ldI 3) d 273 1210 lo st h := ev_s n273_1209 rfl rfl
theorem n273_1210 : mx_ins 273 1210 = some ((.iconst 1), 1) := mx_ins_of mi273 dL_law_1210 rfl
theorem u273_1210 : ev d 273 1210 lo st h = ev d 273 1211 lo (.int 1 :: st) h := (ev_s (f := mx_push (.int 1)) n273_1210 rfl rfl).trans es_push
theorem n273_1211 : mx_ins 273 1211 = some (.iadd, 1) := mx_ins_of mi273 dL_law_1211 rfl
theorem u273_1211 : ev d 273 1211 lo st h = evI d 273 1211 1212 lo st h .iadd := ev_u n273_1211 rfl
theorem n273_1212 : mx_ins 273 1212 = some (.iaload, 1) := mx_ins_of mi273 dL_law_1212 rfl
theorem u273_1212 : ev d 273 1212 lo st h = evI d 273 1212 1213 lo st h .iaload := ev_u n273_1212 rfl
theorem n273_1213 : mx_ins 273 1213 = some ((.aload_n 0), 1) := mx_ins_of mi273 dL_law_1213 rfl
theorem u273_1213 : ev d 273 1213 lo st h = evS (mx_ldA 0) d 273 1214 lo st h := ev_s n273_1213 rfl rfl
theorem n273_1214 : mx_ins 273 1214 = some ((.iload_n 3), 1) := mx_ins_of mi273 dL_law_1214 rfl
theorem u273_1214 : ev d 273 1214 lo st h = evS (mx_ldI 3) d 273 1215 lo st h := ev_s n273_1214 rfl rfl
theorem n273_1215 : mx_ins 273 1215 = some ((.iconst 2), 1) := mx_ins_of mi273 dL_law_1215 rfl
theorem u273_1215 : ev d 273 1215 lo st h = ev d 273 1216 lo (.int 2 :: st) h := (ev_s (f := mx_push (.int 2)) n273_1215 rfl rfl).trans es_push
theorem n273_1216 : mx_ins 273 1216 = some (.iadd, 1) := mx_ins_of mi273 dL_law_1216 rfl
theorem u273_1216 : ev d 273 1216 lo st h = evI d 273 1216 1217 lo st h .iadd := ev_u n273_1216 rfl
theorem n273_1217 : mx_ins 273 1217 = some (.iaload, 1) := mx_ins_of mi273 dL_law_1217 rfl
theorem u273_1217 : ev d 273 1217 lo st h = evI d 273 1217 1218 lo st h .iaload := ev_u n273_1217 rfl
theorem n273_1218 : mx_ins 273 1218 = some ((.invokevirtual 156), 3) := mx_ins_of mi273 dL_law_1218 rfl
theorem u273_1218 : ev d 273 1218 lo st h = evIn d 273 1218 1221 37 156 3 false lo st h := ev_inv n273_1218 rfl rfl ow273 ia37_156
theorem n273_1221 : mx_ins 273 1221 = some ((.if_icmp .eq 120), 3) := mx_ins_of mi273 dL_law_1221 rfl
theorem u273_1221 : ev d 273 1221 lo st h = evK .eq d 273 1341 1224 lo st h := ev_ic n273_1221 rfl rfl
theorem n273_1224 : mx_ins 273 1224 = some ((.iconst 0), 1) := mx_ins_of mi273 dL_law_1224 rfl
theorem u273_1224 : ev d 273 1224 lo st h = ev d 273 1225 lo (.int 0 :: st) h := (ev_s (f := mx_push (.int 0)) n273_1224 rfl rfl).trans es_push
theorem n273_1225 : mx_ins 273 1225 = some (.ireturn, 1) := mx_ins_of mi273 dL_law_1225 rfl
theorem u273_1225 : ev d 273 1225 lo st h = evI d 273 1225 1226 lo st h .ireturn := ev_u n273_1225 rfl
theorem n273_1226 : mx_ins 273 1226 = some ((.aload_n 1), 1) := mx_ins_of mi273 dL_law_1226 rfl
theorem u273_1226 : ev d 273 1226 lo st h = evS (mx_ldA 1) d 273 1227 lo st h := ev_s n273_1226 rfl rfl
theorem n273_1227 : mx_ins 273 1227 = some ((.aload_n 0), 1) := mx_ins_of mi273 dL_law_1227 rfl
theorem u273_1227 : ev d 273 1227 lo st h = evS (mx_ldA 0) d 273 1228 lo st h := ev_s n273_1227 rfl rfl
theorem n273_1228 : mx_ins 273 1228 = some ((.iload_n 3), 1) := mx_ins_of mi273 dL_law_1228 rfl
theorem u273_1228 : ev d 273 1228 lo st h = evS (mx_ldI 3) d 273 1229 lo st h := ev_s n273_1228 rfl rfl
theorem n273_1229 : mx_ins 273 1229 = some ((.iconst 1), 1) := mx_ins_of mi273 dL_law_1229 rfl
theorem u273_1229 : ev d 273 1229 lo st h = ev d 273 1230 lo (.int 1 :: st) h := (ev_s (f := mx_push (.int 1)) n273_1229 rfl rfl).trans es_push
theorem n273_1230 : mx_ins 273 1230 = some (.iadd, 1) := mx_ins_of mi273 dL_law_1230 rfl
theorem u273_1230 : ev d 273 1230 lo st h = evI d 273 1230 1231 lo st h .iadd := ev_u n273_1230 rfl
theorem n273_1231 : mx_ins 273 1231 = some (.iaload, 1) := mx_ins_of mi273 dL_law_1231 rfl
theorem u273_1231 : ev d 273 1231 lo st h = evI d 273 1231 1232 lo st h .iaload := ev_u n273_1231 rfl
theorem n273_1232 : mx_ins 273 1232 = some ((.aload_n 0), 1) := mx_ins_of mi273 dL_law_1232 rfl
theorem u273_1232 : ev d 273 1232 lo st h = evS (mx_ldA 0) d 273 1233 lo st h := ev_s n273_1232 rfl rfl
theorem n273_1233 : mx_ins 273 1233 = some ((.iload_n 3), 1) := mx_ins_of mi273 dL_law_1233 rfl
theorem u273_1233 : ev d 273 1233 lo st h = evS (mx_ldI 3) d 273 1234 lo st h := ev_s n273_1233 rfl rfl
theorem n273_1234 : mx_ins 273 1234 = some ((.iconst 2), 1) := mx_ins_of mi273 dL_law_1234 rfl
theorem u273_1234 : ev d 273 1234 lo st h = ev d 273 1235 lo (.int 2 :: st) h := (ev_s (f := mx_push (.int 2)) n273_1234 rfl rfl).trans es_push
theorem n273_1235 : mx_ins 273 1235 = some (.iadd, 1) := mx_ins_of mi273 dL_law_1235 rfl
theorem u273_1235 : ev d 273 1235 lo st h = evI d 273 1235 1236 lo st h .iadd := ev_u n273_1235 rfl
theorem n273_1236 : mx_ins 273 1236 = some (.iaload, 1) := mx_ins_of mi273 dL_law_1236 rfl
theorem u273_1236 : ev d 273 1236 lo st h = evI d 273 1236 1237 lo st h .iaload := ev_u n273_1236 rfl
theorem n273_1237 : mx_ins 273 1237 = some ((.aload_n 0), 1) := mx_ins_of mi273 dL_law_1237 rfl
theorem u273_1237 : ev d 273 1237 lo st h = evS (mx_ldA 0) d 273 1238 lo st h := ev_s n273_1237 rfl rfl
theorem n273_1238 : mx_ins 273 1238 = some ((.iload_n 3), 1) := mx_ins_of mi273 dL_law_1238 rfl
theorem u273_1238 : ev d 273 1238 lo st h = evS (mx_ldI 3) d 273 1239 lo st h := ev_s n273_1238 rfl rfl
theorem n273_1239 : mx_ins 273 1239 = some ((.iconst 3), 1) := mx_ins_of mi273 dL_law_1239 rfl
theorem u273_1239 : ev d 273 1239 lo st h = ev d 273 1240 lo (.int 3 :: st) h := (ev_s (f := mx_push (.int 3)) n273_1239 rfl rfl).trans es_push
theorem n273_1240 : mx_ins 273 1240 = some (.iadd, 1) := mx_ins_of mi273 dL_law_1240 rfl
theorem u273_1240 : ev d 273 1240 lo st h = evI d 273 1240 1241 lo st h .iadd := ev_u n273_1240 rfl
theorem n273_1241 : mx_ins 273 1241 = some (.iaload, 1) := mx_ins_of mi273 dL_law_1241 rfl
theorem u273_1241 : ev d 273 1241 lo st h = evI d 273 1241 1242 lo st h .iaload := ev_u n273_1241 rfl
theorem n273_1242 : mx_ins 273 1242 = some ((.invokevirtual 157), 3) := mx_ins_of mi273 dL_law_1242 rfl
theorem u273_1242 : ev d 273 1242 lo st h = evIn d 273 1242 1245 37 157 4 false lo st h := ev_inv n273_1242 rfl rfl ow273 ia37_157
theorem n273_1245 : mx_ins 273 1245 = some ((.aload_n 2), 1) := mx_ins_of mi273 dL_law_1245 rfl
theorem u273_1245 : ev d 273 1245 lo st h = evS (mx_ldA 2) d 273 1246 lo st h := ev_s n273_1245 rfl rfl
theorem n273_1246 : mx_ins 273 1246 = some ((.aload_n 0), 1) := mx_ins_of mi273 dL_law_1246 rfl
theorem u273_1246 : ev d 273 1246 lo st h = evS (mx_ldA 0) d 273 1247 lo st h := ev_s n273_1246 rfl rfl
theorem n273_1247 : mx_ins 273 1247 = some ((.iload_n 3), 1) := mx_ins_of mi273 dL_law_1247 rfl
theorem u273_1247 : ev d 273 1247 lo st h = evS (mx_ldI 3) d 273 1248 lo st h := ev_s n273_1247 rfl rfl
theorem n273_1248 : mx_ins 273 1248 = some ((.iconst 1), 1) := mx_ins_of mi273 dL_law_1248 rfl
theorem u273_1248 : ev d 273 1248 lo st h = ev d 273 1249 lo (.int 1 :: st) h := (ev_s (f := mx_push (.int 1)) n273_1248 rfl rfl).trans es_push
theorem n273_1249 : mx_ins 273 1249 = some (.iadd, 1) := mx_ins_of mi273 dL_law_1249 rfl
theorem u273_1249 : ev d 273 1249 lo st h = evI d 273 1249 1250 lo st h .iadd := ev_u n273_1249 rfl
theorem n273_1250 : mx_ins 273 1250 = some (.iaload, 1) := mx_ins_of mi273 dL_law_1250 rfl
theorem u273_1250 : ev d 273 1250 lo st h = evI d 273 1250 1251 lo st h .iaload := ev_u n273_1250 rfl
theorem n273_1251 : mx_ins 273 1251 = some ((.aload_n 0), 1) := mx_ins_of mi273 dL_law_1251 rfl
theorem u273_1251 : ev d 273 1251 lo st h = evS (mx_ldA 0) d 273 1252 lo st h := ev_s n273_1251 rfl rfl
theorem n273_1252 : mx_ins 273 1252 = some ((.iload_n 3), 1) := mx_ins_of mi273 dL_law_1252 rfl
theorem u273_1252 : ev d 273 1252 lo st h = evS (mx_ldI 3) d 273 1253 lo st h := ev_s n273_1252 rfl rfl
theorem n273_1253 : mx_ins 273 1253 = some ((.iconst 2), 1) := mx_ins_of mi273 dL_law_1253 rfl
theorem u273_1253 : ev d 273 1253 lo st h = ev d 273 1254 lo (.int 2 :: st) h := (ev_s (f := mx_push (.int 2)) n273_1253 rfl rfl).trans es_push
theorem n273_1254 : mx_ins 273 1254 = some (.iadd, 1) := mx_ins_of mi273 dL_law_1254 rfl
theorem u273_1254 : ev d 273 1254 lo st h = evI d 273 1254 1255 lo st h .iadd := ev_u n273_1254 rfl
theorem n273_1255 : mx_ins 273 1255 = some (.iaload, 1) := mx_ins_of mi273 dL_law_1255 rfl
theorem u273_1255 : ev d 273 1255 lo st h = evI d 273 1255 1256 lo st h .iaload := ev_u n273_1255 rfl
theorem n273_1256 : mx_ins 273 1256 = some ((.aload_n 0), 1) := mx_ins_of mi273 dL_law_1256 rfl
theorem u273_1256 : ev d 273 1256 lo st h = evS (mx_ldA 0) d 273 1257 lo st h := ev_s n273_1256 rfl rfl
theorem n273_1257 : mx_ins 273 1257 = some ((.iload_n 3), 1) := mx_ins_of mi273 dL_law_1257 rfl
theorem u273_1257 : ev d 273 1257 lo st h = evS (mx_ldI 3) d 273 1258 lo st h := ev_s n273_1257 rfl rfl
theorem n273_1258 : mx_ins 273 1258 = some ((.iconst 3), 1) := mx_ins_of mi273 dL_law_1258 rfl
theorem u273_1258 : ev d 273 1258 lo st h = ev d 273 1259 lo (.int 3 :: st) h := (ev_s (f := mx_push (.int 3)) n273_1258 rfl rfl).trans es_push
theorem n273_1259 : mx_ins 273 1259 = some (.iadd, 1) := mx_ins_of mi273 dL_law_1259 rfl
theorem u273_1259 : ev d 273 1259 lo st h = evI d 273 1259 1260 lo st h .iadd := ev_u n273_1259 rfl
theorem n273_1260 : mx_ins 273 1260 = some (.iaload, 1) := mx_ins_of mi273 dL_law_1260 rfl
theorem u273_1260 : ev d 273 1260 lo st h = evI d 273 1260 1261 lo st h .iaload := ev_u n273_1260 rfl
theorem n273_1261 : mx_ins 273 1261 = some ((.invokevirtual 160), 3) := mx_ins_of mi273 dL_law_1261 rfl
theorem u273_1261 : ev d 273 1261 lo st h = evIn d 273 1261 1264 37 160 4 false lo st h := ev_inv n273_1261 rfl rfl ow273 ia37_160
theorem n273_1264 : mx_ins 273 1264 = some ((.if_icmp .eq 77), 3) := mx_ins_of mi273 dL_law_1264 rfl
theorem u273_1264 : ev d 273 1264 lo st h = evK .eq d 273 1341 1267 lo st h := ev_ic n273_1264 rfl rfl
theorem n273_1267 : mx_ins 273 1267 = some ((.iconst 0), 1) := mx_ins_of mi273 dL_law_1267 rfl
theorem u273_1267 : ev d 273 1267 lo st h = ev d 273 1268 lo (.int 0 :: st) h := (ev_s (f := mx_push (.int 0)) n273_1267 rfl rfl).trans es_push
theorem n273_1268 : mx_ins 273 1268 = some (.ireturn, 1) := mx_ins_of mi273 dL_law_1268 rfl
theorem u273_1268 : ev d 273 1268 lo st h = evI d 273 1268 1269 lo st h .ireturn := ev_u n273_1268 rfl
theorem n273_1269 : mx_ins 273 1269 = some ((.aload_n 1), 1) := mx_ins_of mi273 dL_law_1269 rfl
theorem u273_1269 : ev d 273 1269 lo st h = evS (mx_ldA 1) d 273 1270 lo st h := ev_s n273_1269 rfl rfl
theorem n273_1270 : mx_ins 273 1270 = some ((.aload_n 0), 1) := mx_ins_of mi273 dL_law_1270 rfl
theorem u273_1270 : ev d 273 1270 lo st h = evS (mx_ldA 0) d 273 1271 lo st h := ev_s n273_1270 rfl rfl
theorem n273_1271 : mx_ins 273 1271 = some ((.iload_n 3), 1) := mx_ins_of mi273 dL_law_1271 rfl
theorem u273_1271 : ev d 273 1271 lo st h = evS (mx_ldI 3) d 273 1272 lo st h := ev_s n273_1271 rfl rfl
theorem n273_1272 : mx_ins 273 1272 = some ((.iconst 1), 1) := mx_ins_of mi273 dL_law_1272 rfl
theorem u273_1272 : ev d 273 1272 lo st h = ev d 273 1273 lo (.int 1 :: st) h := (ev_s (f := mx_push (.int 1)) n273_1272 rfl rfl).trans es_push
theorem n273_1273 : mx_ins 273 1273 = some (.iadd, 1) := mx_ins_of mi273 dL_law_1273 rfl
theorem u273_1273 : ev d 273 1273 lo st h = evI d 273 1273 1274 lo st h .iadd := ev_u n273_1273 rfl
theorem n273_1274 : mx_ins 273 1274 = some (.iaload, 1) := mx_ins_of mi273 dL_law_1274 rfl
theorem u273_1274 : ev d 273 1274 lo st h = evI d 273 1274 1275 lo st h .iaload := ev_u n273_1274 rfl
theorem n273_1275 : mx_ins 273 1275 = some ((.invokevirtual 161), 3) := mx_ins_of mi273 dL_law_1275 rfl
theorem u273_1275 : ev d 273 1275 lo st h = evIn d 273 1275 1278 37 161 2 false lo st h := ev_inv n273_1275 rfl rfl ow273 ia37_161
theorem n273_1278 : mx_ins 273 1278 = some ((.aload_n 2), 1) := mx_ins_of mi273 dL_law_1278 rfl
theorem u273_1278 : ev d 273 1278 lo st h = evS (mx_ldA 2) d 273 1279 lo st h := ev_s n273_1278 rfl rfl
theorem n273_1279 : mx_ins 273 1279 = some ((.aload_n 0), 1) := mx_ins_of mi273 dL_law_1279 rfl
theorem u273_1279 : ev d 273 1279 lo st h = evS (mx_ldA 0) d 273 1280 lo st h := ev_s n273_1279 rfl rfl
theorem n273_1280 : mx_ins 273 1280 = some ((.iload_n 3), 1) := mx_ins_of mi273 dL_law_1280 rfl
theorem u273_1280 : ev d 273 1280 lo st h = evS (mx_ldI 3) d 273 1281 lo st h := ev_s n273_1280 rfl rfl
theorem n273_1281 : mx_ins 273 1281 = some ((.iconst 1), 1) := mx_ins_of mi273 dL_law_1281 rfl
theorem u273_1281 : ev d 273 1281 lo st h = ev d 273 1282 lo (.int 1 :: st) h := (ev_s (f := mx_push (.int 1)) n273_1281 rfl rfl).trans es_push
theorem n273_1282 : mx_ins 273 1282 = some (.iadd, 1) := mx_ins_of mi273 dL_law_1282 rfl
theorem u273_1282 : ev d 273 1282 lo st h = evI d 273 1282 1283 lo st h .iadd := ev_u n273_1282 rfl
theorem n273_1283 : mx_ins 273 1283 = some (.iaload, 1) := mx_ins_of mi273 dL_law_1283 rfl
theorem u273_1283 : ev d 273 1283 lo st h = evI d 273 1283 1284 lo st h .iaload := ev_u n273_1283 rfl
theorem n273_1284 : mx_ins 273 1284 = some ((.invokevirtual 164), 3) := mx_ins_of mi273 dL_law_1284 rfl
theorem u273_1284 : ev d 273 1284 lo st h = evIn d 273 1284 1287 37 164 2 false lo st h := ev_inv n273_1284 rfl rfl ow273 ia37_164
theorem n273_1287 : mx_ins 273 1287 = some ((.if_icmp .eq 54), 3) := mx_ins_of mi273 dL_law_1287 rfl
theorem u273_1287 : ev d 273 1287 lo st h = evK .eq d 273 1341 1290 lo st h := ev_ic n273_1287 rfl rfl
theorem n273_1290 : mx_ins 273 1290 = some ((.iconst 0), 1) := mx_ins_of mi273 dL_law_1290 rfl
theorem u273_1290 : ev d 273 1290 lo st h = ev d 273 1291 lo (.int 0 :: st) h := (ev_s (f := mx_push (.int 0)) n273_1290 rfl rfl).trans es_push
theorem n273_1291 : mx_ins 273 1291 = some (.ireturn, 1) := mx_ins_of mi273 dL_law_1291 rfl
theorem u273_1291 : ev d 273 1291 lo st h = evI d 273 1291 1292 lo st h .ireturn := ev_u n273_1291 rfl
theorem n273_1292 : mx_ins 273 1292 = some ((.aload_n 1), 1) := mx_ins_of mi273 dL_law_1292 rfl
theorem u273_1292 : ev d 273 1292 lo st h = evS (mx_ldA 1) d 273 1293 lo st h := ev_s n273_1292 rfl rfl
theorem n273_1293 : mx_ins 273 1293 = some ((.aload_n 0), 1) := mx_ins_of mi273 dL_law_1293 rfl
theorem u273_1293 : ev d 273 1293 lo st h = evS (mx_ldA 0) d 273 1294 lo st h := ev_s n273_1293 rfl rfl
theorem n273_1294 : mx_ins 273 1294 = some ((.iload_n 3), 1) := mx_ins_of mi273 dL_law_1294 rfl
theorem u273_1294 : ev d 273 1294 lo st h = evS (mx_ldI 3) d 273 1295 lo st h := ev_s n273_1294 rfl rfl
theorem n273_1295 : mx_ins 273 1295 = some ((.iconst 1), 1) := mx_ins_of mi273 dL_law_1295 rfl
theorem u273_1295 : ev d 273 1295 lo st h = ev d 273 1296 lo (.int 1 :: st) h := (ev_s (f := mx_push (.int 1)) n273_1295 rfl rfl).trans es_push
theorem n273_1296 : mx_ins 273 1296 = some (.iadd, 1) := mx_ins_of mi273 dL_law_1296 rfl
theorem u273_1296 : ev d 273 1296 lo st h = evI d 273 1296 1297 lo st h .iadd := ev_u n273_1296 rfl
theorem n273_1297 : mx_ins 273 1297 = some (.iaload, 1) := mx_ins_of mi273 dL_law_1297 rfl
theorem u273_1297 : ev d 273 1297 lo st h = evI d 273 1297 1298 lo st h .iaload := ev_u n273_1297 rfl
theorem n273_1298 : mx_ins 273 1298 = some ((.invokevirtual 165), 3) := mx_ins_of mi273 dL_law_1298 rfl
theorem u273_1298 : ev d 273 1298 lo st h = evIn d 273 1298 1301 37 165 2 false lo st h := ev_inv n273_1298 rfl rfl ow273 ia37_165
theorem n273_1301 : mx_ins 273 1301 = some ((.aload_n 2), 1) := mx_ins_of mi273 dL_law_1301 rfl
theorem u273_1301 : ev d 273 1301 lo st h = evS (mx_ldA 2) d 273 1302 lo st h := ev_s n273_1301 rfl rfl
theorem n273_1302 : mx_ins 273 1302 = some ((.aload_n 0), 1) := mx_ins_of mi273 dL_law_1302 rfl
theorem u273_1302 : ev d 273 1302 lo st h = evS (mx_ldA 0) d 273 1303 lo st h := ev_s n273_1302 rfl rfl
theorem n273_1303 : mx_ins 273 1303 = some ((.iload_n 3), 1) := mx_ins_of mi273 dL_law_1303 rfl
theorem u273_1303 : ev d 273 1303 lo st h = evS (mx_ldI 3) d 273 1304 lo st h := ev_s n273_1303 rfl rfl
theorem n273_1304 : mx_ins 273 1304 = some ((.iconst 1), 1) := mx_ins_of mi273 dL_law_1304 rfl
theorem u273_1304 : ev d 273 1304 lo st h = ev d 273 1305 lo (.int 1 :: st) h := (ev_s (f := mx_push (.int 1)) n273_1304 rfl rfl).trans es_push
theorem n273_1305 : mx_ins 273 1305 = some (.iadd, 1) := mx_ins_of mi273 dL_law_1305 rfl
theorem u273_1305 : ev d 273 1305 lo st h = evI d 273 1305 1306 lo st h .iadd := ev_u n273_1305 rfl
theorem n273_1306 : mx_ins 273 1306 = some (.iaload, 1) := mx_ins_of mi273 dL_law_1306 rfl
theorem u273_1306 : ev d 273 1306 lo st h = evI d 273 1306 1307 lo st h .iaload := ev_u n273_1306 rfl
theorem n273_1307 : mx_ins 273 1307 = some ((.invokevirtual 168), 3) := mx_ins_of mi273 dL_law_1307 rfl
theorem u273_1307 : ev d 273 1307 lo st h = evIn d 273 1307 1310 37 168 2 false lo st h := ev_inv n273_1307 rfl rfl ow273 ia37_168
theorem n273_1310 : mx_ins 273 1310 = some ((.if_icmp .eq 31), 3) := mx_ins_of mi273 dL_law_1310 rfl
theorem u273_1310 : ev d 273 1310 lo st h = evK .eq d 273 1341 1313 lo st h := ev_ic n273_1310 rfl rfl
theorem n273_1313 : mx_ins 273 1313 = some ((.iconst 0), 1) := mx_ins_of mi273 dL_law_1313 rfl
theorem u273_1313 : ev d 273 1313 lo st h = ev d 273 1314 lo (.int 0 :: st) h := (ev_s (f := mx_push (.int 0)) n273_1313 rfl rfl).trans es_push
theorem n273_1314 : mx_ins 273 1314 = some (.ireturn, 1) := mx_ins_of mi273 dL_law_1314 rfl
theorem u273_1314 : ev d 273 1314 lo st h = evI d 273 1314 1315 lo st h .ireturn := ev_u n273_1314 rfl
theorem n273_1315 : mx_ins 273 1315 = some ((.aload_n 1), 1) := mx_ins_of mi273 dL_law_1315 rfl
theorem u273_1315 : ev d 273 1315 lo st h = evS (mx_ldA 1) d 273 1316 lo st h := ev_s n273_1315 rfl rfl
theorem n273_1316 : mx_ins 273 1316 = some ((.invokevirtual 169), 3) := mx_ins_of mi273 dL_law_1316 rfl
theorem u273_1316 : ev d 273 1316 lo st h = evIn d 273 1316 1319 37 169 1 false lo st h := ev_inv n273_1316 rfl rfl ow273 ia37_169
theorem n273_1319 : mx_ins 273 1319 = some ((.aload_n 2), 1) := mx_ins_of mi273 dL_law_1319 rfl
theorem u273_1319 : ev d 273 1319 lo st h = evS (mx_ldA 2) d 273 1320 lo st h := ev_s n273_1319 rfl rfl
theorem n273_1320 : mx_ins 273 1320 = some ((.invokevirtual 172), 3) := mx_ins_of mi273 dL_law_1320 rfl
theorem u273_1320 : ev d 273 1320 lo st h = evIn d 273 1320 1323 37 172 1 false lo st h := ev_inv n273_1320 rfl rfl ow273 ia37_172
theorem n273_1323 : mx_ins 273 1323 = some ((.if_icmp .eq 18), 3) := mx_ins_of mi273 dL_law_1323 rfl
theorem u273_1323 : ev d 273 1323 lo st h = evK .eq d 273 1341 1326 lo st h := ev_ic n273_1323 rfl rfl
theorem n273_1326 : mx_ins 273 1326 = some ((.iconst 0), 1) := mx_ins_of mi273 dL_law_1326 rfl
theorem u273_1326 : ev d 273 1326 lo st h = ev d 273 1327 lo (.int 0 :: st) h := (ev_s (f := mx_push (.int 0)) n273_1326 rfl rfl).trans es_push
theorem n273_1327 : mx_ins 273 1327 = some (.ireturn, 1) := mx_ins_of mi273 dL_law_1327 rfl
theorem u273_1327 : ev d 273 1327 lo st h = evI d 273 1327 1328 lo st h .ireturn := ev_u n273_1327 rfl
theorem n273_1328 : mx_ins 273 1328 = some ((.aload_n 1), 1) := mx_ins_of mi273 dL_law_1328 rfl
theorem u273_1328 : ev d 273 1328 lo st h = evS (mx_ldA 1) d 273 1329 lo st h := ev_s n273_1328 rfl rfl
theorem n273_1329 : mx_ins 273 1329 = some ((.invokevirtual 173), 3) := mx_ins_of mi273 dL_law_1329 rfl
theorem u273_1329 : ev d 273 1329 lo st h = evIn d 273 1329 1332 37 173 1 false lo st h := ev_inv n273_1329 rfl rfl ow273 ia37_173
theorem n273_1332 : mx_ins 273 1332 = some ((.aload_n 2), 1) := mx_ins_of mi273 dL_law_1332 rfl
theorem u273_1332 : ev d 273 1332 lo st h = evS (mx_ldA 2) d 273 1333 lo st h := ev_s n273_1332 rfl rfl
theorem n273_1333 : mx_ins 273 1333 = some ((.invokevirtual 176), 3) := mx_ins_of mi273 dL_law_1333 rfl
theorem u273_1333 : ev d 273 1333 lo st h = evIn d 273 1333 1336 37 176 1 false lo st h := ev_inv n273_1333 rfl rfl ow273 ia37_176
theorem n273_1336 : mx_ins 273 1336 = some ((.if_icmp .eq 5), 3) := mx_ins_of mi273 dL_law_1336 rfl
theorem u273_1336 : ev d 273 1336 lo st h = evK .eq d 273 1341 1339 lo st h := ev_ic n273_1336 rfl rfl
theorem n273_1339 : mx_ins 273 1339 = some ((.iconst 0), 1) := mx_ins_of mi273 dL_law_1339 rfl
theorem u273_1339 : ev d 273 1339 lo st h = ev d 273 1340 lo (.int 0 :: st) h := (ev_s (f := mx_push (.int 0)) n273_1339 rfl rfl).trans es_push
theorem n273_1340 : mx_ins 273 1340 = some (.ireturn, 1) := mx_ins_of mi273 dL_law_1340 rfl
theorem u273_1340 : ev d 273 1340 lo st h = evI d 273 1340 1341 lo st h .ireturn := ev_u n273_1340 rfl
theorem n273_1341 : mx_ins 273 1341 = some ((.iinc 3 5), 3) := mx_ins_of mi273 dL_law_1341 rfl
theorem u273_1341 : ev d 273 1341 lo st h = evS (mx_inc 3 (5)) d 273 1344 lo st h := ev_s n273_1341 rfl rfl
theorem n273_1344 : mx_ins 273 1344 = some ((.goto (-1326)), 3) := mx_ins_of mi273 dL_law_1344 rfl
theorem u273_1344 : ev d 273 1344 lo st h = ev d 273 18 lo st h := ev_goto n273_1344 rfl
theorem n273_1347 : mx_ins 273 1347 = some ((.iconst 1), 1) := mx_ins_of mi273 dL_law_1347 rfl
theorem u273_1347 : ev d 273 1347 lo st h = ev d 273 1348 lo (.int 1 :: st) h := (ev_s (f := mx_push (.int 1)) n273_1347 rfl rfl).trans es_push
theorem n273_1348 : mx_ins 273 1348 = some (.ireturn, 1) := mx_ins_of mi273 dL_law_1348 rfl
theorem u273_1348 : ev d 273 1348 lo st h = evI d 273 1348 1349 lo st h .ireturn := ev_u n273_1348 rfl
end MXU2
