/-! how each instruction goes on, by program (gen_u.py) -/
set_option maxRecDepth 100000
section MXU0
variable {d : Nat} {lo : mx_L} {st : List Value} {h : mx_H}
theorem mi0 : mx_mi 0 = some (yX0_init, cX0_init, 1, (none : Option FieldType), 0, 1, []) := rfl
theorem ow0 : mx_own 0 = 0 := mx_mi_own mi0
theorem mm0 : mx_max 0 = 1 := mx_mi_max mi0
theorem rt0 : mx_ret 0 = (none : Option FieldType) := mx_mi_ret mi0
theorem hn0 : mx_hnd 0 = [] := mx_mi_hnd mi0
theorem n0_0 : mx_ins 0 0 = some ((.aload_n 0), 1) := mx_ins_of mi0 dX0_init_0 rfl
theorem u0_0 : ev d 0 0 lo st h = evS (mx_ldA 0) d 0 1 lo st h := ev_s n0_0 rfl rfl
theorem n0_1 : mx_ins 0 1 = some ((.invokespecial 13), 3) := mx_ins_of mi0 dX0_init_1 rfl
theorem u0_1 : ev d 0 1 lo st h = evIn d 0 1 4 0 13 1 true lo st h := ev_inv n0_1 rfl rfl ow0 ia0_13
theorem n0_4 : mx_ins 0 4 = some ((.aload_n 0), 1) := mx_ins_of mi0 dX0_init_4 rfl
theorem u0_4 : ev d 0 4 lo st h = evS (mx_ldA 0) d 0 5 lo st h := ev_s n0_4 rfl rfl
theorem n0_5 : mx_ins 0 5 = some ((.new 19), 3) := mx_ins_of mi0 dX0_init_5 rfl
theorem u0_5 : ev d 0 5 lo st h = evS (mx_nw 0 19) d 0 8 lo st h := ev_s n0_5 rfl rfl
theorem n0_8 : mx_ins 0 8 = some (.dup, 1) := mx_ins_of mi0 dX0_init_8 rfl
theorem u0_8 : ev d 0 8 lo st h = evI d 0 8 9 lo st h .dup := ev_u n0_8 rfl
theorem n0_9 : mx_ins 0 9 = some ((.invokespecial 21), 3) := mx_ins_of mi0 dX0_init_9 rfl
theorem u0_9 : ev d 0 9 lo st h = evIn d 0 9 12 0 21 1 false lo st h := ev_inv n0_9 rfl rfl ow0 ia0_21
theorem n0_12 : mx_ins 0 12 = some ((.putfield 22), 3) := mx_ins_of mi0 dX0_init_12 rfl
theorem u0_12 : ev d 0 12 lo st h = evS (mx_pf 0 22 true) d 0 15 lo st h := ev_s n0_12 rfl rfl
theorem n0_15 : mx_ins 0 15 = some ((.aload_n 0), 1) := mx_ins_of mi0 dX0_init_15 rfl
theorem u0_15 : ev d 0 15 lo st h = evS (mx_ldA 0) d 0 16 lo st h := ev_s n0_15 rfl rfl
theorem n0_16 : mx_ins 0 16 = some ((.new 19), 3) := mx_ins_of mi0 dX0_init_16 rfl
theorem u0_16 : ev d 0 16 lo st h = evS (mx_nw 0 19) d 0 19 lo st h := ev_s n0_16 rfl rfl
theorem n0_19 : mx_ins 0 19 = some (.dup, 1) := mx_ins_of mi0 dX0_init_19 rfl
theorem u0_19 : ev d 0 19 lo st h = evI d 0 19 20 lo st h .dup := ev_u n0_19 rfl
theorem n0_20 : mx_ins 0 20 = some ((.invokespecial 21), 3) := mx_ins_of mi0 dX0_init_20 rfl
theorem u0_20 : ev d 0 20 lo st h = evIn d 0 20 23 0 21 1 false lo st h := ev_inv n0_20 rfl rfl ow0 ia0_21
theorem n0_23 : mx_ins 0 23 = some ((.putfield 26), 3) := mx_ins_of mi0 dX0_init_23 rfl
theorem u0_23 : ev d 0 23 lo st h = evS (mx_pf 0 26 true) d 0 26 lo st h := ev_s n0_23 rfl rfl
theorem n0_26 : mx_ins 0 26 = some ((.aload_n 0), 1) := mx_ins_of mi0 dX0_init_26 rfl
theorem u0_26 : ev d 0 26 lo st h = evS (mx_ldA 0) d 0 27 lo st h := ev_s n0_26 rfl rfl
theorem n0_27 : mx_ins 0 27 = some ((.new 19), 3) := mx_ins_of mi0 dX0_init_27 rfl
theorem u0_27 : ev d 0 27 lo st h = evS (mx_nw 0 19) d 0 30 lo st h := ev_s n0_27 rfl rfl
theorem n0_30 : mx_ins 0 30 = some (.dup, 1) := mx_ins_of mi0 dX0_init_30 rfl
theorem u0_30 : ev d 0 30 lo st h = evI d 0 30 31 lo st h .dup := ev_u n0_30 rfl
theorem n0_31 : mx_ins 0 31 = some ((.invokespecial 21), 3) := mx_ins_of mi0 dX0_init_31 rfl
theorem u0_31 : ev d 0 31 lo st h = evIn d 0 31 34 0 21 1 false lo st h := ev_inv n0_31 rfl rfl ow0 ia0_21
theorem n0_34 : mx_ins 0 34 = some ((.putfield 29), 3) := mx_ins_of mi0 dX0_init_34 rfl
theorem u0_34 : ev d 0 34 lo st h = evS (mx_pf 0 29 true) d 0 37 lo st h := ev_s n0_34 rfl rfl
theorem n0_37 : mx_ins 0 37 = some ((.aload_n 0), 1) := mx_ins_of mi0 dX0_init_37 rfl
theorem u0_37 : ev d 0 37 lo st h = evS (mx_ldA 0) d 0 38 lo st h := ev_s n0_37 rfl rfl
theorem n0_38 : mx_ins 0 38 = some ((.new 32), 3) := mx_ins_of mi0 dX0_init_38 rfl
theorem u0_38 : ev d 0 38 lo st h = evS (mx_nw 0 32) d 0 41 lo st h := ev_s n0_38 rfl rfl
theorem n0_41 : mx_ins 0 41 = some (.dup, 1) := mx_ins_of mi0 dX0_init_41 rfl
theorem u0_41 : ev d 0 41 lo st h = evI d 0 41 42 lo st h .dup := ev_u n0_41 rfl
theorem n0_42 : mx_ins 0 42 = some ((.invokespecial 34), 3) := mx_ins_of mi0 dX0_init_42 rfl
theorem u0_42 : ev d 0 42 lo st h = evIn d 0 42 45 0 34 1 false lo st h := ev_inv n0_42 rfl rfl ow0 ia0_34
theorem n0_45 : mx_ins 0 45 = some ((.putfield 35), 3) := mx_ins_of mi0 dX0_init_45 rfl
theorem u0_45 : ev d 0 45 lo st h = evS (mx_pf 0 35 true) d 0 48 lo st h := ev_s n0_45 rfl rfl
theorem n0_48 : mx_ins 0 48 = some ((.aload_n 0), 1) := mx_ins_of mi0 dX0_init_48 rfl
theorem u0_48 : ev d 0 48 lo st h = evS (mx_ldA 0) d 0 49 lo st h := ev_s n0_48 rfl rfl
theorem n0_49 : mx_ins 0 49 = some ((.new 32), 3) := mx_ins_of mi0 dX0_init_49 rfl
theorem u0_49 : ev d 0 49 lo st h = evS (mx_nw 0 32) d 0 52 lo st h := ev_s n0_49 rfl rfl
theorem n0_52 : mx_ins 0 52 = some (.dup, 1) := mx_ins_of mi0 dX0_init_52 rfl
theorem u0_52 : ev d 0 52 lo st h = evI d 0 52 53 lo st h .dup := ev_u n0_52 rfl
theorem n0_53 : mx_ins 0 53 = some ((.invokespecial 34), 3) := mx_ins_of mi0 dX0_init_53 rfl
theorem u0_53 : ev d 0 53 lo st h = evIn d 0 53 56 0 34 1 false lo st h := ev_inv n0_53 rfl rfl ow0 ia0_34
theorem n0_56 : mx_ins 0 56 = some ((.putfield 39), 3) := mx_ins_of mi0 dX0_init_56 rfl
theorem u0_56 : ev d 0 56 lo st h = evS (mx_pf 0 39 true) d 0 59 lo st h := ev_s n0_56 rfl rfl
theorem n0_59 : mx_ins 0 59 = some ((.aload_n 0), 1) := mx_ins_of mi0 dX0_init_59 rfl
theorem u0_59 : ev d 0 59 lo st h = evS (mx_ldA 0) d 0 60 lo st h := ev_s n0_59 rfl rfl
theorem n0_60 : mx_ins 0 60 = some ((.bipush 6), 2) := mx_ins_of mi0 dX0_init_60 rfl
theorem u0_60 : ev d 0 60 lo st h = ev d 0 62 lo (.int 6 :: st) h := (ev_s (f := mx_push (.int 6)) n0_60 rfl rfl).trans es_push
theorem n0_62 : mx_ins 0 62 = some ((.anewarray 42), 3) := mx_ins_of mi0 dX0_init_62 rfl
theorem u0_62 : ev d 0 62 lo st h = evS (mx_nq 0 42) d 0 65 lo st h := ev_s n0_62 rfl rfl
theorem n0_65 : mx_ins 0 65 = some (.dup, 1) := mx_ins_of mi0 dX0_init_65 rfl
theorem u0_65 : ev d 0 65 lo st h = evI d 0 65 66 lo st h .dup := ev_u n0_65 rfl
theorem n0_66 : mx_ins 0 66 = some ((.iconst 0), 1) := mx_ins_of mi0 dX0_init_66 rfl
theorem u0_66 : ev d 0 66 lo st h = ev d 0 67 lo (.int 0 :: st) h := (ev_s (f := mx_push (.int 0)) n0_66 rfl rfl).trans es_push
theorem n0_67 : mx_ins 0 67 = some ((.new 44), 3) := mx_ins_of mi0 dX0_init_67 rfl
theorem u0_67 : ev d 0 67 lo st h = evS (mx_nw 0 44) d 0 70 lo st h := ev_s n0_67 rfl rfl
theorem n0_70 : mx_ins 0 70 = some (.dup, 1) := mx_ins_of mi0 dX0_init_70 rfl
theorem u0_70 : ev d 0 70 lo st h = evI d 0 70 71 lo st h .dup := ev_u n0_70 rfl
theorem n0_71 : mx_ins 0 71 = some ((.aload_n 0), 1) := mx_ins_of mi0 dX0_init_71 rfl
theorem u0_71 : ev d 0 71 lo st h = evS (mx_ldA 0) d 0 72 lo st h := ev_s n0_71 rfl rfl
theorem n0_72 : mx_ins 0 72 = some ((.invokespecial 46), 3) := mx_ins_of mi0 dX0_init_72 rfl
theorem u0_72 : ev d 0 72 lo st h = evIn d 0 72 75 0 46 2 false lo st h := ev_inv n0_72 rfl rfl ow0 ia0_46
theorem n0_75 : mx_ins 0 75 = some (.aastore, 1) := mx_ins_of mi0 dX0_init_75 rfl
theorem u0_75 : ev d 0 75 lo st h = evI d 0 75 76 lo st h .aastore := ev_u n0_75 rfl
theorem n0_76 : mx_ins 0 76 = some (.dup, 1) := mx_ins_of mi0 dX0_init_76 rfl
theorem u0_76 : ev d 0 76 lo st h = evI d 0 76 77 lo st h .dup := ev_u n0_76 rfl
theorem n0_77 : mx_ins 0 77 = some ((.iconst 1), 1) := mx_ins_of mi0 dX0_init_77 rfl
theorem u0_77 : ev d 0 77 lo st h = ev d 0 78 lo (.int 1 :: st) h := (ev_s (f := mx_push (.int 1)) n0_77 rfl rfl).trans es_push
theorem n0_78 : mx_ins 0 78 = some ((.new 49), 3) := mx_ins_of mi0 dX0_init_78 rfl
theorem u0_78 : ev d 0 78 lo st h = evS (mx_nw 0 49) d 0 81 lo st h := ev_s n0_78 rfl rfl
theorem n0_81 : mx_ins 0 81 = some (.dup, 1) := mx_ins_of mi0 dX0_init_81 rfl
theorem u0_81 : ev d 0 81 lo st h = evI d 0 81 82 lo st h .dup := ev_u n0_81 rfl
theorem n0_82 : mx_ins 0 82 = some ((.aload_n 0), 1) := mx_ins_of mi0 dX0_init_82 rfl
theorem u0_82 : ev d 0 82 lo st h = evS (mx_ldA 0) d 0 83 lo st h := ev_s n0_82 rfl rfl
theorem n0_83 : mx_ins 0 83 = some ((.invokespecial 51), 3) := mx_ins_of mi0 dX0_init_83 rfl
theorem u0_83 : ev d 0 83 lo st h = evIn d 0 83 86 0 51 2 false lo st h := ev_inv n0_83 rfl rfl ow0 ia0_51
theorem n0_86 : mx_ins 0 86 = some (.aastore, 1) := mx_ins_of mi0 dX0_init_86 rfl
theorem u0_86 : ev d 0 86 lo st h = evI d 0 86 87 lo st h .aastore := ev_u n0_86 rfl
theorem n0_87 : mx_ins 0 87 = some (.dup, 1) := mx_ins_of mi0 dX0_init_87 rfl
theorem u0_87 : ev d 0 87 lo st h = evI d 0 87 88 lo st h .dup := ev_u n0_87 rfl
theorem n0_88 : mx_ins 0 88 = some ((.iconst 2), 1) := mx_ins_of mi0 dX0_init_88 rfl
theorem u0_88 : ev d 0 88 lo st h = ev d 0 89 lo (.int 2 :: st) h := (ev_s (f := mx_push (.int 2)) n0_88 rfl rfl).trans es_push
theorem n0_89 : mx_ins 0 89 = some ((.new 52), 3) := mx_ins_of mi0 dX0_init_89 rfl
theorem u0_89 : ev d 0 89 lo st h = evS (mx_nw 0 52) d 0 92 lo st h := ev_s n0_89 rfl rfl
theorem n0_92 : mx_ins 0 92 = some (.dup, 1) := mx_ins_of mi0 dX0_init_92 rfl
theorem u0_92 : ev d 0 92 lo st h = evI d 0 92 93 lo st h .dup := ev_u n0_92 rfl
theorem n0_93 : mx_ins 0 93 = some ((.aload_n 0), 1) := mx_ins_of mi0 dX0_init_93 rfl
theorem u0_93 : ev d 0 93 lo st h = evS (mx_ldA 0) d 0 94 lo st h := ev_s n0_93 rfl rfl
theorem n0_94 : mx_ins 0 94 = some ((.invokespecial 54), 3) := mx_ins_of mi0 dX0_init_94 rfl
theorem u0_94 : ev d 0 94 lo st h = evIn d 0 94 97 0 54 2 false lo st h := ev_inv n0_94 rfl rfl ow0 ia0_54
theorem n0_97 : mx_ins 0 97 = some (.aastore, 1) := mx_ins_of mi0 dX0_init_97 rfl
theorem u0_97 : ev d 0 97 lo st h = evI d 0 97 98 lo st h .aastore := ev_u n0_97 rfl
theorem n0_98 : mx_ins 0 98 = some (.dup, 1) := mx_ins_of mi0 dX0_init_98 rfl
theorem u0_98 : ev d 0 98 lo st h = evI d 0 98 99 lo st h .dup := ev_u n0_98 rfl
theorem n0_99 : mx_ins 0 99 = some ((.iconst 3), 1) := mx_ins_of mi0 dX0_init_99 rfl
theorem u0_99 : ev d 0 99 lo st h = ev d 0 100 lo (.int 3 :: st) h := (ev_s (f := mx_push (.int 3)) n0_99 rfl rfl).trans es_push
theorem n0_100 : mx_ins 0 100 = some ((.new 55), 3) := mx_ins_of mi0 dX0_init_100 rfl
theorem u0_100 : ev d 0 100 lo st h = evS (mx_nw 0 55) d 0 103 lo st h := ev_s n0_100 rfl rfl
theorem n0_103 : mx_ins 0 103 = some (.dup, 1) := mx_ins_of mi0 dX0_init_103 rfl
theorem u0_103 : ev d 0 103 lo st h = evI d 0 103 104 lo st h .dup := ev_u n0_103 rfl
theorem n0_104 : mx_ins 0 104 = some ((.aload_n 0), 1) := mx_ins_of mi0 dX0_init_104 rfl
theorem u0_104 : ev d 0 104 lo st h = evS (mx_ldA 0) d 0 105 lo st h := ev_s n0_104 rfl rfl
theorem n0_105 : mx_ins 0 105 = some ((.invokespecial 57), 3) := mx_ins_of mi0 dX0_init_105 rfl
theorem u0_105 : ev d 0 105 lo st h = evIn d 0 105 108 0 57 2 false lo st h := ev_inv n0_105 rfl rfl ow0 ia0_57
theorem n0_108 : mx_ins 0 108 = some (.aastore, 1) := mx_ins_of mi0 dX0_init_108 rfl
theorem u0_108 : ev d 0 108 lo st h = evI d 0 108 109 lo st h .aastore := ev_u n0_108 rfl
theorem n0_109 : mx_ins 0 109 = some (.dup, 1) := mx_ins_of mi0 dX0_init_109 rfl
theorem u0_109 : ev d 0 109 lo st h = evI d 0 109 110 lo st h .dup := ev_u n0_109 rfl
theorem n0_110 : mx_ins 0 110 = some ((.iconst 4), 1) := mx_ins_of mi0 dX0_init_110 rfl
theorem u0_110 : ev d 0 110 lo st h = ev d 0 111 lo (.int 4 :: st) h := (ev_s (f := mx_push (.int 4)) n0_110 rfl rfl).trans es_push
theorem n0_111 : mx_ins 0 111 = some ((.new 58), 3) := mx_ins_of mi0 dX0_init_111 rfl
theorem u0_111 : ev d 0 111 lo st h = evS (mx_nw 0 58) d 0 114 lo st h := ev_s n0_111 rfl rfl
theorem n0_114 : mx_ins 0 114 = some (.dup, 1) := mx_ins_of mi0 dX0_init_114 rfl
theorem u0_114 : ev d 0 114 lo st h = evI d 0 114 115 lo st h .dup := ev_u n0_114 rfl
theorem n0_115 : mx_ins 0 115 = some ((.aload_n 0), 1) := mx_ins_of mi0 dX0_init_115 rfl
theorem u0_115 : ev d 0 115 lo st h = evS (mx_ldA 0) d 0 116 lo st h := ev_s n0_115 rfl rfl
theorem n0_116 : mx_ins 0 116 = some ((.invokespecial 60), 3) := mx_ins_of mi0 dX0_init_116 rfl
theorem u0_116 : ev d 0 116 lo st h = evIn d 0 116 119 0 60 2 false lo st h := ev_inv n0_116 rfl rfl ow0 ia0_60
theorem n0_119 : mx_ins 0 119 = some (.aastore, 1) := mx_ins_of mi0 dX0_init_119 rfl
theorem u0_119 : ev d 0 119 lo st h = evI d 0 119 120 lo st h .aastore := ev_u n0_119 rfl
theorem n0_120 : mx_ins 0 120 = some (.dup, 1) := mx_ins_of mi0 dX0_init_120 rfl
theorem u0_120 : ev d 0 120 lo st h = evI d 0 120 121 lo st h .dup := ev_u n0_120 rfl
theorem n0_121 : mx_ins 0 121 = some ((.iconst 5), 1) := mx_ins_of mi0 dX0_init_121 rfl
theorem u0_121 : ev d 0 121 lo st h = ev d 0 122 lo (.int 5 :: st) h := (ev_s (f := mx_push (.int 5)) n0_121 rfl rfl).trans es_push
theorem n0_122 : mx_ins 0 122 = some ((.new 61), 3) := mx_ins_of mi0 dX0_init_122 rfl
theorem u0_122 : ev d 0 122 lo st h = evS (mx_nw 0 61) d 0 125 lo st h := ev_s n0_122 rfl rfl
theorem n0_125 : mx_ins 0 125 = some (.dup, 1) := mx_ins_of mi0 dX0_init_125 rfl
theorem u0_125 : ev d 0 125 lo st h = evI d 0 125 126 lo st h .dup := ev_u n0_125 rfl
theorem n0_126 : mx_ins 0 126 = some ((.aload_n 0), 1) := mx_ins_of mi0 dX0_init_126 rfl
theorem u0_126 : ev d 0 126 lo st h = evS (mx_ldA 0) d 0 127 lo st h := ev_s n0_126 rfl rfl
theorem n0_127 : mx_ins 0 127 = some ((.invokespecial 63), 3) := mx_ins_of mi0 dX0_init_127 rfl
theorem u0_127 : ev d 0 127 lo st h = evIn d 0 127 130 0 63 2 false lo st h := ev_inv n0_127 rfl rfl ow0 ia0_63
theorem n0_130 : mx_ins 0 130 = some (.aastore, 1) := mx_ins_of mi0 dX0_init_130 rfl
theorem u0_130 : ev d 0 130 lo st h = evI d 0 130 131 lo st h .aastore := ev_u n0_130 rfl
theorem n0_131 : mx_ins 0 131 = some ((.putfield 64), 3) := mx_ins_of mi0 dX0_init_131 rfl
theorem u0_131 : ev d 0 131 lo st h = evS (mx_pf 0 64 true) d 0 134 lo st h := ev_s n0_131 rfl rfl
theorem n0_134 : mx_ins 0 134 = some ((.aload_n 0), 1) := mx_ins_of mi0 dX0_init_134 rfl
theorem u0_134 : ev d 0 134 lo st h = evS (mx_ldA 0) d 0 135 lo st h := ev_s n0_134 rfl rfl
theorem n0_135 : mx_ins 0 135 = some ((.sipush 200), 3) := mx_ins_of mi0 dX0_init_135 rfl
theorem u0_135 : ev d 0 135 lo st h = ev d 0 138 lo (.int 200 :: st) h := (ev_s (f := mx_push (.int 200)) n0_135 rfl rfl).trans es_push
theorem n0_138 : mx_ins 0 138 = some ((.newarray .byte), 2) := mx_ins_of mi0 dX0_init_138 rfl
theorem u0_138 : ev d 0 138 lo st h = evI d 0 138 140 lo st h (.newarray .byte) := ev_u n0_138 rfl
theorem n0_140 : mx_ins 0 140 = some ((.putfield 68), 3) := mx_ins_of mi0 dX0_init_140 rfl
theorem u0_140 : ev d 0 140 lo st h = evS (mx_pf 0 68 true) d 0 143 lo st h := ev_s n0_140 rfl rfl
theorem n0_143 : mx_ins 0 143 = some ((.aload_n 0), 1) := mx_ins_of mi0 dX0_init_143 rfl
theorem u0_143 : ev d 0 143 lo st h = evS (mx_ldA 0) d 0 144 lo st h := ev_s n0_143 rfl rfl
theorem n0_144 : mx_ins 0 144 = some ((.new 72), 3) := mx_ins_of mi0 dX0_init_144 rfl
theorem u0_144 : ev d 0 144 lo st h = evS (mx_nw 0 72) d 0 147 lo st h := ev_s n0_144 rfl rfl
theorem n0_147 : mx_ins 0 147 = some (.dup, 1) := mx_ins_of mi0 dX0_init_147 rfl
theorem u0_147 : ev d 0 147 lo st h = evI d 0 147 148 lo st h .dup := ev_u n0_147 rfl
theorem n0_148 : mx_ins 0 148 = some ((.aload_n 0), 1) := mx_ins_of mi0 dX0_init_148 rfl
theorem u0_148 : ev d 0 148 lo st h = evS (mx_ldA 0) d 0 149 lo st h := ev_s n0_148 rfl rfl
theorem n0_149 : mx_ins 0 149 = some ((.getfield 29), 3) := mx_ins_of mi0 dX0_init_149 rfl
theorem u0_149 : ev d 0 149 lo st h = evS (mx_gf 0 29) d 0 152 lo st h := ev_s n0_149 rfl rfl
theorem n0_152 : mx_ins 0 152 = some ((.invokespecial 74), 3) := mx_ins_of mi0 dX0_init_152 rfl
theorem u0_152 : ev d 0 152 lo st h = evIn d 0 152 155 0 74 2 false lo st h := ev_inv n0_152 rfl rfl ow0 ia0_74
theorem n0_155 : mx_ins 0 155 = some ((.putfield 77), 3) := mx_ins_of mi0 dX0_init_155 rfl
theorem u0_155 : ev d 0 155 lo st h = evS (mx_pf 0 77 true) d 0 158 lo st h := ev_s n0_155 rfl rfl
theorem n0_158 : mx_ins 0 158 = some ((.aload_n 0), 1) := mx_ins_of mi0 dX0_init_158 rfl
theorem u0_158 : ev d 0 158 lo st h = evS (mx_ldA 0) d 0 159 lo st h := ev_s n0_158 rfl rfl
theorem n0_159 : mx_ins 0 159 = some ((.bipush 6), 2) := mx_ins_of mi0 dX0_init_159 rfl
theorem u0_159 : ev d 0 159 lo st h = ev d 0 161 lo (.int 6 :: st) h := (ev_s (f := mx_push (.int 6)) n0_159 rfl rfl).trans es_push
theorem n0_161 : mx_ins 0 161 = some ((.newarray .int), 2) := mx_ins_of mi0 dX0_init_161 rfl
theorem u0_161 : ev d 0 161 lo st h = evI d 0 161 163 lo st h (.newarray .int) := ev_u n0_161 rfl
theorem n0_163 : mx_ins 0 163 = some ((.putfield 81), 3) := mx_ins_of mi0 dX0_init_163 rfl
theorem u0_163 : ev d 0 163 lo st h = evS (mx_pf 0 81 true) d 0 166 lo st h := ev_s n0_163 rfl rfl
theorem n0_166 : mx_ins 0 166 = some ((.aload_n 0), 1) := mx_ins_of mi0 dX0_init_166 rfl
theorem u0_166 : ev d 0 166 lo st h = evS (mx_ldA 0) d 0 167 lo st h := ev_s n0_166 rfl rfl
theorem n0_167 : mx_ins 0 167 = some ((.new 85), 3) := mx_ins_of mi0 dX0_init_167 rfl
theorem u0_167 : ev d 0 167 lo st h = evS (mx_nw 0 85) d 0 170 lo st h := ev_s n0_167 rfl rfl
theorem n0_170 : mx_ins 0 170 = some (.dup, 1) := mx_ins_of mi0 dX0_init_170 rfl
theorem u0_170 : ev d 0 170 lo st h = evI d 0 170 171 lo st h .dup := ev_u n0_170 rfl
theorem n0_171 : mx_ins 0 171 = some ((.aload_n 0), 1) := mx_ins_of mi0 dX0_init_171 rfl
theorem u0_171 : ev d 0 171 lo st h = evS (mx_ldA 0) d 0 172 lo st h := ev_s n0_171 rfl rfl
theorem n0_172 : mx_ins 0 172 = some ((.invokespecial 87), 3) := mx_ins_of mi0 dX0_init_172 rfl
theorem u0_172 : ev d 0 172 lo st h = evIn d 0 172 175 0 87 2 false lo st h := ev_inv n0_172 rfl rfl ow0 ia0_87
theorem n0_175 : mx_ins 0 175 = some ((.putfield 88), 3) := mx_ins_of mi0 dX0_init_175 rfl
theorem u0_175 : ev d 0 175 lo st h = evS (mx_pf 0 88 true) d 0 178 lo st h := ev_s n0_175 rfl rfl
theorem n0_178 : mx_ins 0 178 = some ((.aload_n 0), 1) := mx_ins_of mi0 dX0_init_178 rfl
theorem u0_178 : ev d 0 178 lo st h = evS (mx_ldA 0) d 0 179 lo st h := ev_s n0_178 rfl rfl
theorem n0_179 : mx_ins 0 179 = some ((.bipush 24), 2) := mx_ins_of mi0 dX0_init_179 rfl
theorem u0_179 : ev d 0 179 lo st h = ev d 0 181 lo (.int 24 :: st) h := (ev_s (f := mx_push (.int 24)) n0_179 rfl rfl).trans es_push
theorem n0_181 : mx_ins 0 181 = some ((.anewarray 92), 3) := mx_ins_of mi0 dX0_init_181 rfl
theorem u0_181 : ev d 0 181 lo st h = evS (mx_nq 0 92) d 0 184 lo st h := ev_s n0_181 rfl rfl
theorem n0_184 : mx_ins 0 184 = some ((.putfield 94), 3) := mx_ins_of mi0 dX0_init_184 rfl
theorem u0_184 : ev d 0 184 lo st h = evS (mx_pf 0 94 true) d 0 187 lo st h := ev_s n0_184 rfl rfl
theorem n0_187 : mx_ins 0 187 = some ((.aload_n 0), 1) := mx_ins_of mi0 dX0_init_187 rfl
theorem u0_187 : ev d 0 187 lo st h = evS (mx_ldA 0) d 0 188 lo st h := ev_s n0_187 rfl rfl
theorem n0_188 : mx_ins 0 188 = some ((.new 98), 3) := mx_ins_of mi0 dX0_init_188 rfl
theorem u0_188 : ev d 0 188 lo st h = evS (mx_nw 0 98) d 0 191 lo st h := ev_s n0_188 rfl rfl
theorem n0_191 : mx_ins 0 191 = some (.dup, 1) := mx_ins_of mi0 dX0_init_191 rfl
theorem u0_191 : ev d 0 191 lo st h = evI d 0 191 192 lo st h .dup := ev_u n0_191 rfl
theorem n0_192 : mx_ins 0 192 = some ((.aload_n 0), 1) := mx_ins_of mi0 dX0_init_192 rfl
theorem u0_192 : ev d 0 192 lo st h = evS (mx_ldA 0) d 0 193 lo st h := ev_s n0_192 rfl rfl
theorem n0_193 : mx_ins 0 193 = some ((.invokespecial 100), 3) := mx_ins_of mi0 dX0_init_193 rfl
theorem u0_193 : ev d 0 193 lo st h = evIn d 0 193 196 0 100 2 false lo st h := ev_inv n0_193 rfl rfl ow0 ia0_100
theorem n0_196 : mx_ins 0 196 = some ((.putfield 101), 3) := mx_ins_of mi0 dX0_init_196 rfl
theorem u0_196 : ev d 0 196 lo st h = evS (mx_pf 0 101 true) d 0 199 lo st h := ev_s n0_196 rfl rfl
theorem n0_199 : mx_ins 0 199 = some ((.aload_n 0), 1) := mx_ins_of mi0 dX0_init_199 rfl
theorem u0_199 : ev d 0 199 lo st h = evS (mx_ldA 0) d 0 200 lo st h := ev_s n0_199 rfl rfl
theorem n0_200 : mx_ins 0 200 = some ((.new 105), 3) := mx_ins_of mi0 dX0_init_200 rfl
theorem u0_200 : ev d 0 200 lo st h = evS (mx_nw 0 105) d 0 203 lo st h := ev_s n0_200 rfl rfl
theorem n0_203 : mx_ins 0 203 = some (.dup, 1) := mx_ins_of mi0 dX0_init_203 rfl
theorem u0_203 : ev d 0 203 lo st h = evI d 0 203 204 lo st h .dup := ev_u n0_203 rfl
theorem n0_204 : mx_ins 0 204 = some ((.aload_n 0), 1) := mx_ins_of mi0 dX0_init_204 rfl
theorem u0_204 : ev d 0 204 lo st h = evS (mx_ldA 0) d 0 205 lo st h := ev_s n0_204 rfl rfl
theorem n0_205 : mx_ins 0 205 = some ((.invokespecial 107), 3) := mx_ins_of mi0 dX0_init_205 rfl
theorem u0_205 : ev d 0 205 lo st h = evIn d 0 205 208 0 107 2 false lo st h := ev_inv n0_205 rfl rfl ow0 ia0_107
theorem n0_208 : mx_ins 0 208 = some ((.putfield 108), 3) := mx_ins_of mi0 dX0_init_208 rfl
theorem u0_208 : ev d 0 208 lo st h = evS (mx_pf 0 108 true) d 0 211 lo st h := ev_s n0_208 rfl rfl
theorem n0_211 : mx_ins 0 211 = some ((.aload_n 0), 1) := mx_ins_of mi0 dX0_init_211 rfl
theorem u0_211 : ev d 0 211 lo st h = evS (mx_ldA 0) d 0 212 lo st h := ev_s n0_211 rfl rfl
theorem n0_212 : mx_ins 0 212 = some ((.iconst 4), 1) := mx_ins_of mi0 dX0_init_212 rfl
theorem u0_212 : ev d 0 212 lo st h = ev d 0 213 lo (.int 4 :: st) h := (ev_s (f := mx_push (.int 4)) n0_212 rfl rfl).trans es_push
theorem n0_213 : mx_ins 0 213 = some ((.anewarray 112), 3) := mx_ins_of mi0 dX0_init_213 rfl
theorem u0_213 : ev d 0 213 lo st h = evS (mx_nq 0 112) d 0 216 lo st h := ev_s n0_213 rfl rfl
theorem n0_216 : mx_ins 0 216 = some (.dup, 1) := mx_ins_of mi0 dX0_init_216 rfl
theorem u0_216 : ev d 0 216 lo st h = evI d 0 216 217 lo st h .dup := ev_u n0_216 rfl
theorem n0_217 : mx_ins 0 217 = some ((.iconst 0), 1) := mx_ins_of mi0 dX0_init_217 rfl
theorem u0_217 : ev d 0 217 lo st h = ev d 0 218 lo (.int 0 :: st) h := (ev_s (f := mx_push (.int 0)) n0_217 rfl rfl).trans es_push
theorem n0_218 : mx_ins 0 218 = some ((.new 112), 3) := mx_ins_of mi0 dX0_init_218 rfl
theorem u0_218 : ev d 0 218 lo st h = evS (mx_nw 0 112) d 0 221 lo st h := ev_s n0_218 rfl rfl
theorem n0_221 : mx_ins 0 221 = some (.dup, 1) := mx_ins_of mi0 dX0_init_221 rfl
theorem u0_221 : ev d 0 221 lo st h = evI d 0 221 222 lo st h .dup := ev_u n0_221 rfl
theorem n0_222 : mx_ins 0 222 = some ((.invokespecial 114), 3) := mx_ins_of mi0 dX0_init_222 rfl
theorem u0_222 : ev d 0 222 lo st h = evIn d 0 222 225 0 114 1 false lo st h := ev_inv n0_222 rfl rfl ow0 ia0_114
theorem n0_225 : mx_ins 0 225 = some (.aastore, 1) := mx_ins_of mi0 dX0_init_225 rfl
theorem u0_225 : ev d 0 225 lo st h = evI d 0 225 226 lo st h .aastore := ev_u n0_225 rfl
theorem n0_226 : mx_ins 0 226 = some (.dup, 1) := mx_ins_of mi0 dX0_init_226 rfl
theorem u0_226 : ev d 0 226 lo st h = evI d 0 226 227 lo st h .dup := ev_u n0_226 rfl
theorem n0_227 : mx_ins 0 227 = some ((.iconst 1), 1) := mx_ins_of mi0 dX0_init_227 rfl
theorem u0_227 : ev d 0 227 lo st h = ev d 0 228 lo (.int 1 :: st) h := (ev_s (f := mx_push (.int 1)) n0_227 rfl rfl).trans es_push
theorem n0_228 : mx_ins 0 228 = some ((.new 112), 3) := mx_ins_of mi0 dX0_init_228 rfl
theorem u0_228 : ev d 0 228 lo st h = evS (mx_nw 0 112) d 0 231 lo st h := ev_s n0_228 rfl rfl
theorem n0_231 : mx_ins 0 231 = some (.dup, 1) := mx_ins_of mi0 dX0_init_231 rfl
theorem u0_231 : ev d 0 231 lo st h = evI d 0 231 232 lo st h .dup := ev_u n0_231 rfl
theorem n0_232 : mx_ins 0 232 = some ((.invokespecial 114), 3) := mx_ins_of mi0 dX0_init_232 rfl
theorem u0_232 : ev d 0 232 lo st h = evIn d 0 232 235 0 114 1 false lo st h := ev_inv n0_232 rfl rfl ow0 ia0_114
theorem n0_235 : mx_ins 0 235 = some (.aastore, 1) := mx_ins_of mi0 dX0_init_235 rfl
theorem u0_235 : ev d 0 235 lo st h = evI d 0 235 236 lo st h .aastore := ev_u n0_235 rfl
theorem n0_236 : mx_ins 0 236 = some (.dup, 1) := mx_ins_of mi0 dX0_init_236 rfl
theorem u0_236 : ev d 0 236 lo st h = evI d 0 236 237 lo st h .dup := ev_u n0_236 rfl
theorem n0_237 : mx_ins 0 237 = some ((.iconst 2), 1) := mx_ins_of mi0 dX0_init_237 rfl
theorem u0_237 : ev d 0 237 lo st h = ev d 0 238 lo (.int 2 :: st) h := (ev_s (f := mx_push (.int 2)) n0_237 rfl rfl).trans es_push
theorem n0_238 : mx_ins 0 238 = some ((.new 112), 3) := mx_ins_of mi0 dX0_init_238 rfl
theorem u0_238 : ev d 0 238 lo st h = evS (mx_nw 0 112) d 0 241 lo st h := ev_s n0_238 rfl rfl
theorem n0_241 : mx_ins 0 241 = some (.dup, 1) := mx_ins_of mi0 dX0_init_241 rfl
theorem u0_241 : ev d 0 241 lo st h = evI d 0 241 242 lo st h .dup := ev_u n0_241 rfl
theorem n0_242 : mx_ins 0 242 = some ((.invokespecial 114), 3) := mx_ins_of mi0 dX0_init_242 rfl
theorem u0_242 : ev d 0 242 lo st h = evIn d 0 242 245 0 114 1 false lo st h := ev_inv n0_242 rfl rfl ow0 ia0_114
theorem n0_245 : mx_ins 0 245 = some (.aastore, 1) := mx_ins_of mi0 dX0_init_245 rfl
theorem u0_245 : ev d 0 245 lo st h = evI d 0 245 246 lo st h .aastore := ev_u n0_245 rfl
theorem n0_246 : mx_ins 0 246 = some (.dup, 1) := mx_ins_of mi0 dX0_init_246 rfl
theorem u0_246 : ev d 0 246 lo st h = evI d 0 246 247 lo st h .dup := ev_u n0_246 rfl
theorem n0_247 : mx_ins 0 247 = some ((.iconst 3), 1) := mx_ins_of mi0 dX0_init_247 rfl
theorem u0_247 : ev d 0 247 lo st h = ev d 0 248 lo (.int 3 :: st) h := (ev_s (f := mx_push (.int 3)) n0_247 rfl rfl).trans es_push
theorem n0_248 : mx_ins 0 248 = some ((.new 112), 3) := mx_ins_of mi0 dX0_init_248 rfl
theorem u0_248 : ev d 0 248 lo st h = evS (mx_nw 0 112) d 0 251 lo st h := ev_s n0_248 rfl rfl
theorem n0_251 : mx_ins 0 251 = some (.dup, 1) := mx_ins_of mi0 dX0_init_251 rfl
theorem u0_251 : ev d 0 251 lo st h = evI d 0 251 252 lo st h .dup := ev_u n0_251 rfl
theorem n0_252 : mx_ins 0 252 = some ((.invokespecial 114), 3) := mx_ins_of mi0 dX0_init_252 rfl
theorem u0_252 : ev d 0 252 lo st h = evIn d 0 252 255 0 114 1 false lo st h := ev_inv n0_252 rfl rfl ow0 ia0_114
theorem n0_255 : mx_ins 0 255 = some (.aastore, 1) := mx_ins_of mi0 dX0_init_255 rfl
theorem u0_255 : ev d 0 255 lo st h = evI d 0 255 256 lo st h .aastore := ev_u n0_255 rfl
theorem n0_256 : mx_ins 0 256 = some ((.putfield 115), 3) := mx_ins_of mi0 dX0_init_256 rfl
theorem u0_256 : ev d 0 256 lo st h = evS (mx_pf 0 115 true) d 0 259 lo st h := ev_s n0_256 rfl rfl
theorem n0_259 : mx_ins 0 259 = some ((.aload_n 0), 1) := mx_ins_of mi0 dX0_init_259 rfl
theorem u0_259 : ev d 0 259 lo st h = evS (mx_ldA 0) d 0 260 lo st h := ev_s n0_259 rfl rfl
theorem n0_260 : mx_ins 0 260 = some ((.new 119), 3) := mx_ins_of mi0 dX0_init_260 rfl
theorem u0_260 : ev d 0 260 lo st h = evS (mx_nw 0 119) d 0 263 lo st h := ev_s n0_260 rfl rfl
theorem n0_263 : mx_ins 0 263 = some (.dup, 1) := mx_ins_of mi0 dX0_init_263 rfl
theorem u0_263 : ev d 0 263 lo st h = evI d 0 263 264 lo st h .dup := ev_u n0_263 rfl
theorem n0_264 : mx_ins 0 264 = some ((.invokespecial 121), 3) := mx_ins_of mi0 dX0_init_264 rfl
theorem u0_264 : ev d 0 264 lo st h = evIn d 0 264 267 0 121 1 false lo st h := ev_inv n0_264 rfl rfl ow0 ia0_121
theorem n0_267 : mx_ins 0 267 = some ((.putfield 122), 3) := mx_ins_of mi0 dX0_init_267 rfl
theorem u0_267 : ev d 0 267 lo st h = evS (mx_pf 0 122 true) d 0 270 lo st h := ev_s n0_267 rfl rfl
theorem n0_270 : mx_ins 0 270 = some ((.aload_n 0), 1) := mx_ins_of mi0 dX0_init_270 rfl
theorem u0_270 : ev d 0 270 lo st h = evS (mx_ldA 0) d 0 271 lo st h := ev_s n0_270 rfl rfl
theorem n0_271 : mx_ins 0 271 = some ((.new 126), 3) := mx_ins_of mi0 dX0_init_271 rfl
theorem u0_271 : ev d 0 271 lo st h = evS (mx_nw 0 126) d 0 274 lo st h := ev_s n0_271 rfl rfl
theorem n0_274 : mx_ins 0 274 = some (.dup, 1) := mx_ins_of mi0 dX0_init_274 rfl
theorem u0_274 : ev d 0 274 lo st h = evI d 0 274 275 lo st h .dup := ev_u n0_274 rfl
theorem n0_275 : mx_ins 0 275 = some ((.invokespecial 128), 3) := mx_ins_of mi0 dX0_init_275 rfl
theorem u0_275 : ev d 0 275 lo st h = evIn d 0 275 278 0 128 1 false lo st h := ev_inv n0_275 rfl rfl ow0 ia0_128
theorem n0_278 : mx_ins 0 278 = some ((.putfield 129), 3) := mx_ins_of mi0 dX0_init_278 rfl
theorem u0_278 : ev d 0 278 lo st h = evS (mx_pf 0 129 true) d 0 281 lo st h := ev_s n0_278 rfl rfl
theorem n0_281 : mx_ins 0 281 = some ((.aload_n 0), 1) := mx_ins_of mi0 dX0_init_281 rfl
theorem u0_281 : ev d 0 281 lo st h = evS (mx_ldA 0) d 0 282 lo st h := ev_s n0_281 rfl rfl
theorem n0_282 : mx_ins 0 282 = some ((.bipush 30), 2) := mx_ins_of mi0 dX0_init_282 rfl
theorem u0_282 : ev d 0 282 lo st h = ev d 0 284 lo (.int 30 :: st) h := (ev_s (f := mx_push (.int 30)) n0_282 rfl rfl).trans es_push
theorem n0_284 : mx_ins 0 284 = some ((.newarray .int), 2) := mx_ins_of mi0 dX0_init_284 rfl
theorem u0_284 : ev d 0 284 lo st h = evI d 0 284 286 lo st h (.newarray .int) := ev_u n0_284 rfl
theorem n0_286 : mx_ins 0 286 = some ((.putfield 133), 3) := mx_ins_of mi0 dX0_init_286 rfl
theorem u0_286 : ev d 0 286 lo st h = evS (mx_pf 0 133 true) d 0 289 lo st h := ev_s n0_286 rfl rfl
theorem n0_289 : mx_ins 0 289 = some ((.aload_n 0), 1) := mx_ins_of mi0 dX0_init_289 rfl
theorem u0_289 : ev d 0 289 lo st h = evS (mx_ldA 0) d 0 290 lo st h := ev_s n0_289 rfl rfl
theorem n0_290 : mx_ins 0 290 = some ((.iconst 4), 1) := mx_ins_of mi0 dX0_init_290 rfl
theorem u0_290 : ev d 0 290 lo st h = ev d 0 291 lo (.int 4 :: st) h := (ev_s (f := mx_push (.int 4)) n0_290 rfl rfl).trans es_push
theorem n0_291 : mx_ins 0 291 = some ((.anewarray 136), 3) := mx_ins_of mi0 dX0_init_291 rfl
theorem u0_291 : ev d 0 291 lo st h = evS (mx_nq 0 136) d 0 294 lo st h := ev_s n0_291 rfl rfl
theorem n0_294 : mx_ins 0 294 = some (.dup, 1) := mx_ins_of mi0 dX0_init_294 rfl
theorem u0_294 : ev d 0 294 lo st h = evI d 0 294 295 lo st h .dup := ev_u n0_294 rfl
theorem n0_295 : mx_ins 0 295 = some ((.iconst 0), 1) := mx_ins_of mi0 dX0_init_295 rfl
theorem u0_295 : ev d 0 295 lo st h = ev d 0 296 lo (.int 0 :: st) h := (ev_s (f := mx_push (.int 0)) n0_295 rfl rfl).trans es_push
theorem n0_296 : mx_ins 0 296 = some ((.new 136), 3) := mx_ins_of mi0 dX0_init_296 rfl
theorem u0_296 : ev d 0 296 lo st h = evS (mx_nw 0 136) d 0 299 lo st h := ev_s n0_296 rfl rfl
theorem n0_299 : mx_ins 0 299 = some (.dup, 1) := mx_ins_of mi0 dX0_init_299 rfl
theorem u0_299 : ev d 0 299 lo st h = evI d 0 299 300 lo st h .dup := ev_u n0_299 rfl
theorem n0_300 : mx_ins 0 300 = some ((.invokespecial 138), 3) := mx_ins_of mi0 dX0_init_300 rfl
theorem u0_300 : ev d 0 300 lo st h = evIn d 0 300 303 0 138 1 false lo st h := ev_inv n0_300 rfl rfl ow0 ia0_138
theorem n0_303 : mx_ins 0 303 = some (.aastore, 1) := mx_ins_of mi0 dX0_init_303 rfl
theorem u0_303 : ev d 0 303 lo st h = evI d 0 303 304 lo st h .aastore := ev_u n0_303 rfl
theorem n0_304 : mx_ins 0 304 = some (.dup, 1) := mx_ins_of mi0 dX0_init_304 rfl
theorem u0_304 : ev d 0 304 lo st h = evI d 0 304 305 lo st h .dup := ev_u n0_304 rfl
theorem n0_305 : mx_ins 0 305 = some ((.iconst 1), 1) := mx_ins_of mi0 dX0_init_305 rfl
theorem u0_305 : ev d 0 305 lo st h = ev d 0 306 lo (.int 1 :: st) h := (ev_s (f := mx_push (.int 1)) n0_305 rfl rfl).trans es_push
theorem n0_306 : mx_ins 0 306 = some ((.new 136), 3) := mx_ins_of mi0 dX0_init_306 rfl
theorem u0_306 : ev d 0 306 lo st h = evS (mx_nw 0 136) d 0 309 lo st h := ev_s n0_306 rfl rfl
theorem n0_309 : mx_ins 0 309 = some (.dup, 1) := mx_ins_of mi0 dX0_init_309 rfl
theorem u0_309 : ev d 0 309 lo st h = evI d 0 309 310 lo st h .dup := ev_u n0_309 rfl
theorem n0_310 : mx_ins 0 310 = some ((.invokespecial 138), 3) := mx_ins_of mi0 dX0_init_310 rfl
theorem u0_310 : ev d 0 310 lo st h = evIn d 0 310 313 0 138 1 false lo st h := ev_inv n0_310 rfl rfl ow0 ia0_138
theorem n0_313 : mx_ins 0 313 = some (.aastore, 1) := mx_ins_of mi0 dX0_init_313 rfl
theorem u0_313 : ev d 0 313 lo st h = evI d 0 313 314 lo st h .aastore := ev_u n0_313 rfl
theorem n0_314 : mx_ins 0 314 = some (.dup, 1) := mx_ins_of mi0 dX0_init_314 rfl
theorem u0_314 : ev d 0 314 lo st h = evI d 0 314 315 lo st h .dup := ev_u n0_314 rfl
theorem n0_315 : mx_ins 0 315 = some ((.iconst 2), 1) := mx_ins_of mi0 dX0_init_315 rfl
theorem u0_315 : ev d 0 315 lo st h = ev d 0 316 lo (.int 2 :: st) h := (ev_s (f := mx_push (.int 2)) n0_315 rfl rfl).trans es_push
theorem n0_316 : mx_ins 0 316 = some ((.new 136), 3) := mx_ins_of mi0 dX0_init_316 rfl
theorem u0_316 : ev d 0 316 lo st h = evS (mx_nw 0 136) d 0 319 lo st h := ev_s n0_316 rfl rfl
theorem n0_319 : mx_ins 0 319 = some (.dup, 1) := mx_ins_of mi0 dX0_init_319 rfl
theorem u0_319 : ev d 0 319 lo st h = evI d 0 319 320 lo st h .dup := ev_u n0_319 rfl
theorem n0_320 : mx_ins 0 320 = some ((.invokespecial 138), 3) := mx_ins_of mi0 dX0_init_320 rfl
theorem u0_320 : ev d 0 320 lo st h = evIn d 0 320 323 0 138 1 false lo st h := ev_inv n0_320 rfl rfl ow0 ia0_138
theorem n0_323 : mx_ins 0 323 = some (.aastore, 1) := mx_ins_of mi0 dX0_init_323 rfl
theorem u0_323 : ev d 0 323 lo st h = evI d 0 323 324 lo st h .aastore := ev_u n0_323 rfl
theorem n0_324 : mx_ins 0 324 = some (.dup, 1) := mx_ins_of mi0 dX0_init_324 rfl
theorem u0_324 : ev d 0 324 lo st h = evI d 0 324 325 lo st h .dup := ev_u n0_324 rfl
theorem n0_325 : mx_ins 0 325 = some ((.iconst 3), 1) := mx_ins_of mi0 dX0_init_325 rfl
theorem u0_325 : ev d 0 325 lo st h = ev d 0 326 lo (.int 3 :: st) h := (ev_s (f := mx_push (.int 3)) n0_325 rfl rfl).trans es_push
theorem n0_326 : mx_ins 0 326 = some ((.new 136), 3) := mx_ins_of mi0 dX0_init_326 rfl
theorem u0_326 : ev d 0 326 lo st h = evS (mx_nw 0 136) d 0 329 lo st h := ev_s n0_326 rfl rfl
theorem n0_329 : mx_ins 0 329 = some (.dup, 1) := mx_ins_of mi0 dX0_init_329 rfl
theorem u0_329 : ev d 0 329 lo st h = evI d 0 329 330 lo st h .dup := ev_u n0_329 rfl
theorem n0_330 : mx_ins 0 330 = some ((.invokespecial 138), 3) := mx_ins_of mi0 dX0_init_330 rfl
theorem u0_330 : ev d 0 330 lo st h = evIn d 0 330 333 0 138 1 false lo st h := ev_inv n0_330 rfl rfl ow0 ia0_138
theorem n0_333 : mx_ins 0 333 = some (.aastore, 1) := mx_ins_of mi0 dX0_init_333 rfl
theorem u0_333 : ev d 0 333 lo st h = evI d 0 333 334 lo st h .aastore := ev_u n0_333 rfl
theorem n0_334 : mx_ins 0 334 = some ((.putfield 139), 3) := mx_ins_of mi0 dX0_init_334 rfl
theorem u0_334 : ev d 0 334 lo st h = evS (mx_pf 0 139 true) d 0 337 lo st h := ev_s n0_334 rfl rfl
theorem n0_337 : mx_ins 0 337 = some (.return_, 1) := mx_ins_of mi0 dX0_init_337 rfl
theorem u0_337 : ev d 0 337 lo st h = evI d 0 337 338 lo st h .return_ := ev_u n0_337 rfl
theorem mi1 : mx_mi 1 = some (yX0_feed, cX0_feed, 5, (Option.some Jvm.ClassFile.FieldType.int), 0, 3, []) := rfl
theorem ow1 : mx_own 1 = 0 := mx_mi_own mi1
theorem mm1 : mx_max 1 = 5 := mx_mi_max mi1
theorem rt1 : mx_ret 1 = (Option.some Jvm.ClassFile.FieldType.int) := mx_mi_ret mi1
theorem hn1 : mx_hnd 1 = [] := mx_mi_hnd mi1
theorem n1_0 : mx_ins 1 0 = some ((.iload_n 3), 1) := mx_ins_of mi1 dX0_feed_0 rfl
theorem u1_0 : ev d 1 0 lo st h = evS (mx_ldI 3) d 1 1 lo st h := ev_s n1_0 rfl rfl
theorem n1_1 : mx_ins 1 1 = some ((.iconst 1), 1) := mx_ins_of mi1 dX0_feed_1 rfl
theorem u1_1 : ev d 1 1 lo st h = ev d 1 2 lo (.int 1 :: st) h := (ev_s (f := mx_push (.int 1)) n1_1 rfl rfl).trans es_push
theorem n1_2 : mx_ins 1 2 = some ((.bipush 8), 2) := mx_ins_of mi1 dX0_feed_2 rfl
theorem u1_2 : ev d 1 2 lo st h = ev d 1 4 lo (.int 8 :: st) h := (ev_s (f := mx_push (.int 8)) n1_2 rfl rfl).trans es_push
theorem n1_4 : mx_ins 1 4 = some ((.invokestatic 143), 3) := mx_ins_of mi1 dX0_feed_4 rfl
theorem u1_4 : ev d 1 4 lo st h = evIn d 1 4 7 0 143 3 true lo st h := ev_inv n1_4 rfl rfl ow1 ia0_143
theorem n1_7 : mx_ins 1 7 = some ((.ifCond .ne 5), 3) := mx_ins_of mi1 dX0_feed_7 rfl
theorem u1_7 : ev d 1 7 lo st h = evJ .ne d 1 12 10 lo st h := ev_if n1_7 rfl rfl
theorem n1_10 : mx_ins 1 10 = some ((.iconst (-1)), 1) := mx_ins_of mi1 dX0_feed_10 rfl
theorem u1_10 : ev d 1 10 lo st h = ev d 1 11 lo (.int (-1) :: st) h := (ev_s (f := mx_push (.int (-1))) n1_10 rfl rfl).trans es_push
theorem n1_11 : mx_ins 1 11 = some (.ireturn, 1) := mx_ins_of mi1 dX0_feed_11 rfl
theorem u1_11 : ev d 1 11 lo st h = evI d 1 11 12 lo st h .ireturn := ev_u n1_11 rfl
theorem n1_12 : mx_ins 1 12 = some ((.aload_n 0), 1) := mx_ins_of mi1 dX0_feed_12 rfl
theorem u1_12 : ev d 1 12 lo st h = evS (mx_ldA 0) d 1 13 lo st h := ev_s n1_12 rfl rfl
theorem n1_13 : mx_ins 1 13 = some ((.getfield 199), 3) := mx_ins_of mi1 dX0_feed_13 rfl
theorem u1_13 : ev d 1 13 lo st h = evS (mx_gf 0 199) d 1 16 lo st h := ev_s n1_13 rfl rfl
theorem n1_16 : mx_ins 1 16 = some ((.iload_n 3), 1) := mx_ins_of mi1 dX0_feed_16 rfl
theorem u1_16 : ev d 1 16 lo st h = evS (mx_ldI 3) d 1 17 lo st h := ev_s n1_16 rfl rfl
theorem n1_17 : mx_ins 1 17 = some (.iadd, 1) := mx_ins_of mi1 dX0_feed_17 rfl
theorem u1_17 : ev d 1 17 lo st h = evI d 1 17 18 lo st h .iadd := ev_u n1_17 rfl
theorem n1_18 : mx_ins 1 18 = some ((.sipush 200), 3) := mx_ins_of mi1 dX0_feed_18 rfl
theorem u1_18 : ev d 1 18 lo st h = ev d 1 21 lo (.int 200 :: st) h := (ev_s (f := mx_push (.int 200)) n1_18 rfl rfl).trans es_push
theorem n1_21 : mx_ins 1 21 = some ((.if_icmp .le 6), 3) := mx_ins_of mi1 dX0_feed_21 rfl
theorem u1_21 : ev d 1 21 lo st h = evK .le d 1 27 24 lo st h := ev_ic n1_21 rfl rfl
theorem n1_24 : mx_ins 1 24 = some ((.bipush (-2)), 2) := mx_ins_of mi1 dX0_feed_24 rfl
theorem u1_24 : ev d 1 24 lo st h = ev d 1 26 lo (.int (-2) :: st) h := (ev_s (f := mx_push (.int (-2))) n1_24 rfl rfl).trans es_push
theorem n1_26 : mx_ins 1 26 = some (.ireturn, 1) := mx_ins_of mi1 dX0_feed_26 rfl
theorem u1_26 : ev d 1 26 lo st h = evI d 1 26 27 lo st h .ireturn := ev_u n1_26 rfl
theorem n1_27 : mx_ins 1 27 = some ((.iconst 0), 1) := mx_ins_of mi1 dX0_feed_27 rfl
theorem u1_27 : ev d 1 27 lo st h = ev d 1 28 lo (.int 0 :: st) h := (ev_s (f := mx_push (.int 0)) n1_27 rfl rfl).trans es_push
theorem n1_28 : mx_ins 1 28 = some ((.istore 4), 2) := mx_ins_of mi1 dX0_feed_28 rfl
theorem u1_28 : ev d 1 28 lo st h = evS (mx_stI 4) d 1 30 lo st h := ev_s n1_28 rfl rfl
theorem n1_30 : mx_ins 1 30 = some ((.iload 4), 2) := mx_ins_of mi1 dX0_feed_30 rfl
theorem u1_30 : ev d 1 30 lo st h = evS (mx_ldI 4) d 1 32 lo st h := ev_s n1_30 rfl rfl
theorem n1_32 : mx_ins 1 32 = some ((.iload_n 3), 1) := mx_ins_of mi1 dX0_feed_32 rfl
theorem u1_32 : ev d 1 32 lo st h = evS (mx_ldI 3) d 1 33 lo st h := ev_s n1_32 rfl rfl
theorem n1_33 : mx_ins 1 33 = some ((.if_icmp .ge 37), 3) := mx_ins_of mi1 dX0_feed_33 rfl
theorem u1_33 : ev d 1 33 lo st h = evK .ge d 1 70 36 lo st h := ev_ic n1_33 rfl rfl
theorem n1_36 : mx_ins 1 36 = some ((.aload_n 0), 1) := mx_ins_of mi1 dX0_feed_36 rfl
theorem u1_36 : ev d 1 36 lo st h = evS (mx_ldA 0) d 1 37 lo st h := ev_s n1_36 rfl rfl
theorem n1_37 : mx_ins 1 37 = some ((.getfield 68), 3) := mx_ins_of mi1 dX0_feed_37 rfl
theorem u1_37 : ev d 1 37 lo st h = evS (mx_gf 0 68) d 1 40 lo st h := ev_s n1_37 rfl rfl
theorem n1_40 : mx_ins 1 40 = some ((.aload_n 0), 1) := mx_ins_of mi1 dX0_feed_40 rfl
theorem u1_40 : ev d 1 40 lo st h = evS (mx_ldA 0) d 1 41 lo st h := ev_s n1_40 rfl rfl
theorem n1_41 : mx_ins 1 41 = some ((.getfield 199), 3) := mx_ins_of mi1 dX0_feed_41 rfl
theorem u1_41 : ev d 1 41 lo st h = evS (mx_gf 0 199) d 1 44 lo st h := ev_s n1_41 rfl rfl
theorem n1_44 : mx_ins 1 44 = some ((.lload_n 1), 1) := mx_ins_of mi1 dX0_feed_44 rfl
theorem u1_44 : ev d 1 44 lo st h = evS (mx_ldL 1) d 1 45 lo st h := ev_s n1_44 rfl rfl
theorem n1_45 : mx_ins 1 45 = some ((.bipush 8), 2) := mx_ins_of mi1 dX0_feed_45 rfl
theorem u1_45 : ev d 1 45 lo st h = ev d 1 47 lo (.int 8 :: st) h := (ev_s (f := mx_push (.int 8)) n1_45 rfl rfl).trans es_push
theorem n1_47 : mx_ins 1 47 = some ((.iload 4), 2) := mx_ins_of mi1 dX0_feed_47 rfl
theorem u1_47 : ev d 1 47 lo st h = evS (mx_ldI 4) d 1 49 lo st h := ev_s n1_47 rfl rfl
theorem n1_49 : mx_ins 1 49 = some (.imul, 1) := mx_ins_of mi1 dX0_feed_49 rfl
theorem u1_49 : ev d 1 49 lo st h = evI d 1 49 50 lo st h .imul := ev_u n1_49 rfl
theorem n1_50 : mx_ins 1 50 = some (.lshr, 1) := mx_ins_of mi1 dX0_feed_50 rfl
theorem u1_50 : ev d 1 50 lo st h = evI d 1 50 51 lo st h .lshr := ev_u n1_50 rfl
theorem n1_51 : mx_ins 1 51 = some (.l2i, 1) := mx_ins_of mi1 dX0_feed_51 rfl
theorem u1_51 : ev d 1 51 lo st h = evI d 1 51 52 lo st h .l2i := ev_u n1_51 rfl
theorem n1_52 : mx_ins 1 52 = some (.i2b, 1) := mx_ins_of mi1 dX0_feed_52 rfl
theorem u1_52 : ev d 1 52 lo st h = evI d 1 52 53 lo st h .i2b := ev_u n1_52 rfl
theorem n1_53 : mx_ins 1 53 = some (.bastore, 1) := mx_ins_of mi1 dX0_feed_53 rfl
theorem u1_53 : ev d 1 53 lo st h = evI d 1 53 54 lo st h .bastore := ev_u n1_53 rfl
theorem n1_54 : mx_ins 1 54 = some ((.aload_n 0), 1) := mx_ins_of mi1 dX0_feed_54 rfl
theorem u1_54 : ev d 1 54 lo st h = evS (mx_ldA 0) d 1 55 lo st h := ev_s n1_54 rfl rfl
theorem n1_55 : mx_ins 1 55 = some (.dup, 1) := mx_ins_of mi1 dX0_feed_55 rfl
theorem u1_55 : ev d 1 55 lo st h = evI d 1 55 56 lo st h .dup := ev_u n1_55 rfl
theorem n1_56 : mx_ins 1 56 = some ((.getfield 199), 3) := mx_ins_of mi1 dX0_feed_56 rfl
theorem u1_56 : ev d 1 56 lo st h = evS (mx_gf 0 199) d 1 59 lo st h := ev_s n1_56 rfl rfl
theorem n1_59 : mx_ins 1 59 = some ((.iconst 1), 1) := mx_ins_of mi1 dX0_feed_59 rfl
theorem u1_59 : ev d 1 59 lo st h = ev d 1 60 lo (.int 1 :: st) h := (ev_s (f := mx_push (.int 1)) n1_59 rfl rfl).trans es_push
theorem n1_60 : mx_ins 1 60 = some (.iadd, 1) := mx_ins_of mi1 dX0_feed_60 rfl
theorem u1_60 : ev d 1 60 lo st h = evI d 1 60 61 lo st h .iadd := ev_u n1_60 rfl
theorem n1_61 : mx_ins 1 61 = some ((.putfield 199), 3) := mx_ins_of mi1 dX0_feed_61 rfl
theorem u1_61 : ev d 1 61 lo st h = evS (mx_pf 0 199 false) d 1 64 lo st h := ev_s n1_61 rfl rfl
theorem n1_64 : mx_ins 1 64 = some ((.iinc 4 1), 3) := mx_ins_of mi1 dX0_feed_64 rfl
theorem u1_64 : ev d 1 64 lo st h = evS (mx_inc 4 (1)) d 1 67 lo st h := ev_s n1_64 rfl rfl
theorem n1_67 : mx_ins 1 67 = some ((.goto (-37)), 3) := mx_ins_of mi1 dX0_feed_67 rfl
theorem u1_67 : ev d 1 67 lo st h = ev d 1 30 lo st h := ev_goto n1_67 rfl
theorem n1_70 : mx_ins 1 70 = some ((.aload_n 0), 1) := mx_ins_of mi1 dX0_feed_70 rfl
theorem u1_70 : ev d 1 70 lo st h = evS (mx_ldA 0) d 1 71 lo st h := ev_s n1_70 rfl rfl
theorem n1_71 : mx_ins 1 71 = some ((.getfield 199), 3) := mx_ins_of mi1 dX0_feed_71 rfl
theorem u1_71 : ev d 1 71 lo st h = evS (mx_gf 0 199) d 1 74 lo st h := ev_s n1_71 rfl rfl
theorem n1_74 : mx_ins 1 74 = some (.ireturn, 1) := mx_ins_of mi1 dX0_feed_74 rfl
theorem u1_74 : ev d 1 74 lo st h = evI d 1 74 75 lo st h .ireturn := ev_u n1_74 rfl
theorem mi2 : mx_mi 2 = some (yX0_in, cX0_in, 3, (Option.some Jvm.ClassFile.FieldType.boolean), 0, 3, []) := rfl
theorem ow2 : mx_own 2 = 0 := mx_mi_own mi2
theorem mm2 : mx_max 2 = 3 := mx_mi_max mi2
theorem rt2 : mx_ret 2 = (Option.some Jvm.ClassFile.FieldType.boolean) := mx_mi_ret mi2
theorem hn2 : mx_hnd 2 = [] := mx_mi_hnd mi2
theorem n2_0 : mx_ins 2 0 = some ((.iload_n 0), 1) := mx_ins_of mi2 dX0_in_0 rfl
theorem u2_0 : ev d 2 0 lo st h = evS (mx_ldI 0) d 2 1 lo st h := ev_s n2_0 rfl rfl
theorem n2_1 : mx_ins 2 1 = some ((.iload_n 1), 1) := mx_ins_of mi2 dX0_in_1 rfl
theorem u2_1 : ev d 2 1 lo st h = evS (mx_ldI 1) d 2 2 lo st h := ev_s n2_1 rfl rfl
theorem n2_2 : mx_ins 2 2 = some ((.if_icmp .lt 12), 3) := mx_ins_of mi2 dX0_in_2 rfl
theorem u2_2 : ev d 2 2 lo st h = evK .lt d 2 14 5 lo st h := ev_ic n2_2 rfl rfl
theorem n2_5 : mx_ins 2 5 = some ((.iload_n 0), 1) := mx_ins_of mi2 dX0_in_5 rfl
theorem u2_5 : ev d 2 5 lo st h = evS (mx_ldI 0) d 2 6 lo st h := ev_s n2_5 rfl rfl
theorem n2_6 : mx_ins 2 6 = some ((.iload_n 2), 1) := mx_ins_of mi2 dX0_in_6 rfl
theorem u2_6 : ev d 2 6 lo st h = evS (mx_ldI 2) d 2 7 lo st h := ev_s n2_6 rfl rfl
theorem n2_7 : mx_ins 2 7 = some ((.if_icmp .gt 7), 3) := mx_ins_of mi2 dX0_in_7 rfl
theorem u2_7 : ev d 2 7 lo st h = evK .gt d 2 14 10 lo st h := ev_ic n2_7 rfl rfl
theorem n2_10 : mx_ins 2 10 = some ((.iconst 1), 1) := mx_ins_of mi2 dX0_in_10 rfl
theorem u2_10 : ev d 2 10 lo st h = ev d 2 11 lo (.int 1 :: st) h := (ev_s (f := mx_push (.int 1)) n2_10 rfl rfl).trans es_push
theorem n2_11 : mx_ins 2 11 = some ((.goto 4), 3) := mx_ins_of mi2 dX0_in_11 rfl
theorem u2_11 : ev d 2 11 lo st h = ev d 2 15 lo st h := ev_goto n2_11 rfl
theorem n2_14 : mx_ins 2 14 = some ((.iconst 0), 1) := mx_ins_of mi2 dX0_in_14 rfl
theorem u2_14 : ev d 2 14 lo st h = ev d 2 15 lo (.int 0 :: st) h := (ev_s (f := mx_push (.int 0)) n2_14 rfl rfl).trans es_push
theorem n2_15 : mx_ins 2 15 = some (.ireturn, 1) := mx_ins_of mi2 dX0_in_15 rfl
theorem u2_15 : ev d 2 15 lo st h = evI d 2 15 16 lo st h .ireturn := ev_u n2_15 rfl
theorem mi3 : mx_mi 3 = some (yX0_plan, cX0_plan, 3, (Option.some Jvm.ClassFile.FieldType.int), 0, 1, [(10, 22, 25, 206)]) := rfl
theorem ow3 : mx_own 3 = 0 := mx_mi_own mi3
theorem mm3 : mx_max 3 = 3 := mx_mi_max mi3
theorem rt3 : mx_ret 3 = (Option.some Jvm.ClassFile.FieldType.int) := mx_mi_ret mi3
theorem hn3 : mx_hnd 3 = [(10, 22, 25, 206)] := mx_mi_hnd mi3
theorem n3_0 : mx_ins 3 0 = some ((.aload_n 0), 1) := mx_ins_of mi3 dX0_plan_0 rfl
theorem u3_0 : ev d 3 0 lo st h = evS (mx_ldA 0) d 3 1 lo st h := ev_s n3_0 rfl rfl
theorem n3_1 : mx_ins 3 1 = some ((.getfield 199), 3) := mx_ins_of mi3 dX0_plan_1 rfl
theorem u3_1 : ev d 3 1 lo st h = evS (mx_gf 0 199) d 3 4 lo st h := ev_s n3_1 rfl rfl
theorem n3_4 : mx_ins 3 4 = some ((.istore_n 1), 1) := mx_ins_of mi3 dX0_plan_4 rfl
theorem u3_4 : ev d 3 4 lo st h = evS (mx_stI 1) d 3 5 lo st h := ev_s n3_4 rfl rfl
theorem n3_5 : mx_ins 3 5 = some ((.aload_n 0), 1) := mx_ins_of mi3 dX0_plan_5 rfl
theorem u3_5 : ev d 3 5 lo st h = evS (mx_ldA 0) d 3 6 lo st h := ev_s n3_5 rfl rfl
theorem n3_6 : mx_ins 3 6 = some ((.iconst 0), 1) := mx_ins_of mi3 dX0_plan_6 rfl
theorem u3_6 : ev d 3 6 lo st h = ev d 3 7 lo (.int 0 :: st) h := (ev_s (f := mx_push (.int 0)) n3_6 rfl rfl).trans es_push
theorem n3_7 : mx_ins 3 7 = some ((.putfield 199), 3) := mx_ins_of mi3 dX0_plan_7 rfl
theorem u3_7 : ev d 3 7 lo st h = evS (mx_pf 0 199 false) d 3 10 lo st h := ev_s n3_7 rfl rfl
theorem n3_10 : mx_ins 3 10 = some ((.aload_n 0), 1) := mx_ins_of mi3 dX0_plan_10 rfl
theorem u3_10 : ev d 3 10 lo st h = evS (mx_ldA 0) d 3 11 lo st h := ev_s n3_10 rfl rfl
theorem n3_11 : mx_ins 3 11 = some ((.getfield 77), 3) := mx_ins_of mi3 dX0_plan_11 rfl
theorem u3_11 : ev d 3 11 lo st h = evS (mx_gf 0 77) d 3 14 lo st h := ev_s n3_11 rfl rfl
theorem n3_14 : mx_ins 3 14 = some ((.aload_n 0), 1) := mx_ins_of mi3 dX0_plan_14 rfl
theorem u3_14 : ev d 3 14 lo st h = evS (mx_ldA 0) d 3 15 lo st h := ev_s n3_14 rfl rfl
theorem n3_15 : mx_ins 3 15 = some ((.getfield 68), 3) := mx_ins_of mi3 dX0_plan_15 rfl
theorem u3_15 : ev d 3 15 lo st h = evS (mx_gf 0 68) d 3 18 lo st h := ev_s n3_15 rfl rfl
theorem n3_18 : mx_ins 3 18 = some ((.iload_n 1), 1) := mx_ins_of mi3 dX0_plan_18 rfl
theorem u3_18 : ev d 3 18 lo st h = evS (mx_ldI 1) d 3 19 lo st h := ev_s n3_18 rfl rfl
theorem n3_19 : mx_ins 3 19 = some ((.invokevirtual 202), 3) := mx_ins_of mi3 dX0_plan_19 rfl
theorem u3_19 : ev d 3 19 lo st h = evIn d 3 19 22 0 202 3 false lo st h := ev_inv n3_19 rfl rfl ow3 ia0_202
theorem n3_22 : mx_ins 3 22 = some ((.goto 12), 3) := mx_ins_of mi3 dX0_plan_22 rfl
theorem u3_22 : ev d 3 22 lo st h = ev d 3 34 lo st h := ev_goto n3_22 rfl
theorem n3_25 : mx_ins 3 25 = some ((.astore_n 2), 1) := mx_ins_of mi3 dX0_plan_25 rfl
theorem u3_25 : ev d 3 25 lo st h = evS (mx_stA 2) d 3 26 lo st h := ev_s n3_25 rfl rfl
theorem n3_26 : mx_ins 3 26 = some ((.bipush (-100)), 2) := mx_ins_of mi3 dX0_plan_26 rfl
theorem u3_26 : ev d 3 26 lo st h = ev d 3 28 lo (.int (-100) :: st) h := (ev_s (f := mx_push (.int (-100))) n3_26 rfl rfl).trans es_push
theorem n3_28 : mx_ins 3 28 = some ((.aload_n 2), 1) := mx_ins_of mi3 dX0_plan_28 rfl
theorem u3_28 : ev d 3 28 lo st h = evS (mx_ldA 2) d 3 29 lo st h := ev_s n3_28 rfl rfl
theorem n3_29 : mx_ins 3 29 = some ((.getfield 208), 3) := mx_ins_of mi3 dX0_plan_29 rfl
theorem u3_29 : ev d 3 29 lo st h = evS (mx_gf 0 208) d 3 32 lo st h := ev_s n3_29 rfl rfl
theorem n3_32 : mx_ins 3 32 = some (.isub, 1) := mx_ins_of mi3 dX0_plan_32 rfl
theorem u3_32 : ev d 3 32 lo st h = evI d 3 32 33 lo st h .isub := ev_u n3_32 rfl
theorem n3_33 : mx_ins 3 33 = some (.ireturn, 1) := mx_ins_of mi3 dX0_plan_33 rfl
theorem u3_33 : ev d 3 33 lo st h = evI d 3 33 34 lo st h .ireturn := ev_u n3_33 rfl
theorem n3_34 : mx_ins 3 34 = some ((.aload_n 0), 1) := mx_ins_of mi3 dX0_plan_34 rfl
theorem u3_34 : ev d 3 34 lo st h = evS (mx_ldA 0) d 3 35 lo st h := ev_s n3_34 rfl rfl
theorem n3_35 : mx_ins 3 35 = some ((.getfield 22), 3) := mx_ins_of mi3 dX0_plan_35 rfl
theorem u3_35 : ev d 3 35 lo st h = evS (mx_gf 0 22) d 3 38 lo st h := ev_s n3_35 rfl rfl
theorem n3_38 : mx_ins 3 38 = some ((.aload_n 0), 1) := mx_ins_of mi3 dX0_plan_38 rfl
theorem u3_38 : ev d 3 38 lo st h = evS (mx_ldA 0) d 3 39 lo st h := ev_s n3_38 rfl rfl
theorem n3_39 : mx_ins 3 39 = some ((.getfield 29), 3) := mx_ins_of mi3 dX0_plan_39 rfl
theorem u3_39 : ev d 3 39 lo st h = evS (mx_gf 0 29) d 3 42 lo st h := ev_s n3_39 rfl rfl
theorem n3_42 : mx_ins 3 42 = some ((.invokevirtual 209), 3) := mx_ins_of mi3 dX0_plan_42 rfl
theorem u3_42 : ev d 3 42 lo st h = evIn d 3 42 45 0 209 2 false lo st h := ev_inv n3_42 rfl rfl ow3 ia0_209
theorem n3_45 : mx_ins 3 45 = some ((.aload_n 0), 1) := mx_ins_of mi3 dX0_plan_45 rfl
theorem u3_45 : ev d 3 45 lo st h = evS (mx_ldA 0) d 3 46 lo st h := ev_s n3_45 rfl rfl
theorem n3_46 : mx_ins 3 46 = some ((.getfield 22), 3) := mx_ins_of mi3 dX0_plan_46 rfl
theorem u3_46 : ev d 3 46 lo st h = evS (mx_gf 0 22) d 3 49 lo st h := ev_s n3_46 rfl rfl
theorem n3_49 : mx_ins 3 49 = some ((.getfield 212), 3) := mx_ins_of mi3 dX0_plan_49 rfl
theorem u3_49 : ev d 3 49 lo st h = evS (mx_gf 0 212) d 3 52 lo st h := ev_s n3_49 rfl rfl
theorem n3_52 : mx_ins 3 52 = some (.ireturn, 1) := mx_ins_of mi3 dX0_plan_52 rfl
theorem u3_52 : ev d 3 52 lo st h = evI d 3 52 53 lo st h .ireturn := ev_u n3_52 rfl
theorem mi4 : mx_mi 4 = some (yX0_out, cX0_out, 4, (Option.some Jvm.ClassFile.FieldType.int), 0, 3, []) := rfl
theorem ow4 : mx_own 4 = 0 := mx_mi_own mi4
theorem mm4 : mx_max 4 = 4 := mx_mi_max mi4
theorem rt4 : mx_ret 4 = (Option.some Jvm.ClassFile.FieldType.int) := mx_mi_ret mi4
theorem hn4 : mx_hnd 4 = [] := mx_mi_hnd mi4
theorem n4_0 : mx_ins 4 0 = some ((.iload_n 1), 1) := mx_ins_of mi4 dX0_out_0 rfl
theorem u4_0 : ev d 4 0 lo st h = evS (mx_ldI 1) d 4 1 lo st h := ev_s n4_0 rfl rfl
theorem n4_1 : mx_ins 4 1 = some ((.invokestatic 215), 3) := mx_ins_of mi4 dX0_out_1 rfl
theorem u4_1 : ev d 4 1 lo st h = evIn d 4 1 4 0 215 1 true lo st h := ev_inv n4_1 rfl rfl ow4 ia0_215
theorem n4_4 : mx_ins 4 4 = some ((.ifCond .eq 14), 3) := mx_ins_of mi4 dX0_out_4 rfl
theorem u4_4 : ev d 4 4 lo st h = evJ .eq d 4 18 7 lo st h := ev_if n4_4 rfl rfl
theorem n4_7 : mx_ins 4 7 = some ((.iload_n 2), 1) := mx_ins_of mi4 dX0_out_7 rfl
theorem u4_7 : ev d 4 7 lo st h = evS (mx_ldI 2) d 4 8 lo st h := ev_s n4_7 rfl rfl
theorem n4_8 : mx_ins 4 8 = some ((.bipush (-20)), 2) := mx_ins_of mi4 dX0_out_8 rfl
theorem u4_8 : ev d 4 8 lo st h = ev d 4 10 lo (.int (-20) :: st) h := (ev_s (f := mx_push (.int (-20))) n4_8 rfl rfl).trans es_push
theorem n4_10 : mx_ins 4 10 = some ((.bipush 30), 2) := mx_ins_of mi4 dX0_out_10 rfl
theorem u4_10 : ev d 4 10 lo st h = ev d 4 12 lo (.int 30 :: st) h := (ev_s (f := mx_push (.int 30)) n4_10 rfl rfl).trans es_push
theorem n4_12 : mx_ins 4 12 = some ((.invokestatic 143), 3) := mx_ins_of mi4 dX0_out_12 rfl
theorem u4_12 : ev d 4 12 lo st h = evIn d 4 12 15 0 143 3 true lo st h := ev_inv n4_12 rfl rfl ow4 ia0_143
theorem n4_15 : mx_ins 4 15 = some ((.ifCond .ne 6), 3) := mx_ins_of mi4 dX0_out_15 rfl
theorem u4_15 : ev d 4 15 lo st h = evJ .ne d 4 21 18 lo st h := ev_if n4_15 rfl rfl
theorem n4_18 : mx_ins 4 18 = some ((.ldc 219), 2) := mx_ins_of mi4 dX0_out_18 rfl
theorem u4_18 : ev d 4 18 lo st h = ev d 4 20 lo (.int (-2147483648) :: st) h := (ev_s (f := mx_push (.int (-2147483648))) n4_18 rfl rfl).trans es_push
theorem n4_20 : mx_ins 4 20 = some (.ireturn, 1) := mx_ins_of mi4 dX0_out_20 rfl
theorem u4_20 : ev d 4 20 lo st h = evI d 4 20 21 lo st h .ireturn := ev_u n4_20 rfl
theorem n4_21 : mx_ins 4 21 = some ((.aload_n 0), 1) := mx_ins_of mi4 dX0_out_21 rfl
theorem u4_21 : ev d 4 21 lo st h = evS (mx_ldA 0) d 4 22 lo st h := ev_s n4_21 rfl rfl
theorem n4_22 : mx_ins 4 22 = some ((.getfield 22), 3) := mx_ins_of mi4 dX0_out_22 rfl
theorem u4_22 : ev d 4 22 lo st h = evS (mx_gf 0 22) d 4 25 lo st h := ev_s n4_22 rfl rfl
theorem n4_25 : mx_ins 4 25 = some ((.getfield 220), 3) := mx_ins_of mi4 dX0_out_25 rfl
theorem u4_25 : ev d 4 25 lo st h = evS (mx_gf 0 220) d 4 28 lo st h := ev_s n4_25 rfl rfl
theorem n4_28 : mx_ins 4 28 = some ((.iload_n 1), 1) := mx_ins_of mi4 dX0_out_28 rfl
theorem u4_28 : ev d 4 28 lo st h = evS (mx_ldI 1) d 4 29 lo st h := ev_s n4_28 rfl rfl
theorem n4_29 : mx_ins 4 29 = some (.iaload, 1) := mx_ins_of mi4 dX0_out_29 rfl
theorem u4_29 : ev d 4 29 lo st h = evI d 4 29 30 lo st h .iaload := ev_u n4_29 rfl
theorem n4_30 : mx_ins 4 30 = some ((.istore_n 3), 1) := mx_ins_of mi4 dX0_out_30 rfl
theorem u4_30 : ev d 4 30 lo st h = evS (mx_stI 3) d 4 31 lo st h := ev_s n4_30 rfl rfl
theorem n4_31 : mx_ins 4 31 = some ((.aload_n 0), 1) := mx_ins_of mi4 dX0_out_31 rfl
theorem u4_31 : ev d 4 31 lo st h = evS (mx_ldA 0) d 4 32 lo st h := ev_s n4_31 rfl rfl
theorem n4_32 : mx_ins 4 32 = some ((.getfield 22), 3) := mx_ins_of mi4 dX0_out_32 rfl
theorem u4_32 : ev d 4 32 lo st h = evS (mx_gf 0 22) d 4 35 lo st h := ev_s n4_32 rfl rfl
theorem n4_35 : mx_ins 4 35 = some ((.getfield 220), 3) := mx_ins_of mi4 dX0_out_35 rfl
theorem u4_35 : ev d 4 35 lo st h = evS (mx_gf 0 220) d 4 38 lo st h := ev_s n4_35 rfl rfl
theorem n4_38 : mx_ins 4 38 = some ((.iload_n 1), 1) := mx_ins_of mi4 dX0_out_38 rfl
theorem u4_38 : ev d 4 38 lo st h = evS (mx_ldI 1) d 4 39 lo st h := ev_s n4_38 rfl rfl
theorem n4_39 : mx_ins 4 39 = some ((.iload_n 2), 1) := mx_ins_of mi4 dX0_out_39 rfl
theorem u4_39 : ev d 4 39 lo st h = evS (mx_ldI 2) d 4 40 lo st h := ev_s n4_39 rfl rfl
theorem n4_40 : mx_ins 4 40 = some (.iastore, 1) := mx_ins_of mi4 dX0_out_40 rfl
theorem u4_40 : ev d 4 40 lo st h = evI d 4 40 41 lo st h .iastore := ev_u n4_40 rfl
theorem n4_41 : mx_ins 4 41 = some ((.iload_n 3), 1) := mx_ins_of mi4 dX0_out_41 rfl
theorem u4_41 : ev d 4 41 lo st h = evS (mx_ldI 3) d 4 42 lo st h := ev_s n4_41 rfl rfl
theorem n4_42 : mx_ins 4 42 = some (.ireturn, 1) := mx_ins_of mi4 dX0_out_42 rfl
theorem u4_42 : ev d 4 42 lo st h = evI d 4 42 43 lo st h .ireturn := ev_u n4_42 rfl
theorem mi5 : mx_mi 5 = some (yX0_isWeek, cX0_isWeek, 1, (Option.some Jvm.ClassFile.FieldType.boolean), 0, 1, []) := rfl
theorem ow5 : mx_own 5 = 0 := mx_mi_own mi5
theorem mm5 : mx_max 5 = 1 := mx_mi_max mi5
theorem rt5 : mx_ret 5 = (Option.some Jvm.ClassFile.FieldType.boolean) := mx_mi_ret mi5
theorem hn5 : mx_hnd 5 = [] := mx_mi_hnd mi5
theorem n5_0 : mx_ins 5 0 = some ((.iload_n 0), 1) := mx_ins_of mi5 dX0_isWeek_0 rfl
theorem u5_0 : ev d 5 0 lo st h = evS (mx_ldI 0) d 5 1 lo st h := ev_s n5_0 rfl rfl
theorem n5_1 : mx_ins 5 1 = some ((.iconst 0), 1) := mx_ins_of mi5 dX0_isWeek_1 rfl
theorem u5_1 : ev d 5 1 lo st h = ev d 5 2 lo (.int 0 :: st) h := (ev_s (f := mx_push (.int 0)) n5_1 rfl rfl).trans es_push
theorem n5_2 : mx_ins 5 2 = some ((.bipush 23), 2) := mx_ins_of mi5 dX0_isWeek_2 rfl
theorem u5_2 : ev d 5 2 lo st h = ev d 5 4 lo (.int 23 :: st) h := (ev_s (f := mx_push (.int 23)) n5_2 rfl rfl).trans es_push
theorem n5_4 : mx_ins 5 4 = some ((.invokestatic 143), 3) := mx_ins_of mi5 dX0_isWeek_4 rfl
theorem u5_4 : ev d 5 4 lo st h = evIn d 5 4 7 0 143 3 true lo st h := ev_inv n5_4 rfl rfl ow5 ia0_143
theorem n5_7 : mx_ins 5 7 = some (.ireturn, 1) := mx_ins_of mi5 dX0_isWeek_7 rfl
theorem u5_7 : ev d 5 7 lo st h = evI d 5 7 8 lo st h .ireturn := ev_u n5_7 rfl
theorem mi6 : mx_mi 6 = some (yX0_air, cX0_air, 4, (Option.some Jvm.ClassFile.FieldType.int), 0, 3, []) := rfl
theorem ow6 : mx_own 6 = 0 := mx_mi_own mi6
theorem mm6 : mx_max 6 = 4 := mx_mi_max mi6
theorem rt6 : mx_ret 6 = (Option.some Jvm.ClassFile.FieldType.int) := mx_mi_ret mi6
theorem hn6 : mx_hnd 6 = [] := mx_mi_hnd mi6
theorem n6_0 : mx_ins 6 0 = some ((.iload_n 1), 1) := mx_ins_of mi6 dX0_air_0 rfl
theorem u6_0 : ev d 6 0 lo st h = evS (mx_ldI 1) d 6 1 lo st h := ev_s n6_0 rfl rfl
theorem n6_1 : mx_ins 6 1 = some ((.invokestatic 215), 3) := mx_ins_of mi6 dX0_air_1 rfl
theorem u6_1 : ev d 6 1 lo st h = evIn d 6 1 4 0 215 1 true lo st h := ev_inv n6_1 rfl rfl ow6 ia0_215
theorem n6_4 : mx_ins 6 4 = some ((.ifCond .eq 13), 3) := mx_ins_of mi6 dX0_air_4 rfl
theorem u6_4 : ev d 6 4 lo st h = evJ .eq d 6 17 7 lo st h := ev_if n6_4 rfl rfl
theorem n6_7 : mx_ins 6 7 = some ((.iload_n 2), 1) := mx_ins_of mi6 dX0_air_7 rfl
theorem u6_7 : ev d 6 7 lo st h = evS (mx_ldI 2) d 6 8 lo st h := ev_s n6_7 rfl rfl
theorem n6_8 : mx_ins 6 8 = some ((.iconst 0), 1) := mx_ins_of mi6 dX0_air_8 rfl
theorem u6_8 : ev d 6 8 lo st h = ev d 6 9 lo (.int 0 :: st) h := (ev_s (f := mx_push (.int 0)) n6_8 rfl rfl).trans es_push
theorem n6_9 : mx_ins 6 9 = some ((.bipush 9), 2) := mx_ins_of mi6 dX0_air_9 rfl
theorem u6_9 : ev d 6 9 lo st h = ev d 6 11 lo (.int 9 :: st) h := (ev_s (f := mx_push (.int 9)) n6_9 rfl rfl).trans es_push
theorem n6_11 : mx_ins 6 11 = some ((.invokestatic 143), 3) := mx_ins_of mi6 dX0_air_11 rfl
theorem u6_11 : ev d 6 11 lo st h = evIn d 6 11 14 0 143 3 true lo st h := ev_inv n6_11 rfl rfl ow6 ia0_143
theorem n6_14 : mx_ins 6 14 = some ((.ifCond .ne 5), 3) := mx_ins_of mi6 dX0_air_14 rfl
theorem u6_14 : ev d 6 14 lo st h = evJ .ne d 6 19 17 lo st h := ev_if n6_14 rfl rfl
theorem n6_17 : mx_ins 6 17 = some ((.iconst (-1)), 1) := mx_ins_of mi6 dX0_air_17 rfl
theorem u6_17 : ev d 6 17 lo st h = ev d 6 18 lo (.int (-1) :: st) h := (ev_s (f := mx_push (.int (-1))) n6_17 rfl rfl).trans es_push
theorem n6_18 : mx_ins 6 18 = some (.ireturn, 1) := mx_ins_of mi6 dX0_air_18 rfl
theorem u6_18 : ev d 6 18 lo st h = evI d 6 18 19 lo st h .ireturn := ev_u n6_18 rfl
theorem n6_19 : mx_ins 6 19 = some ((.aload_n 0), 1) := mx_ins_of mi6 dX0_air_19 rfl
theorem u6_19 : ev d 6 19 lo st h = evS (mx_ldA 0) d 6 20 lo st h := ev_s n6_19 rfl rfl
theorem n6_20 : mx_ins 6 20 = some ((.getfield 22), 3) := mx_ins_of mi6 dX0_air_20 rfl
theorem u6_20 : ev d 6 20 lo st h = evS (mx_gf 0 22) d 6 23 lo st h := ev_s n6_20 rfl rfl
theorem n6_23 : mx_ins 6 23 = some ((.getfield 179), 3) := mx_ins_of mi6 dX0_air_23 rfl
theorem u6_23 : ev d 6 23 lo st h = evS (mx_gf 0 179) d 6 26 lo st h := ev_s n6_23 rfl rfl
theorem n6_26 : mx_ins 6 26 = some ((.iload_n 1), 1) := mx_ins_of mi6 dX0_air_26 rfl
theorem u6_26 : ev d 6 26 lo st h = evS (mx_ldI 1) d 6 27 lo st h := ev_s n6_26 rfl rfl
theorem n6_27 : mx_ins 6 27 = some (.iaload, 1) := mx_ins_of mi6 dX0_air_27 rfl
theorem u6_27 : ev d 6 27 lo st h = evI d 6 27 28 lo st h .iaload := ev_u n6_27 rfl
theorem n6_28 : mx_ins 6 28 = some ((.istore_n 3), 1) := mx_ins_of mi6 dX0_air_28 rfl
theorem u6_28 : ev d 6 28 lo st h = evS (mx_stI 3) d 6 29 lo st h := ev_s n6_28 rfl rfl
theorem n6_29 : mx_ins 6 29 = some ((.aload_n 0), 1) := mx_ins_of mi6 dX0_air_29 rfl
theorem u6_29 : ev d 6 29 lo st h = evS (mx_ldA 0) d 6 30 lo st h := ev_s n6_29 rfl rfl
theorem n6_30 : mx_ins 6 30 = some ((.getfield 22), 3) := mx_ins_of mi6 dX0_air_30 rfl
theorem u6_30 : ev d 6 30 lo st h = evS (mx_gf 0 22) d 6 33 lo st h := ev_s n6_30 rfl rfl
theorem n6_33 : mx_ins 6 33 = some ((.getfield 179), 3) := mx_ins_of mi6 dX0_air_33 rfl
theorem u6_33 : ev d 6 33 lo st h = evS (mx_gf 0 179) d 6 36 lo st h := ev_s n6_33 rfl rfl
theorem n6_36 : mx_ins 6 36 = some ((.iload_n 1), 1) := mx_ins_of mi6 dX0_air_36 rfl
theorem u6_36 : ev d 6 36 lo st h = evS (mx_ldI 1) d 6 37 lo st h := ev_s n6_36 rfl rfl
theorem n6_37 : mx_ins 6 37 = some ((.iload_n 2), 1) := mx_ins_of mi6 dX0_air_37 rfl
theorem u6_37 : ev d 6 37 lo st h = evS (mx_ldI 2) d 6 38 lo st h := ev_s n6_37 rfl rfl
theorem n6_38 : mx_ins 6 38 = some (.iastore, 1) := mx_ins_of mi6 dX0_air_38 rfl
theorem u6_38 : ev d 6 38 lo st h = evI d 6 38 39 lo st h .iastore := ev_u n6_38 rfl
theorem n6_39 : mx_ins 6 39 = some ((.iload_n 3), 1) := mx_ins_of mi6 dX0_air_39 rfl
theorem u6_39 : ev d 6 39 lo st h = evS (mx_ldI 3) d 6 40 lo st h := ev_s n6_39 rfl rfl
theorem n6_40 : mx_ins 6 40 = some (.ireturn, 1) := mx_ins_of mi6 dX0_air_40 rfl
theorem u6_40 : ev d 6 40 lo st h = evI d 6 40 41 lo st h .ireturn := ev_u n6_40 rfl
theorem mi7 : mx_mi 7 = some (yX0_weekOf, cX0_weekOf, 4, (Option.some Jvm.ClassFile.FieldType.int), 0, 4, []) := rfl
theorem ow7 : mx_own 7 = 0 := mx_mi_own mi7
theorem mm7 : mx_max 7 = 4 := mx_mi_max mi7
theorem rt7 : mx_ret 7 = (Option.some Jvm.ClassFile.FieldType.int) := mx_mi_ret mi7
theorem hn7 : mx_hnd 7 = [] := mx_mi_hnd mi7
theorem n7_0 : mx_ins 7 0 = some ((.iload_n 1), 1) := mx_ins_of mi7 dX0_weekOf_0 rfl
theorem u7_0 : ev d 7 0 lo st h = evS (mx_ldI 1) d 7 1 lo st h := ev_s n7_0 rfl rfl
theorem n7_1 : mx_ins 7 1 = some ((.invokestatic 215), 3) := mx_ins_of mi7 dX0_weekOf_1 rfl
theorem u7_1 : ev d 7 1 lo st h = evIn d 7 1 4 0 215 1 true lo st h := ev_inv n7_1 rfl rfl ow7 ia0_215
theorem n7_4 : mx_ins 7 4 = some ((.ifCond .eq 10), 3) := mx_ins_of mi7 dX0_weekOf_4 rfl
theorem u7_4 : ev d 7 4 lo st h = evJ .eq d 7 14 7 lo st h := ev_if n7_4 rfl rfl
theorem n7_7 : mx_ins 7 7 = some ((.iload_n 2), 1) := mx_ins_of mi7 dX0_weekOf_7 rfl
theorem u7_7 : ev d 7 7 lo st h = evS (mx_ldI 2) d 7 8 lo st h := ev_s n7_7 rfl rfl
theorem n7_8 : mx_ins 7 8 = some ((.invokestatic 223), 3) := mx_ins_of mi7 dX0_weekOf_8 rfl
theorem u7_8 : ev d 7 8 lo st h = evIn d 7 8 11 0 223 1 true lo st h := ev_inv n7_8 rfl rfl ow7 ia0_223
theorem n7_11 : mx_ins 7 11 = some ((.ifCond .ne 6), 3) := mx_ins_of mi7 dX0_weekOf_11 rfl
theorem u7_11 : ev d 7 11 lo st h = evJ .ne d 7 17 14 lo st h := ev_if n7_11 rfl rfl
theorem n7_14 : mx_ins 7 14 = some ((.ldc 219), 2) := mx_ins_of mi7 dX0_weekOf_14 rfl
theorem u7_14 : ev d 7 14 lo st h = ev d 7 16 lo (.int (-2147483648) :: st) h := (ev_s (f := mx_push (.int (-2147483648))) n7_14 rfl rfl).trans es_push
theorem n7_16 : mx_ins 7 16 = some (.ireturn, 1) := mx_ins_of mi7 dX0_weekOf_16 rfl
theorem u7_16 : ev d 7 16 lo st h = evI d 7 16 17 lo st h .ireturn := ev_u n7_16 rfl
theorem n7_17 : mx_ins 7 17 = some ((.iload_n 3), 1) := mx_ins_of mi7 dX0_weekOf_17 rfl
theorem u7_17 : ev d 7 17 lo st h = evS (mx_ldI 3) d 7 18 lo st h := ev_s n7_17 rfl rfl
theorem n7_18 : mx_ins 7 18 = some ((.tableswitch 70 0 3 #[30, 40, 50, 60]), 30) := mx_ins_of mi7 dX0_weekOf_18 rfl
theorem u7_18 : ev d 7 18 lo st h = evTS d 7 [(0, 48), (1, 58), (2, 68), (3, 78)] 88 lo st h := ev_ts n7_18 rfl rfl
theorem n7_48 : mx_ins 7 48 = some ((.aload_n 0), 1) := mx_ins_of mi7 dX0_weekOf_48 rfl
theorem u7_48 : ev d 7 48 lo st h = evS (mx_ldA 0) d 7 49 lo st h := ev_s n7_48 rfl rfl
theorem n7_49 : mx_ins 7 49 = some ((.getfield 22), 3) := mx_ins_of mi7 dX0_weekOf_49 rfl
theorem u7_49 : ev d 7 49 lo st h = evS (mx_gf 0 22) d 7 52 lo st h := ev_s n7_49 rfl rfl
theorem n7_52 : mx_ins 7 52 = some ((.iload_n 1), 1) := mx_ins_of mi7 dX0_weekOf_52 rfl
theorem u7_52 : ev d 7 52 lo st h = evS (mx_ldI 1) d 7 53 lo st h := ev_s n7_52 rfl rfl
theorem n7_53 : mx_ins 7 53 = some ((.iload_n 2), 1) := mx_ins_of mi7 dX0_weekOf_53 rfl
theorem u7_53 : ev d 7 53 lo st h = evS (mx_ldI 2) d 7 54 lo st h := ev_s n7_53 rfl rfl
theorem n7_54 : mx_ins 7 54 = some ((.invokevirtual 169), 3) := mx_ins_of mi7 dX0_weekOf_54 rfl
theorem u7_54 : ev d 7 54 lo st h = evIn d 7 54 57 0 169 3 false lo st h := ev_inv n7_54 rfl rfl ow7 ia0_169
theorem n7_57 : mx_ins 7 57 = some (.ireturn, 1) := mx_ins_of mi7 dX0_weekOf_57 rfl
theorem u7_57 : ev d 7 57 lo st h = evI d 7 57 58 lo st h .ireturn := ev_u n7_57 rfl
theorem n7_58 : mx_ins 7 58 = some ((.aload_n 0), 1) := mx_ins_of mi7 dX0_weekOf_58 rfl
theorem u7_58 : ev d 7 58 lo st h = evS (mx_ldA 0) d 7 59 lo st h := ev_s n7_58 rfl rfl
theorem n7_59 : mx_ins 7 59 = some ((.getfield 22), 3) := mx_ins_of mi7 dX0_weekOf_59 rfl
theorem u7_59 : ev d 7 59 lo st h = evS (mx_gf 0 22) d 7 62 lo st h := ev_s n7_59 rfl rfl
theorem n7_62 : mx_ins 7 62 = some ((.getfield 220), 3) := mx_ins_of mi7 dX0_weekOf_62 rfl
theorem u7_62 : ev d 7 62 lo st h = evS (mx_gf 0 220) d 7 65 lo st h := ev_s n7_62 rfl rfl
theorem n7_65 : mx_ins 7 65 = some ((.iload_n 1), 1) := mx_ins_of mi7 dX0_weekOf_65 rfl
theorem u7_65 : ev d 7 65 lo st h = evS (mx_ldI 1) d 7 66 lo st h := ev_s n7_65 rfl rfl
theorem n7_66 : mx_ins 7 66 = some (.iaload, 1) := mx_ins_of mi7 dX0_weekOf_66 rfl
theorem u7_66 : ev d 7 66 lo st h = evI d 7 66 67 lo st h .iaload := ev_u n7_66 rfl
theorem n7_67 : mx_ins 7 67 = some (.ireturn, 1) := mx_ins_of mi7 dX0_weekOf_67 rfl
theorem u7_67 : ev d 7 67 lo st h = evI d 7 67 68 lo st h .ireturn := ev_u n7_67 rfl
theorem n7_68 : mx_ins 7 68 = some ((.aload_n 0), 1) := mx_ins_of mi7 dX0_weekOf_68 rfl
theorem u7_68 : ev d 7 68 lo st h = evS (mx_ldA 0) d 7 69 lo st h := ev_s n7_68 rfl rfl
theorem n7_69 : mx_ins 7 69 = some ((.getfield 22), 3) := mx_ins_of mi7 dX0_weekOf_69 rfl
theorem u7_69 : ev d 7 69 lo st h = evS (mx_gf 0 22) d 7 72 lo st h := ev_s n7_69 rfl rfl
theorem n7_72 : mx_ins 7 72 = some ((.getfield 179), 3) := mx_ins_of mi7 dX0_weekOf_72 rfl
theorem u7_72 : ev d 7 72 lo st h = evS (mx_gf 0 179) d 7 75 lo st h := ev_s n7_72 rfl rfl
theorem n7_75 : mx_ins 7 75 = some ((.iload_n 1), 1) := mx_ins_of mi7 dX0_weekOf_75 rfl
theorem u7_75 : ev d 7 75 lo st h = evS (mx_ldI 1) d 7 76 lo st h := ev_s n7_75 rfl rfl
theorem n7_76 : mx_ins 7 76 = some (.iaload, 1) := mx_ins_of mi7 dX0_weekOf_76 rfl
theorem u7_76 : ev d 7 76 lo st h = evI d 7 76 77 lo st h .iaload := ev_u n7_76 rfl
theorem n7_77 : mx_ins 7 77 = some (.ireturn, 1) := mx_ins_of mi7 dX0_weekOf_77 rfl
theorem u7_77 : ev d 7 77 lo st h = evI d 7 77 78 lo st h .ireturn := ev_u n7_77 rfl
theorem n7_78 : mx_ins 7 78 = some ((.aload_n 0), 1) := mx_ins_of mi7 dX0_weekOf_78 rfl
theorem u7_78 : ev d 7 78 lo st h = evS (mx_ldA 0) d 7 79 lo st h := ev_s n7_78 rfl rfl
theorem n7_79 : mx_ins 7 79 = some ((.getfield 22), 3) := mx_ins_of mi7 dX0_weekOf_79 rfl
theorem u7_79 : ev d 7 79 lo st h = evS (mx_gf 0 22) d 7 82 lo st h := ev_s n7_79 rfl rfl
theorem n7_82 : mx_ins 7 82 = some ((.iload_n 1), 1) := mx_ins_of mi7 dX0_weekOf_82 rfl
theorem u7_82 : ev d 7 82 lo st h = evS (mx_ldI 1) d 7 83 lo st h := ev_s n7_82 rfl rfl
theorem n7_83 : mx_ins 7 83 = some ((.iload_n 2), 1) := mx_ins_of mi7 dX0_weekOf_83 rfl
theorem u7_83 : ev d 7 83 lo st h = evS (mx_ldI 2) d 7 84 lo st h := ev_s n7_83 rfl rfl
theorem n7_84 : mx_ins 7 84 = some ((.invokevirtual 147), 3) := mx_ins_of mi7 dX0_weekOf_84 rfl
theorem u7_84 : ev d 7 84 lo st h = evIn d 7 84 87 0 147 3 false lo st h := ev_inv n7_84 rfl rfl ow7 ia0_147
theorem n7_87 : mx_ins 7 87 = some (.ireturn, 1) := mx_ins_of mi7 dX0_weekOf_87 rfl
theorem u7_87 : ev d 7 87 lo st h = evI d 7 87 88 lo st h .ireturn := ev_u n7_87 rfl
theorem n7_88 : mx_ins 7 88 = some ((.ldc 219), 2) := mx_ins_of mi7 dX0_weekOf_88 rfl
theorem u7_88 : ev d 7 88 lo st h = ev d 7 90 lo (.int (-2147483648) :: st) h := (ev_s (f := mx_push (.int (-2147483648))) n7_88 rfl rfl).trans es_push
theorem n7_90 : mx_ins 7 90 = some (.ireturn, 1) := mx_ins_of mi7 dX0_weekOf_90 rfl
theorem u7_90 : ev d 7 90 lo st h = evI d 7 90 91 lo st h .ireturn := ev_u n7_90 rfl
theorem mi8 : mx_mi 8 = some (yX0_isPlace, cX0_isPlace, 1, (Option.some Jvm.ClassFile.FieldType.boolean), 0, 1, []) := rfl
theorem ow8 : mx_own 8 = 0 := mx_mi_own mi8
theorem mm8 : mx_max 8 = 1 := mx_mi_max mi8
theorem rt8 : mx_ret 8 = (Option.some Jvm.ClassFile.FieldType.boolean) := mx_mi_ret mi8
theorem hn8 : mx_hnd 8 = [] := mx_mi_hnd mi8
theorem n8_0 : mx_ins 8 0 = some ((.iload_n 0), 1) := mx_ins_of mi8 dX0_isPlace_0 rfl
theorem u8_0 : ev d 8 0 lo st h = evS (mx_ldI 0) d 8 1 lo st h := ev_s n8_0 rfl rfl
theorem n8_1 : mx_ins 8 1 = some ((.iconst 0), 1) := mx_ins_of mi8 dX0_isPlace_1 rfl
theorem u8_1 : ev d 8 1 lo st h = ev d 8 2 lo (.int 0 :: st) h := (ev_s (f := mx_push (.int 0)) n8_1 rfl rfl).trans es_push
theorem n8_2 : mx_ins 8 2 = some ((.iconst 3), 1) := mx_ins_of mi8 dX0_isPlace_2 rfl
theorem u8_2 : ev d 8 2 lo st h = ev d 8 3 lo (.int 3 :: st) h := (ev_s (f := mx_push (.int 3)) n8_2 rfl rfl).trans es_push
theorem n8_3 : mx_ins 8 3 = some ((.invokestatic 143), 3) := mx_ins_of mi8 dX0_isPlace_3 rfl
theorem u8_3 : ev d 8 3 lo st h = evIn d 8 3 6 0 143 3 true lo st h := ev_inv n8_3 rfl rfl ow8 ia0_143
theorem n8_6 : mx_ins 8 6 = some (.ireturn, 1) := mx_ins_of mi8 dX0_isPlace_6 rfl
theorem u8_6 : ev d 8 6 lo st h = evI d 8 6 7 lo st h .ireturn := ev_u n8_6 rfl
theorem mi9 : mx_mi 9 = some (yX0_rule, cX0_rule, 4, (Option.some Jvm.ClassFile.FieldType.int), 0, 3, []) := rfl
theorem ow9 : mx_own 9 = 0 := mx_mi_own mi9
theorem mm9 : mx_max 9 = 4 := mx_mi_max mi9
theorem rt9 : mx_ret 9 = (Option.some Jvm.ClassFile.FieldType.int) := mx_mi_ret mi9
theorem hn9 : mx_hnd 9 = [] := mx_mi_hnd mi9
theorem n9_0 : mx_ins 9 0 = some ((.iload_n 1), 1) := mx_ins_of mi9 dX0_rule_0 rfl
theorem u9_0 : ev d 9 0 lo st h = evS (mx_ldI 1) d 9 1 lo st h := ev_s n9_0 rfl rfl
theorem n9_1 : mx_ins 9 1 = some ((.iconst 0), 1) := mx_ins_of mi9 dX0_rule_1 rfl
theorem u9_1 : ev d 9 1 lo st h = ev d 9 2 lo (.int 0 :: st) h := (ev_s (f := mx_push (.int 0)) n9_1 rfl rfl).trans es_push
theorem n9_2 : mx_ins 9 2 = some ((.iconst 4), 1) := mx_ins_of mi9 dX0_rule_2 rfl
theorem u9_2 : ev d 9 2 lo st h = ev d 9 3 lo (.int 4 :: st) h := (ev_s (f := mx_push (.int 4)) n9_2 rfl rfl).trans es_push
theorem n9_3 : mx_ins 9 3 = some ((.invokestatic 143), 3) := mx_ins_of mi9 dX0_rule_3 rfl
theorem u9_3 : ev d 9 3 lo st h = evIn d 9 3 6 0 143 3 true lo st h := ev_inv n9_3 rfl rfl ow9 ia0_143
theorem n9_6 : mx_ins 9 6 = some ((.ifCond .eq 18), 3) := mx_ins_of mi9 dX0_rule_6 rfl
theorem u9_6 : ev d 9 6 lo st h = evJ .eq d 9 24 9 lo st h := ev_if n9_6 rfl rfl
theorem n9_9 : mx_ins 9 9 = some ((.iload_n 2), 1) := mx_ins_of mi9 dX0_rule_9 rfl
theorem u9_9 : ev d 9 9 lo st h = evS (mx_ldI 2) d 9 10 lo st h := ev_s n9_9 rfl rfl
theorem n9_10 : mx_ins 9 10 = some ((.iload_n 1), 1) := mx_ins_of mi9 dX0_rule_10 rfl
theorem u9_10 : ev d 9 10 lo st h = evS (mx_ldI 1) d 9 11 lo st h := ev_s n9_10 rfl rfl
theorem n9_11 : mx_ins 9 11 = some ((.invokestatic 226), 3) := mx_ins_of mi9 dX0_rule_11 rfl
theorem u9_11 : ev d 9 11 lo st h = evIn d 9 11 14 0 226 1 true lo st h := ev_inv n9_11 rfl rfl ow9 ia0_226
theorem n9_14 : mx_ins 9 14 = some ((.iload_n 1), 1) := mx_ins_of mi9 dX0_rule_14 rfl
theorem u9_14 : ev d 9 14 lo st h = evS (mx_ldI 1) d 9 15 lo st h := ev_s n9_14 rfl rfl
theorem n9_15 : mx_ins 9 15 = some ((.invokestatic 229), 3) := mx_ins_of mi9 dX0_rule_15 rfl
theorem u9_15 : ev d 9 15 lo st h = evIn d 9 15 18 0 229 1 true lo st h := ev_inv n9_15 rfl rfl ow9 ia0_229
theorem n9_18 : mx_ins 9 18 = some ((.invokestatic 143), 3) := mx_ins_of mi9 dX0_rule_18 rfl
theorem u9_18 : ev d 9 18 lo st h = evIn d 9 18 21 0 143 3 true lo st h := ev_inv n9_18 rfl rfl ow9 ia0_143
theorem n9_21 : mx_ins 9 21 = some ((.ifCond .ne 6), 3) := mx_ins_of mi9 dX0_rule_21 rfl
theorem u9_21 : ev d 9 21 lo st h = evJ .ne d 9 27 24 lo st h := ev_if n9_21 rfl rfl
theorem n9_24 : mx_ins 9 24 = some ((.ldc 219), 2) := mx_ins_of mi9 dX0_rule_24 rfl
theorem u9_24 : ev d 9 24 lo st h = ev d 9 26 lo (.int (-2147483648) :: st) h := (ev_s (f := mx_push (.int (-2147483648))) n9_24 rfl rfl).trans es_push
theorem n9_26 : mx_ins 9 26 = some (.ireturn, 1) := mx_ins_of mi9 dX0_rule_26 rfl
theorem u9_26 : ev d 9 26 lo st h = evI d 9 26 27 lo st h .ireturn := ev_u n9_26 rfl
theorem n9_27 : mx_ins 9 27 = some ((.aload_n 0), 1) := mx_ins_of mi9 dX0_rule_27 rfl
theorem u9_27 : ev d 9 27 lo st h = evS (mx_ldA 0) d 9 28 lo st h := ev_s n9_27 rfl rfl
theorem n9_28 : mx_ins 9 28 = some ((.getfield 22), 3) := mx_ins_of mi9 dX0_rule_28 rfl
theorem u9_28 : ev d 9 28 lo st h = evS (mx_gf 0 22) d 9 31 lo st h := ev_s n9_28 rfl rfl
theorem n9_31 : mx_ins 9 31 = some ((.getfield 232), 3) := mx_ins_of mi9 dX0_rule_31 rfl
theorem u9_31 : ev d 9 31 lo st h = evS (mx_gf 0 232) d 9 34 lo st h := ev_s n9_31 rfl rfl
theorem n9_34 : mx_ins 9 34 = some ((.iload_n 1), 1) := mx_ins_of mi9 dX0_rule_34 rfl
theorem u9_34 : ev d 9 34 lo st h = evS (mx_ldI 1) d 9 35 lo st h := ev_s n9_34 rfl rfl
theorem n9_35 : mx_ins 9 35 = some (.iaload, 1) := mx_ins_of mi9 dX0_rule_35 rfl
theorem u9_35 : ev d 9 35 lo st h = evI d 9 35 36 lo st h .iaload := ev_u n9_35 rfl
theorem n9_36 : mx_ins 9 36 = some ((.istore_n 3), 1) := mx_ins_of mi9 dX0_rule_36 rfl
theorem u9_36 : ev d 9 36 lo st h = evS (mx_stI 3) d 9 37 lo st h := ev_s n9_36 rfl rfl
theorem n9_37 : mx_ins 9 37 = some ((.aload_n 0), 1) := mx_ins_of mi9 dX0_rule_37 rfl
theorem u9_37 : ev d 9 37 lo st h = evS (mx_ldA 0) d 9 38 lo st h := ev_s n9_37 rfl rfl
theorem n9_38 : mx_ins 9 38 = some ((.getfield 22), 3) := mx_ins_of mi9 dX0_rule_38 rfl
theorem u9_38 : ev d 9 38 lo st h = evS (mx_gf 0 22) d 9 41 lo st h := ev_s n9_38 rfl rfl
theorem n9_41 : mx_ins 9 41 = some ((.getfield 232), 3) := mx_ins_of mi9 dX0_rule_41 rfl
theorem u9_41 : ev d 9 41 lo st h = evS (mx_gf 0 232) d 9 44 lo st h := ev_s n9_41 rfl rfl
theorem n9_44 : mx_ins 9 44 = some ((.iload_n 1), 1) := mx_ins_of mi9 dX0_rule_44 rfl
theorem u9_44 : ev d 9 44 lo st h = evS (mx_ldI 1) d 9 45 lo st h := ev_s n9_44 rfl rfl
theorem n9_45 : mx_ins 9 45 = some ((.iload_n 2), 1) := mx_ins_of mi9 dX0_rule_45 rfl
theorem u9_45 : ev d 9 45 lo st h = evS (mx_ldI 2) d 9 46 lo st h := ev_s n9_45 rfl rfl
theorem n9_46 : mx_ins 9 46 = some (.iastore, 1) := mx_ins_of mi9 dX0_rule_46 rfl
theorem u9_46 : ev d 9 46 lo st h = evI d 9 46 47 lo st h .iastore := ev_u n9_46 rfl
theorem n9_47 : mx_ins 9 47 = some ((.iload_n 3), 1) := mx_ins_of mi9 dX0_rule_47 rfl
theorem u9_47 : ev d 9 47 lo st h = evS (mx_ldI 3) d 9 48 lo st h := ev_s n9_47 rfl rfl
theorem n9_48 : mx_ins 9 48 = some (.ireturn, 1) := mx_ins_of mi9 dX0_rule_48 rfl
theorem u9_48 : ev d 9 48 lo st h = evI d 9 48 49 lo st h .ireturn := ev_u n9_48 rfl
theorem mi10 : mx_mi 10 = some (yX0_leastOf, cX0_leastOf, 1, (Option.some Jvm.ClassFile.FieldType.int), 0, 1, []) := rfl
theorem ow10 : mx_own 10 = 0 := mx_mi_own mi10
theorem mm10 : mx_max 10 = 1 := mx_mi_max mi10
theorem rt10 : mx_ret 10 = (Option.some Jvm.ClassFile.FieldType.int) := mx_mi_ret mi10
theorem hn10 : mx_hnd 10 = [] := mx_mi_hnd mi10
theorem n10_0 : mx_ins 10 0 = some ((.iload_n 0), 1) := mx_ins_of mi10 dX0_leastOf_0 rfl
theorem u10_0 : ev d 10 0 lo st h = evS (mx_ldI 0) d 10 1 lo st h := ev_s n10_0 rfl rfl
theorem n10_1 : mx_ins 10 1 = some ((.ifCond .ne 7), 3) := mx_ins_of mi10 dX0_leastOf_1 rfl
theorem u10_1 : ev d 10 1 lo st h = evJ .ne d 10 8 4 lo st h := ev_if n10_1 rfl rfl
theorem n10_4 : mx_ins 10 4 = some ((.iconst 0), 1) := mx_ins_of mi10 dX0_leastOf_4 rfl
theorem u10_4 : ev d 10 4 lo st h = ev d 10 5 lo (.int 0 :: st) h := (ev_s (f := mx_push (.int 0)) n10_4 rfl rfl).trans es_push
theorem n10_5 : mx_ins 10 5 = some ((.goto 34), 3) := mx_ins_of mi10 dX0_leastOf_5 rfl
theorem u10_5 : ev d 10 5 lo st h = ev d 10 39 lo st h := ev_goto n10_5 rfl
theorem n10_8 : mx_ins 10 8 = some ((.iload_n 0), 1) := mx_ins_of mi10 dX0_leastOf_8 rfl
theorem u10_8 : ev d 10 8 lo st h = evS (mx_ldI 0) d 10 9 lo st h := ev_s n10_8 rfl rfl
theorem n10_9 : mx_ins 10 9 = some ((.iconst 1), 1) := mx_ins_of mi10 dX0_leastOf_9 rfl
theorem u10_9 : ev d 10 9 lo st h = ev d 10 10 lo (.int 1 :: st) h := (ev_s (f := mx_push (.int 1)) n10_9 rfl rfl).trans es_push
theorem n10_10 : mx_ins 10 10 = some ((.if_icmp .ne 7), 3) := mx_ins_of mi10 dX0_leastOf_10 rfl
theorem u10_10 : ev d 10 10 lo st h = evK .ne d 10 17 13 lo st h := ev_ic n10_10 rfl rfl
theorem n10_13 : mx_ins 10 13 = some ((.iconst 1), 1) := mx_ins_of mi10 dX0_leastOf_13 rfl
theorem u10_13 : ev d 10 13 lo st h = ev d 10 14 lo (.int 1 :: st) h := (ev_s (f := mx_push (.int 1)) n10_13 rfl rfl).trans es_push
theorem n10_14 : mx_ins 10 14 = some ((.goto 25), 3) := mx_ins_of mi10 dX0_leastOf_14 rfl
theorem u10_14 : ev d 10 14 lo st h = ev d 10 39 lo st h := ev_goto n10_14 rfl
theorem n10_17 : mx_ins 10 17 = some ((.iload_n 0), 1) := mx_ins_of mi10 dX0_leastOf_17 rfl
theorem u10_17 : ev d 10 17 lo st h = evS (mx_ldI 0) d 10 18 lo st h := ev_s n10_17 rfl rfl
theorem n10_18 : mx_ins 10 18 = some ((.iconst 2), 1) := mx_ins_of mi10 dX0_leastOf_18 rfl
theorem u10_18 : ev d 10 18 lo st h = ev d 10 19 lo (.int 2 :: st) h := (ev_s (f := mx_push (.int 2)) n10_18 rfl rfl).trans es_push
theorem n10_19 : mx_ins 10 19 = some ((.if_icmp .ne 8), 3) := mx_ins_of mi10 dX0_leastOf_19 rfl
theorem u10_19 : ev d 10 19 lo st h = evK .ne d 10 27 22 lo st h := ev_ic n10_19 rfl rfl
theorem n10_22 : mx_ins 10 22 = some ((.bipush (-5)), 2) := mx_ins_of mi10 dX0_leastOf_22 rfl
theorem u10_22 : ev d 10 22 lo st h = ev d 10 24 lo (.int (-5) :: st) h := (ev_s (f := mx_push (.int (-5))) n10_22 rfl rfl).trans es_push
theorem n10_24 : mx_ins 10 24 = some ((.goto 15), 3) := mx_ins_of mi10 dX0_leastOf_24 rfl
theorem u10_24 : ev d 10 24 lo st h = ev d 10 39 lo st h := ev_goto n10_24 rfl
theorem n10_27 : mx_ins 10 27 = some ((.iload_n 0), 1) := mx_ins_of mi10 dX0_leastOf_27 rfl
theorem u10_27 : ev d 10 27 lo st h = evS (mx_ldI 0) d 10 28 lo st h := ev_s n10_27 rfl rfl
theorem n10_28 : mx_ins 10 28 = some ((.iconst 3), 1) := mx_ins_of mi10 dX0_leastOf_28 rfl
theorem u10_28 : ev d 10 28 lo st h = ev d 10 29 lo (.int 3 :: st) h := (ev_s (f := mx_push (.int 3)) n10_28 rfl rfl).trans es_push
theorem n10_29 : mx_ins 10 29 = some ((.if_icmp .ne 8), 3) := mx_ins_of mi10 dX0_leastOf_29 rfl
theorem u10_29 : ev d 10 29 lo st h = evK .ne d 10 37 32 lo st h := ev_ic n10_29 rfl rfl
theorem n10_32 : mx_ins 10 32 = some ((.bipush 6), 2) := mx_ins_of mi10 dX0_leastOf_32 rfl
theorem u10_32 : ev d 10 32 lo st h = ev d 10 34 lo (.int 6 :: st) h := (ev_s (f := mx_push (.int 6)) n10_32 rfl rfl).trans es_push
theorem n10_34 : mx_ins 10 34 = some ((.goto 5), 3) := mx_ins_of mi10 dX0_leastOf_34 rfl
theorem u10_34 : ev d 10 34 lo st h = ev d 10 39 lo st h := ev_goto n10_34 rfl
theorem n10_37 : mx_ins 10 37 = some ((.bipush 8), 2) := mx_ins_of mi10 dX0_leastOf_37 rfl
theorem u10_37 : ev d 10 37 lo st h = ev d 10 39 lo (.int 8 :: st) h := (ev_s (f := mx_push (.int 8)) n10_37 rfl rfl).trans es_push
theorem n10_39 : mx_ins 10 39 = some (.ireturn, 1) := mx_ins_of mi10 dX0_leastOf_39 rfl
theorem u10_39 : ev d 10 39 lo st h = evI d 10 39 40 lo st h .ireturn := ev_u n10_39 rfl
theorem mi11 : mx_mi 11 = some (yX0_mostOf, cX0_mostOf, 1, (Option.some Jvm.ClassFile.FieldType.int), 0, 1, []) := rfl
theorem ow11 : mx_own 11 = 0 := mx_mi_own mi11
theorem mm11 : mx_max 11 = 1 := mx_mi_max mi11
theorem rt11 : mx_ret 11 = (Option.some Jvm.ClassFile.FieldType.int) := mx_mi_ret mi11
theorem hn11 : mx_hnd 11 = [] := mx_mi_hnd mi11
theorem n11_0 : mx_ins 11 0 = some ((.iload_n 0), 1) := mx_ins_of mi11 dX0_mostOf_0 rfl
theorem u11_0 : ev d 11 0 lo st h = evS (mx_ldI 0) d 11 1 lo st h := ev_s n11_0 rfl rfl
theorem n11_1 : mx_ins 11 1 = some ((.ifCond .ne 8), 3) := mx_ins_of mi11 dX0_mostOf_1 rfl
theorem u11_1 : ev d 11 1 lo st h = evJ .ne d 11 9 4 lo st h := ev_if n11_1 rfl rfl
theorem n11_4 : mx_ins 11 4 = some ((.bipush 15), 2) := mx_ins_of mi11 dX0_mostOf_4 rfl
theorem u11_4 : ev d 11 4 lo st h = ev d 11 6 lo (.int 15 :: st) h := (ev_s (f := mx_push (.int 15)) n11_4 rfl rfl).trans es_push
theorem n11_6 : mx_ins 11 6 = some ((.goto 34), 3) := mx_ins_of mi11 dX0_mostOf_6 rfl
theorem u11_6 : ev d 11 6 lo st h = ev d 11 40 lo st h := ev_goto n11_6 rfl
theorem n11_9 : mx_ins 11 9 = some ((.iload_n 0), 1) := mx_ins_of mi11 dX0_mostOf_9 rfl
theorem u11_9 : ev d 11 9 lo st h = evS (mx_ldI 0) d 11 10 lo st h := ev_s n11_9 rfl rfl
theorem n11_10 : mx_ins 11 10 = some ((.iconst 1), 1) := mx_ins_of mi11 dX0_mostOf_10 rfl
theorem u11_10 : ev d 11 10 lo st h = ev d 11 11 lo (.int 1 :: st) h := (ev_s (f := mx_push (.int 1)) n11_10 rfl rfl).trans es_push
theorem n11_11 : mx_ins 11 11 = some ((.if_icmp .ne 8), 3) := mx_ins_of mi11 dX0_mostOf_11 rfl
theorem u11_11 : ev d 11 11 lo st h = evK .ne d 11 19 14 lo st h := ev_ic n11_11 rfl rfl
theorem n11_14 : mx_ins 11 14 = some ((.bipush 50), 2) := mx_ins_of mi11 dX0_mostOf_14 rfl
theorem u11_14 : ev d 11 14 lo st h = ev d 11 16 lo (.int 50 :: st) h := (ev_s (f := mx_push (.int 50)) n11_14 rfl rfl).trans es_push
theorem n11_16 : mx_ins 11 16 = some ((.goto 24), 3) := mx_ins_of mi11 dX0_mostOf_16 rfl
theorem u11_16 : ev d 11 16 lo st h = ev d 11 40 lo st h := ev_goto n11_16 rfl
theorem n11_19 : mx_ins 11 19 = some ((.iload_n 0), 1) := mx_ins_of mi11 dX0_mostOf_19 rfl
theorem u11_19 : ev d 11 19 lo st h = evS (mx_ldI 0) d 11 20 lo st h := ev_s n11_19 rfl rfl
theorem n11_20 : mx_ins 11 20 = some ((.iconst 2), 1) := mx_ins_of mi11 dX0_mostOf_20 rfl
theorem u11_20 : ev d 11 20 lo st h = ev d 11 21 lo (.int 2 :: st) h := (ev_s (f := mx_push (.int 2)) n11_20 rfl rfl).trans es_push
theorem n11_21 : mx_ins 11 21 = some ((.if_icmp .ne 7), 3) := mx_ins_of mi11 dX0_mostOf_21 rfl
theorem u11_21 : ev d 11 21 lo st h = evK .ne d 11 28 24 lo st h := ev_ic n11_21 rfl rfl
theorem n11_24 : mx_ins 11 24 = some ((.iconst 5), 1) := mx_ins_of mi11 dX0_mostOf_24 rfl
theorem u11_24 : ev d 11 24 lo st h = ev d 11 25 lo (.int 5 :: st) h := (ev_s (f := mx_push (.int 5)) n11_24 rfl rfl).trans es_push
theorem n11_25 : mx_ins 11 25 = some ((.goto 15), 3) := mx_ins_of mi11 dX0_mostOf_25 rfl
theorem u11_25 : ev d 11 25 lo st h = ev d 11 40 lo st h := ev_goto n11_25 rfl
theorem n11_28 : mx_ins 11 28 = some ((.iload_n 0), 1) := mx_ins_of mi11 dX0_mostOf_28 rfl
theorem u11_28 : ev d 11 28 lo st h = evS (mx_ldI 0) d 11 29 lo st h := ev_s n11_28 rfl rfl
theorem n11_29 : mx_ins 11 29 = some ((.iconst 3), 1) := mx_ins_of mi11 dX0_mostOf_29 rfl
theorem u11_29 : ev d 11 29 lo st h = ev d 11 30 lo (.int 3 :: st) h := (ev_s (f := mx_push (.int 3)) n11_29 rfl rfl).trans es_push
theorem n11_30 : mx_ins 11 30 = some ((.if_icmp .ne 8), 3) := mx_ins_of mi11 dX0_mostOf_30 rfl
theorem u11_30 : ev d 11 30 lo st h = evK .ne d 11 38 33 lo st h := ev_ic n11_30 rfl rfl
theorem n11_33 : mx_ins 11 33 = some ((.bipush 14), 2) := mx_ins_of mi11 dX0_mostOf_33 rfl
theorem u11_33 : ev d 11 33 lo st h = ev d 11 35 lo (.int 14 :: st) h := (ev_s (f := mx_push (.int 14)) n11_33 rfl rfl).trans es_push
theorem n11_35 : mx_ins 11 35 = some ((.goto 5), 3) := mx_ins_of mi11 dX0_mostOf_35 rfl
theorem u11_35 : ev d 11 35 lo st h = ev d 11 40 lo st h := ev_goto n11_35 rfl
theorem n11_38 : mx_ins 11 38 = some ((.bipush 20), 2) := mx_ins_of mi11 dX0_mostOf_38 rfl
theorem u11_38 : ev d 11 38 lo st h = ev d 11 40 lo (.int 20 :: st) h := (ev_s (f := mx_push (.int 20)) n11_38 rfl rfl).trans es_push
theorem n11_40 : mx_ins 11 40 = some (.ireturn, 1) := mx_ins_of mi11 dX0_mostOf_40 rfl
theorem u11_40 : ev d 11 40 lo st h = evI d 11 40 41 lo st h .ireturn := ev_u n11_40 rfl
theorem mi12 : mx_mi 12 = some (yX0_rate, cX0_rate, 2, (Option.some Jvm.ClassFile.FieldType.int), 0, 2, []) := rfl
theorem ow12 : mx_own 12 = 0 := mx_mi_own mi12
theorem mm12 : mx_max 12 = 2 := mx_mi_max mi12
theorem rt12 : mx_ret 12 = (Option.some Jvm.ClassFile.FieldType.int) := mx_mi_ret mi12
theorem hn12 : mx_hnd 12 = [] := mx_mi_hnd mi12
theorem n12_0 : mx_ins 12 0 = some ((.iload_n 1), 1) := mx_ins_of mi12 dX0_rate_0 rfl
theorem u12_0 : ev d 12 0 lo st h = evS (mx_ldI 1) d 12 1 lo st h := ev_s n12_0 rfl rfl
theorem n12_1 : mx_ins 12 1 = some ((.bipush (-20)), 2) := mx_ins_of mi12 dX0_rate_1 rfl
theorem u12_1 : ev d 12 1 lo st h = ev d 12 3 lo (.int (-20) :: st) h := (ev_s (f := mx_push (.int (-20))) n12_1 rfl rfl).trans es_push
theorem n12_3 : mx_ins 12 3 = some ((.bipush 30), 2) := mx_ins_of mi12 dX0_rate_3 rfl
theorem u12_3 : ev d 12 3 lo st h = ev d 12 5 lo (.int 30 :: st) h := (ev_s (f := mx_push (.int 30)) n12_3 rfl rfl).trans es_push
theorem n12_5 : mx_ins 12 5 = some ((.invokestatic 143), 3) := mx_ins_of mi12 dX0_rate_5 rfl
theorem u12_5 : ev d 12 5 lo st h = evIn d 12 5 8 0 143 3 true lo st h := ev_inv n12_5 rfl rfl ow12 ia0_143
theorem n12_8 : mx_ins 12 8 = some ((.ifCond .eq 14), 3) := mx_ins_of mi12 dX0_rate_8 rfl
theorem u12_8 : ev d 12 8 lo st h = evJ .eq d 12 22 11 lo st h := ev_if n12_8 rfl rfl
theorem n12_11 : mx_ins 12 11 = some ((.aload_n 0), 1) := mx_ins_of mi12 dX0_rate_11 rfl
theorem u12_11 : ev d 12 11 lo st h = evS (mx_ldA 0) d 12 12 lo st h := ev_s n12_11 rfl rfl
theorem n12_12 : mx_ins 12 12 = some ((.getfield 22), 3) := mx_ins_of mi12 dX0_rate_12 rfl
theorem u12_12 : ev d 12 12 lo st h = evS (mx_gf 0 22) d 12 15 lo st h := ev_s n12_12 rfl rfl
theorem n12_15 : mx_ins 12 15 = some ((.iload_n 1), 1) := mx_ins_of mi12 dX0_rate_15 rfl
theorem u12_15 : ev d 12 15 lo st h = evS (mx_ldI 1) d 12 16 lo st h := ev_s n12_15 rfl rfl
theorem n12_16 : mx_ins 12 16 = some ((.invokevirtual 235), 3) := mx_ins_of mi12 dX0_rate_16 rfl
theorem u12_16 : ev d 12 16 lo st h = evIn d 12 16 19 0 235 2 false lo st h := ev_inv n12_16 rfl rfl ow12 ia0_235
theorem n12_19 : mx_ins 12 19 = some ((.goto 4), 3) := mx_ins_of mi12 dX0_rate_19 rfl
theorem u12_19 : ev d 12 19 lo st h = ev d 12 23 lo st h := ev_goto n12_19 rfl
theorem n12_22 : mx_ins 12 22 = some ((.iconst (-1)), 1) := mx_ins_of mi12 dX0_rate_22 rfl
theorem u12_22 : ev d 12 22 lo st h = ev d 12 23 lo (.int (-1) :: st) h := (ev_s (f := mx_push (.int (-1))) n12_22 rfl rfl).trans es_push
theorem n12_23 : mx_ins 12 23 = some (.ireturn, 1) := mx_ins_of mi12 dX0_rate_23 rfl
theorem u12_23 : ev d 12 23 lo st h = evI d 12 23 24 lo st h .ireturn := ev_u n12_23 rfl
theorem mi13 : mx_mi 13 = some (yX0_body, cX0_body, 4, (Option.some Jvm.ClassFile.FieldType.int), 0, 3, []) := rfl
theorem ow13 : mx_own 13 = 0 := mx_mi_own mi13
theorem mm13 : mx_max 13 = 4 := mx_mi_max mi13
theorem rt13 : mx_ret 13 = (Option.some Jvm.ClassFile.FieldType.int) := mx_mi_ret mi13
theorem hn13 : mx_hnd 13 = [] := mx_mi_hnd mi13
theorem n13_0 : mx_ins 13 0 = some ((.aload_n 0), 1) := mx_ins_of mi13 dX0_body_0 rfl
theorem u13_0 : ev d 13 0 lo st h = evS (mx_ldA 0) d 13 1 lo st h := ev_s n13_0 rfl rfl
theorem n13_1 : mx_ins 13 1 = some ((.iload_n 1), 1) := mx_ins_of mi13 dX0_body_1 rfl
theorem u13_1 : ev d 13 1 lo st h = evS (mx_ldI 1) d 13 2 lo st h := ev_s n13_1 rfl rfl
theorem n13_2 : mx_ins 13 2 = some ((.iload_n 2), 1) := mx_ins_of mi13 dX0_body_2 rfl
theorem u13_2 : ev d 13 2 lo st h = evS (mx_ldI 2) d 13 3 lo st h := ev_s n13_2 rfl rfl
theorem n13_3 : mx_ins 13 3 = some ((.invokevirtual 247), 3) := mx_ins_of mi13 dX0_body_3 rfl
theorem u13_3 : ev d 13 3 lo st h = evIn d 13 3 6 0 247 3 false lo st h := ev_inv n13_3 rfl rfl ow13 ia0_247
theorem n13_6 : mx_ins 13 6 = some ((.ifCond .ne 5), 3) := mx_ins_of mi13 dX0_body_6 rfl
theorem u13_6 : ev d 13 6 lo st h = evJ .ne d 13 11 9 lo st h := ev_if n13_6 rfl rfl
theorem n13_9 : mx_ins 13 9 = some ((.iconst (-1)), 1) := mx_ins_of mi13 dX0_body_9 rfl
theorem u13_9 : ev d 13 9 lo st h = ev d 13 10 lo (.int (-1) :: st) h := (ev_s (f := mx_push (.int (-1))) n13_9 rfl rfl).trans es_push
theorem n13_10 : mx_ins 13 10 = some (.ireturn, 1) := mx_ins_of mi13 dX0_body_10 rfl
theorem u13_10 : ev d 13 10 lo st h = evI d 13 10 11 lo st h .ireturn := ev_u n13_10 rfl
theorem n13_11 : mx_ins 13 11 = some ((.aload_n 0), 1) := mx_ins_of mi13 dX0_body_11 rfl
theorem u13_11 : ev d 13 11 lo st h = evS (mx_ldA 0) d 13 12 lo st h := ev_s n13_11 rfl rfl
theorem n13_12 : mx_ins 13 12 = some ((.iload_n 1), 1) := mx_ins_of mi13 dX0_body_12 rfl
theorem u13_12 : ev d 13 12 lo st h = evS (mx_ldI 1) d 13 13 lo st h := ev_s n13_12 rfl rfl
theorem n13_13 : mx_ins 13 13 = some ((.invokevirtual 251), 3) := mx_ins_of mi13 dX0_body_13 rfl
theorem u13_13 : ev d 13 13 lo st h = evIn d 13 13 16 0 251 2 false lo st h := ev_inv n13_13 rfl rfl ow13 ia0_251
theorem n13_16 : mx_ins 13 16 = some ((.istore_n 3), 1) := mx_ins_of mi13 dX0_body_16 rfl
theorem u13_16 : ev d 13 16 lo st h = evS (mx_stI 3) d 13 17 lo st h := ev_s n13_16 rfl rfl
theorem n13_17 : mx_ins 13 17 = some ((.iload_n 1), 1) := mx_ins_of mi13 dX0_body_17 rfl
theorem u13_17 : ev d 13 17 lo st h = evS (mx_ldI 1) d 13 18 lo st h := ev_s n13_17 rfl rfl
theorem n13_18 : mx_ins 13 18 = some ((.tableswitch 104 0 4 #[34, 48, 62, 76, 90]), 34) := mx_ins_of mi13 dX0_body_18 rfl
theorem u13_18 : ev d 13 18 lo st h = evTS d 13 [(0, 52), (1, 66), (2, 80), (3, 94), (4, 108)] 122 lo st h := ev_ts n13_18 rfl rfl
theorem n13_52 : mx_ins 13 52 = some ((.aload_n 0), 1) := mx_ins_of mi13 dX0_body_52 rfl
theorem u13_52 : ev d 13 52 lo st h = evS (mx_ldA 0) d 13 53 lo st h := ev_s n13_52 rfl rfl
theorem n13_53 : mx_ins 13 53 = some ((.getfield 22), 3) := mx_ins_of mi13 dX0_body_53 rfl
theorem u13_53 : ev d 13 53 lo st h = evS (mx_gf 0 22) d 13 56 lo st h := ev_s n13_53 rfl rfl
theorem n13_56 : mx_ins 13 56 = some ((.getfield 238), 3) := mx_ins_of mi13 dX0_body_56 rfl
theorem u13_56 : ev d 13 56 lo st h = evS (mx_gf 0 238) d 13 59 lo st h := ev_s n13_56 rfl rfl
theorem n13_59 : mx_ins 13 59 = some ((.iload_n 2), 1) := mx_ins_of mi13 dX0_body_59 rfl
theorem u13_59 : ev d 13 59 lo st h = evS (mx_ldI 2) d 13 60 lo st h := ev_s n13_59 rfl rfl
theorem n13_60 : mx_ins 13 60 = some ((.putfield 241), 3) := mx_ins_of mi13 dX0_body_60 rfl
theorem u13_60 : ev d 13 60 lo st h = evS (mx_pf 0 241 false) d 13 63 lo st h := ev_s n13_60 rfl rfl
theorem n13_63 : mx_ins 13 63 = some ((.goto 70), 3) := mx_ins_of mi13 dX0_body_63 rfl
theorem u13_63 : ev d 13 63 lo st h = ev d 13 133 lo st h := ev_goto n13_63 rfl
theorem n13_66 : mx_ins 13 66 = some ((.aload_n 0), 1) := mx_ins_of mi13 dX0_body_66 rfl
theorem u13_66 : ev d 13 66 lo st h = evS (mx_ldA 0) d 13 67 lo st h := ev_s n13_66 rfl rfl
theorem n13_67 : mx_ins 13 67 = some ((.getfield 22), 3) := mx_ins_of mi13 dX0_body_67 rfl
theorem u13_67 : ev d 13 67 lo st h = evS (mx_gf 0 22) d 13 70 lo st h := ev_s n13_67 rfl rfl
theorem n13_70 : mx_ins 13 70 = some ((.getfield 238), 3) := mx_ins_of mi13 dX0_body_70 rfl
theorem u13_70 : ev d 13 70 lo st h = evS (mx_gf 0 238) d 13 73 lo st h := ev_s n13_70 rfl rfl
theorem n13_73 : mx_ins 13 73 = some ((.iload_n 2), 1) := mx_ins_of mi13 dX0_body_73 rfl
theorem u13_73 : ev d 13 73 lo st h = evS (mx_ldI 2) d 13 74 lo st h := ev_s n13_73 rfl rfl
theorem n13_74 : mx_ins 13 74 = some ((.putfield 166), 3) := mx_ins_of mi13 dX0_body_74 rfl
theorem u13_74 : ev d 13 74 lo st h = evS (mx_pf 0 166 false) d 13 77 lo st h := ev_s n13_74 rfl rfl
theorem n13_77 : mx_ins 13 77 = some ((.goto 56), 3) := mx_ins_of mi13 dX0_body_77 rfl
theorem u13_77 : ev d 13 77 lo st h = ev d 13 133 lo st h := ev_goto n13_77 rfl
theorem n13_80 : mx_ins 13 80 = some ((.aload_n 0), 1) := mx_ins_of mi13 dX0_body_80 rfl
theorem u13_80 : ev d 13 80 lo st h = evS (mx_ldA 0) d 13 81 lo st h := ev_s n13_80 rfl rfl
theorem n13_81 : mx_ins 13 81 = some ((.getfield 22), 3) := mx_ins_of mi13 dX0_body_81 rfl
theorem u13_81 : ev d 13 81 lo st h = evS (mx_gf 0 22) d 13 84 lo st h := ev_s n13_81 rfl rfl
theorem n13_84 : mx_ins 13 84 = some ((.getfield 238), 3) := mx_ins_of mi13 dX0_body_84 rfl
theorem u13_84 : ev d 13 84 lo st h = evS (mx_gf 0 238) d 13 87 lo st h := ev_s n13_84 rfl rfl
theorem n13_87 : mx_ins 13 87 = some ((.iload_n 2), 1) := mx_ins_of mi13 dX0_body_87 rfl
theorem u13_87 : ev d 13 87 lo st h = evS (mx_ldI 2) d 13 88 lo st h := ev_s n13_87 rfl rfl
theorem n13_88 : mx_ins 13 88 = some ((.putfield 176), 3) := mx_ins_of mi13 dX0_body_88 rfl
theorem u13_88 : ev d 13 88 lo st h = evS (mx_pf 0 176 false) d 13 91 lo st h := ev_s n13_88 rfl rfl
theorem n13_91 : mx_ins 13 91 = some ((.goto 42), 3) := mx_ins_of mi13 dX0_body_91 rfl
theorem u13_91 : ev d 13 91 lo st h = ev d 13 133 lo st h := ev_goto n13_91 rfl
theorem n13_94 : mx_ins 13 94 = some ((.aload_n 0), 1) := mx_ins_of mi13 dX0_body_94 rfl
theorem u13_94 : ev d 13 94 lo st h = evS (mx_ldA 0) d 13 95 lo st h := ev_s n13_94 rfl rfl
theorem n13_95 : mx_ins 13 95 = some ((.getfield 22), 3) := mx_ins_of mi13 dX0_body_95 rfl
theorem u13_95 : ev d 13 95 lo st h = evS (mx_gf 0 22) d 13 98 lo st h := ev_s n13_95 rfl rfl
theorem n13_98 : mx_ins 13 98 = some ((.getfield 238), 3) := mx_ins_of mi13 dX0_body_98 rfl
theorem u13_98 : ev d 13 98 lo st h = evS (mx_gf 0 238) d 13 101 lo st h := ev_s n13_98 rfl rfl
theorem n13_101 : mx_ins 13 101 = some ((.iload_n 2), 1) := mx_ins_of mi13 dX0_body_101 rfl
theorem u13_101 : ev d 13 101 lo st h = evS (mx_ldI 2) d 13 102 lo st h := ev_s n13_101 rfl rfl
theorem n13_102 : mx_ins 13 102 = some ((.putfield 244), 3) := mx_ins_of mi13 dX0_body_102 rfl
theorem u13_102 : ev d 13 102 lo st h = evS (mx_pf 0 244 false) d 13 105 lo st h := ev_s n13_102 rfl rfl
theorem n13_105 : mx_ins 13 105 = some ((.goto 28), 3) := mx_ins_of mi13 dX0_body_105 rfl
theorem u13_105 : ev d 13 105 lo st h = ev d 13 133 lo st h := ev_goto n13_105 rfl
theorem n13_108 : mx_ins 13 108 = some ((.aload_n 0), 1) := mx_ins_of mi13 dX0_body_108 rfl
theorem u13_108 : ev d 13 108 lo st h = evS (mx_ldA 0) d 13 109 lo st h := ev_s n13_108 rfl rfl
theorem n13_109 : mx_ins 13 109 = some ((.getfield 22), 3) := mx_ins_of mi13 dX0_body_109 rfl
theorem u13_109 : ev d 13 109 lo st h = evS (mx_gf 0 22) d 13 112 lo st h := ev_s n13_109 rfl rfl
theorem n13_112 : mx_ins 13 112 = some ((.getfield 238), 3) := mx_ins_of mi13 dX0_body_112 rfl
theorem u13_112 : ev d 13 112 lo st h = evS (mx_gf 0 238) d 13 115 lo st h := ev_s n13_112 rfl rfl
theorem n13_115 : mx_ins 13 115 = some ((.iload_n 2), 1) := mx_ins_of mi13 dX0_body_115 rfl
theorem u13_115 : ev d 13 115 lo st h = evS (mx_ldI 2) d 13 116 lo st h := ev_s n13_115 rfl rfl
theorem n13_116 : mx_ins 13 116 = some ((.putfield 189), 3) := mx_ins_of mi13 dX0_body_116 rfl
theorem u13_116 : ev d 13 116 lo st h = evS (mx_pf 0 189 false) d 13 119 lo st h := ev_s n13_116 rfl rfl
theorem n13_119 : mx_ins 13 119 = some ((.goto 14), 3) := mx_ins_of mi13 dX0_body_119 rfl
theorem u13_119 : ev d 13 119 lo st h = ev d 13 133 lo st h := ev_goto n13_119 rfl
theorem n13_122 : mx_ins 13 122 = some ((.aload_n 0), 1) := mx_ins_of mi13 dX0_body_122 rfl
theorem u13_122 : ev d 13 122 lo st h = evS (mx_ldA 0) d 13 123 lo st h := ev_s n13_122 rfl rfl
theorem n13_123 : mx_ins 13 123 = some ((.getfield 22), 3) := mx_ins_of mi13 dX0_body_123 rfl
theorem u13_123 : ev d 13 123 lo st h = evS (mx_gf 0 22) d 13 126 lo st h := ev_s n13_123 rfl rfl
theorem n13_126 : mx_ins 13 126 = some ((.getfield 238), 3) := mx_ins_of mi13 dX0_body_126 rfl
theorem u13_126 : ev d 13 126 lo st h = evS (mx_gf 0 238) d 13 129 lo st h := ev_s n13_126 rfl rfl
theorem n13_129 : mx_ins 13 129 = some ((.iload_n 2), 1) := mx_ins_of mi13 dX0_body_129 rfl
theorem u13_129 : ev d 13 129 lo st h = evS (mx_ldI 2) d 13 130 lo st h := ev_s n13_129 rfl rfl
theorem n13_130 : mx_ins 13 130 = some ((.putfield 159), 3) := mx_ins_of mi13 dX0_body_130 rfl
theorem u13_130 : ev d 13 130 lo st h = evS (mx_pf 0 159 false) d 13 133 lo st h := ev_s n13_130 rfl rfl
theorem n13_133 : mx_ins 13 133 = some ((.iload_n 3), 1) := mx_ins_of mi13 dX0_body_133 rfl
theorem u13_133 : ev d 13 133 lo st h = evS (mx_ldI 3) d 13 134 lo st h := ev_s n13_133 rfl rfl
theorem n13_134 : mx_ins 13 134 = some (.ireturn, 1) := mx_ins_of mi13 dX0_body_134 rfl
theorem u13_134 : ev d 13 134 lo st h = evI d 13 134 135 lo st h .ireturn := ev_u n13_134 rfl
theorem mi14 : mx_mi 14 = some (yX0_isBody, cX0_isBody, 3, (Option.some Jvm.ClassFile.FieldType.boolean), 0, 3, []) := rfl
theorem ow14 : mx_own 14 = 0 := mx_mi_own mi14
theorem mm14 : mx_max 14 = 3 := mx_mi_max mi14
theorem rt14 : mx_ret 14 = (Option.some Jvm.ClassFile.FieldType.boolean) := mx_mi_ret mi14
theorem hn14 : mx_hnd 14 = [] := mx_mi_hnd mi14
theorem n14_0 : mx_ins 14 0 = some ((.iload_n 1), 1) := mx_ins_of mi14 dX0_isBody_0 rfl
theorem u14_0 : ev d 14 0 lo st h = evS (mx_ldI 1) d 14 1 lo st h := ev_s n14_0 rfl rfl
theorem n14_1 : mx_ins 14 1 = some ((.tableswitch 72 0 4 #[35, 45, 45, 54, 64]), 35) := mx_ins_of mi14 dX0_isBody_1 rfl
theorem u14_1 : ev d 14 1 lo st h = evTS d 14 [(0, 36), (1, 46), (2, 46), (3, 55), (4, 65)] 73 lo st h := ev_ts n14_1 rfl rfl
theorem n14_36 : mx_ins 14 36 = some ((.iload_n 2), 1) := mx_ins_of mi14 dX0_isBody_36 rfl
theorem u14_36 : ev d 14 36 lo st h = evS (mx_ldI 2) d 14 37 lo st h := ev_s n14_36 rfl rfl
theorem n14_37 : mx_ins 14 37 = some ((.bipush 50), 2) := mx_ins_of mi14 dX0_isBody_37 rfl
theorem u14_37 : ev d 14 37 lo st h = ev d 14 39 lo (.int 50 :: st) h := (ev_s (f := mx_push (.int 50)) n14_37 rfl rfl).trans es_push
theorem n14_39 : mx_ins 14 39 = some ((.sipush 400), 3) := mx_ins_of mi14 dX0_isBody_39 rfl
theorem u14_39 : ev d 14 39 lo st h = ev d 14 42 lo (.int 400 :: st) h := (ev_s (f := mx_push (.int 400)) n14_39 rfl rfl).trans es_push
theorem n14_42 : mx_ins 14 42 = some ((.invokestatic 143), 3) := mx_ins_of mi14 dX0_isBody_42 rfl
theorem u14_42 : ev d 14 42 lo st h = evIn d 14 42 45 0 143 3 true lo st h := ev_inv n14_42 rfl rfl ow14 ia0_143
theorem n14_45 : mx_ins 14 45 = some (.ireturn, 1) := mx_ins_of mi14 dX0_isBody_45 rfl
theorem u14_45 : ev d 14 45 lo st h = evI d 14 45 46 lo st h .ireturn := ev_u n14_45 rfl
theorem n14_46 : mx_ins 14 46 = some ((.iload_n 2), 1) := mx_ins_of mi14 dX0_isBody_46 rfl
theorem u14_46 : ev d 14 46 lo st h = evS (mx_ldI 2) d 14 47 lo st h := ev_s n14_46 rfl rfl
theorem n14_47 : mx_ins 14 47 = some ((.iconst 0), 1) := mx_ins_of mi14 dX0_isBody_47 rfl
theorem u14_47 : ev d 14 47 lo st h = ev d 14 48 lo (.int 0 :: st) h := (ev_s (f := mx_push (.int 0)) n14_47 rfl rfl).trans es_push
theorem n14_48 : mx_ins 14 48 = some ((.sipush 2000), 3) := mx_ins_of mi14 dX0_isBody_48 rfl
theorem u14_48 : ev d 14 48 lo st h = ev d 14 51 lo (.int 2000 :: st) h := (ev_s (f := mx_push (.int 2000)) n14_48 rfl rfl).trans es_push
theorem n14_51 : mx_ins 14 51 = some ((.invokestatic 143), 3) := mx_ins_of mi14 dX0_isBody_51 rfl
theorem u14_51 : ev d 14 51 lo st h = evIn d 14 51 54 0 143 3 true lo st h := ev_inv n14_51 rfl rfl ow14 ia0_143
theorem n14_54 : mx_ins 14 54 = some (.ireturn, 1) := mx_ins_of mi14 dX0_isBody_54 rfl
theorem u14_54 : ev d 14 54 lo st h = evI d 14 54 55 lo st h .ireturn := ev_u n14_54 rfl
theorem n14_55 : mx_ins 14 55 = some ((.iload_n 2), 1) := mx_ins_of mi14 dX0_isBody_55 rfl
theorem u14_55 : ev d 14 55 lo st h = evS (mx_ldI 2) d 14 56 lo st h := ev_s n14_55 rfl rfl
theorem n14_56 : mx_ins 14 56 = some ((.bipush 100), 2) := mx_ins_of mi14 dX0_isBody_56 rfl
theorem u14_56 : ev d 14 56 lo st h = ev d 14 58 lo (.int 100 :: st) h := (ev_s (f := mx_push (.int 100)) n14_56 rfl rfl).trans es_push
theorem n14_58 : mx_ins 14 58 = some ((.sipush 3000), 3) := mx_ins_of mi14 dX0_isBody_58 rfl
theorem u14_58 : ev d 14 58 lo st h = ev d 14 61 lo (.int 3000 :: st) h := (ev_s (f := mx_push (.int 3000)) n14_58 rfl rfl).trans es_push
theorem n14_61 : mx_ins 14 61 = some ((.invokestatic 143), 3) := mx_ins_of mi14 dX0_isBody_61 rfl
theorem u14_61 : ev d 14 61 lo st h = evIn d 14 61 64 0 143 3 true lo st h := ev_inv n14_61 rfl rfl ow14 ia0_143
theorem n14_64 : mx_ins 14 64 = some (.ireturn, 1) := mx_ins_of mi14 dX0_isBody_64 rfl
theorem u14_64 : ev d 14 64 lo st h = evI d 14 64 65 lo st h .ireturn := ev_u n14_64 rfl
theorem n14_65 : mx_ins 14 65 = some ((.iload_n 2), 1) := mx_ins_of mi14 dX0_isBody_65 rfl
theorem u14_65 : ev d 14 65 lo st h = evS (mx_ldI 2) d 14 66 lo st h := ev_s n14_65 rfl rfl
theorem n14_66 : mx_ins 14 66 = some ((.iconst 0), 1) := mx_ins_of mi14 dX0_isBody_66 rfl
theorem u14_66 : ev d 14 66 lo st h = ev d 14 67 lo (.int 0 :: st) h := (ev_s (f := mx_push (.int 0)) n14_66 rfl rfl).trans es_push
theorem n14_67 : mx_ins 14 67 = some ((.bipush 9), 2) := mx_ins_of mi14 dX0_isBody_67 rfl
theorem u14_67 : ev d 14 67 lo st h = ev d 14 69 lo (.int 9 :: st) h := (ev_s (f := mx_push (.int 9)) n14_67 rfl rfl).trans es_push
theorem n14_69 : mx_ins 14 69 = some ((.invokestatic 143), 3) := mx_ins_of mi14 dX0_isBody_69 rfl
theorem u14_69 : ev d 14 69 lo st h = evIn d 14 69 72 0 143 3 true lo st h := ev_inv n14_69 rfl rfl ow14 ia0_143
theorem n14_72 : mx_ins 14 72 = some (.ireturn, 1) := mx_ins_of mi14 dX0_isBody_72 rfl
theorem u14_72 : ev d 14 72 lo st h = evI d 14 72 73 lo st h .ireturn := ev_u n14_72 rfl
theorem n14_73 : mx_ins 14 73 = some ((.iload_n 1), 1) := mx_ins_of mi14 dX0_isBody_73 rfl
theorem u14_73 : ev d 14 73 lo st h = evS (mx_ldI 1) d 14 74 lo st h := ev_s n14_73 rfl rfl
theorem n14_74 : mx_ins 14 74 = some ((.iconst 5), 1) := mx_ins_of mi14 dX0_isBody_74 rfl
theorem u14_74 : ev d 14 74 lo st h = ev d 14 75 lo (.int 5 :: st) h := (ev_s (f := mx_push (.int 5)) n14_74 rfl rfl).trans es_push
theorem n14_75 : mx_ins 14 75 = some ((.if_icmp .ne 14), 3) := mx_ins_of mi14 dX0_isBody_75 rfl
theorem u14_75 : ev d 14 75 lo st h = evK .ne d 14 89 78 lo st h := ev_ic n14_75 rfl rfl
theorem n14_78 : mx_ins 14 78 = some ((.iload_n 2), 1) := mx_ins_of mi14 dX0_isBody_78 rfl
theorem u14_78 : ev d 14 78 lo st h = evS (mx_ldI 2) d 14 79 lo st h := ev_s n14_78 rfl rfl
theorem n14_79 : mx_ins 14 79 = some ((.invokestatic 223), 3) := mx_ins_of mi14 dX0_isBody_79 rfl
theorem u14_79 : ev d 14 79 lo st h = evIn d 14 79 82 0 223 1 true lo st h := ev_inv n14_79 rfl rfl ow14 ia0_223
theorem n14_82 : mx_ins 14 82 = some ((.ifCond .eq 7), 3) := mx_ins_of mi14 dX0_isBody_82 rfl
theorem u14_82 : ev d 14 82 lo st h = evJ .eq d 14 89 85 lo st h := ev_if n14_82 rfl rfl
theorem n14_85 : mx_ins 14 85 = some ((.iconst 1), 1) := mx_ins_of mi14 dX0_isBody_85 rfl
theorem u14_85 : ev d 14 85 lo st h = ev d 14 86 lo (.int 1 :: st) h := (ev_s (f := mx_push (.int 1)) n14_85 rfl rfl).trans es_push
theorem n14_86 : mx_ins 14 86 = some ((.goto 4), 3) := mx_ins_of mi14 dX0_isBody_86 rfl
theorem u14_86 : ev d 14 86 lo st h = ev d 14 90 lo st h := ev_goto n14_86 rfl
theorem n14_89 : mx_ins 14 89 = some ((.iconst 0), 1) := mx_ins_of mi14 dX0_isBody_89 rfl
theorem u14_89 : ev d 14 89 lo st h = ev d 14 90 lo (.int 0 :: st) h := (ev_s (f := mx_push (.int 0)) n14_89 rfl rfl).trans es_push
theorem n14_90 : mx_ins 14 90 = some (.ireturn, 1) := mx_ins_of mi14 dX0_isBody_90 rfl
theorem u14_90 : ev d 14 90 lo st h = evI d 14 90 91 lo st h .ireturn := ev_u n14_90 rfl
theorem mi15 : mx_mi 15 = some (yX0_part, cX0_part, 3, (Option.some Jvm.ClassFile.FieldType.int), 0, 2, []) := rfl
theorem ow15 : mx_own 15 = 0 := mx_mi_own mi15
theorem mm15 : mx_max 15 = 3 := mx_mi_max mi15
theorem rt15 : mx_ret 15 = (Option.some Jvm.ClassFile.FieldType.int) := mx_mi_ret mi15
theorem hn15 : mx_hnd 15 = [] := mx_mi_hnd mi15
theorem n15_0 : mx_ins 15 0 = some ((.aload_n 0), 1) := mx_ins_of mi15 dX0_part_0 rfl
theorem u15_0 : ev d 15 0 lo st h = evS (mx_ldA 0) d 15 1 lo st h := ev_s n15_0 rfl rfl
theorem n15_1 : mx_ins 15 1 = some ((.getfield 22), 3) := mx_ins_of mi15 dX0_part_1 rfl
theorem u15_1 : ev d 15 1 lo st h = evS (mx_gf 0 22) d 15 4 lo st h := ev_s n15_1 rfl rfl
theorem n15_4 : mx_ins 15 4 = some ((.getfield 238), 3) := mx_ins_of mi15 dX0_part_4 rfl
theorem u15_4 : ev d 15 4 lo st h = evS (mx_gf 0 238) d 15 7 lo st h := ev_s n15_4 rfl rfl
theorem n15_7 : mx_ins 15 7 = some ((.astore_n 2), 1) := mx_ins_of mi15 dX0_part_7 rfl
theorem u15_7 : ev d 15 7 lo st h = evS (mx_stA 2) d 15 8 lo st h := ev_s n15_7 rfl rfl
theorem n15_8 : mx_ins 15 8 = some ((.iload_n 1), 1) := mx_ins_of mi15 dX0_part_8 rfl
theorem u15_8 : ev d 15 8 lo st h = evS (mx_ldI 1) d 15 9 lo st h := ev_s n15_8 rfl rfl
theorem n15_9 : mx_ins 15 9 = some ((.ifCond .ne 10), 3) := mx_ins_of mi15 dX0_part_9 rfl
theorem u15_9 : ev d 15 9 lo st h = evJ .ne d 15 19 12 lo st h := ev_if n15_9 rfl rfl
theorem n15_12 : mx_ins 15 12 = some ((.aload_n 2), 1) := mx_ins_of mi15 dX0_part_12 rfl
theorem u15_12 : ev d 15 12 lo st h = evS (mx_ldA 2) d 15 13 lo st h := ev_s n15_12 rfl rfl
theorem n15_13 : mx_ins 15 13 = some ((.getfield 241), 3) := mx_ins_of mi15 dX0_part_13 rfl
theorem u15_13 : ev d 15 13 lo st h = evS (mx_gf 0 241) d 15 16 lo st h := ev_s n15_13 rfl rfl
theorem n15_16 : mx_ins 15 16 = some ((.goto 55), 3) := mx_ins_of mi15 dX0_part_16 rfl
theorem u15_16 : ev d 15 16 lo st h = ev d 15 71 lo st h := ev_goto n15_16 rfl
theorem n15_19 : mx_ins 15 19 = some ((.iload_n 1), 1) := mx_ins_of mi15 dX0_part_19 rfl
theorem u15_19 : ev d 15 19 lo st h = evS (mx_ldI 1) d 15 20 lo st h := ev_s n15_19 rfl rfl
theorem n15_20 : mx_ins 15 20 = some ((.iconst 1), 1) := mx_ins_of mi15 dX0_part_20 rfl
theorem u15_20 : ev d 15 20 lo st h = ev d 15 21 lo (.int 1 :: st) h := (ev_s (f := mx_push (.int 1)) n15_20 rfl rfl).trans es_push
theorem n15_21 : mx_ins 15 21 = some ((.if_icmp .ne 10), 3) := mx_ins_of mi15 dX0_part_21 rfl
theorem u15_21 : ev d 15 21 lo st h = evK .ne d 15 31 24 lo st h := ev_ic n15_21 rfl rfl
theorem n15_24 : mx_ins 15 24 = some ((.aload_n 2), 1) := mx_ins_of mi15 dX0_part_24 rfl
theorem u15_24 : ev d 15 24 lo st h = evS (mx_ldA 2) d 15 25 lo st h := ev_s n15_24 rfl rfl
theorem n15_25 : mx_ins 15 25 = some ((.getfield 166), 3) := mx_ins_of mi15 dX0_part_25 rfl
theorem u15_25 : ev d 15 25 lo st h = evS (mx_gf 0 166) d 15 28 lo st h := ev_s n15_25 rfl rfl
theorem n15_28 : mx_ins 15 28 = some ((.goto 43), 3) := mx_ins_of mi15 dX0_part_28 rfl
theorem u15_28 : ev d 15 28 lo st h = ev d 15 71 lo st h := ev_goto n15_28 rfl
theorem n15_31 : mx_ins 15 31 = some ((.iload_n 1), 1) := mx_ins_of mi15 dX0_part_31 rfl
theorem u15_31 : ev d 15 31 lo st h = evS (mx_ldI 1) d 15 32 lo st h := ev_s n15_31 rfl rfl
theorem n15_32 : mx_ins 15 32 = some ((.iconst 2), 1) := mx_ins_of mi15 dX0_part_32 rfl
theorem u15_32 : ev d 15 32 lo st h = ev d 15 33 lo (.int 2 :: st) h := (ev_s (f := mx_push (.int 2)) n15_32 rfl rfl).trans es_push
theorem n15_33 : mx_ins 15 33 = some ((.if_icmp .ne 10), 3) := mx_ins_of mi15 dX0_part_33 rfl
theorem u15_33 : ev d 15 33 lo st h = evK .ne d 15 43 36 lo st h := ev_ic n15_33 rfl rfl
theorem n15_36 : mx_ins 15 36 = some ((.aload_n 2), 1) := mx_ins_of mi15 dX0_part_36 rfl
theorem u15_36 : ev d 15 36 lo st h = evS (mx_ldA 2) d 15 37 lo st h := ev_s n15_36 rfl rfl
theorem n15_37 : mx_ins 15 37 = some ((.getfield 176), 3) := mx_ins_of mi15 dX0_part_37 rfl
theorem u15_37 : ev d 15 37 lo st h = evS (mx_gf 0 176) d 15 40 lo st h := ev_s n15_37 rfl rfl
theorem n15_40 : mx_ins 15 40 = some ((.goto 31), 3) := mx_ins_of mi15 dX0_part_40 rfl
theorem u15_40 : ev d 15 40 lo st h = ev d 15 71 lo st h := ev_goto n15_40 rfl
theorem n15_43 : mx_ins 15 43 = some ((.iload_n 1), 1) := mx_ins_of mi15 dX0_part_43 rfl
theorem u15_43 : ev d 15 43 lo st h = evS (mx_ldI 1) d 15 44 lo st h := ev_s n15_43 rfl rfl
theorem n15_44 : mx_ins 15 44 = some ((.iconst 3), 1) := mx_ins_of mi15 dX0_part_44 rfl
theorem u15_44 : ev d 15 44 lo st h = ev d 15 45 lo (.int 3 :: st) h := (ev_s (f := mx_push (.int 3)) n15_44 rfl rfl).trans es_push
theorem n15_45 : mx_ins 15 45 = some ((.if_icmp .ne 10), 3) := mx_ins_of mi15 dX0_part_45 rfl
theorem u15_45 : ev d 15 45 lo st h = evK .ne d 15 55 48 lo st h := ev_ic n15_45 rfl rfl
theorem n15_48 : mx_ins 15 48 = some ((.aload_n 2), 1) := mx_ins_of mi15 dX0_part_48 rfl
theorem u15_48 : ev d 15 48 lo st h = evS (mx_ldA 2) d 15 49 lo st h := ev_s n15_48 rfl rfl
theorem n15_49 : mx_ins 15 49 = some ((.getfield 244), 3) := mx_ins_of mi15 dX0_part_49 rfl
theorem u15_49 : ev d 15 49 lo st h = evS (mx_gf 0 244) d 15 52 lo st h := ev_s n15_49 rfl rfl
theorem n15_52 : mx_ins 15 52 = some ((.goto 19), 3) := mx_ins_of mi15 dX0_part_52 rfl
theorem u15_52 : ev d 15 52 lo st h = ev d 15 71 lo st h := ev_goto n15_52 rfl
theorem n15_55 : mx_ins 15 55 = some ((.iload_n 1), 1) := mx_ins_of mi15 dX0_part_55 rfl
theorem u15_55 : ev d 15 55 lo st h = evS (mx_ldI 1) d 15 56 lo st h := ev_s n15_55 rfl rfl
theorem n15_56 : mx_ins 15 56 = some ((.iconst 4), 1) := mx_ins_of mi15 dX0_part_56 rfl
theorem u15_56 : ev d 15 56 lo st h = ev d 15 57 lo (.int 4 :: st) h := (ev_s (f := mx_push (.int 4)) n15_56 rfl rfl).trans es_push
theorem n15_57 : mx_ins 15 57 = some ((.if_icmp .ne 10), 3) := mx_ins_of mi15 dX0_part_57 rfl
theorem u15_57 : ev d 15 57 lo st h = evK .ne d 15 67 60 lo st h := ev_ic n15_57 rfl rfl
theorem n15_60 : mx_ins 15 60 = some ((.aload_n 2), 1) := mx_ins_of mi15 dX0_part_60 rfl
theorem u15_60 : ev d 15 60 lo st h = evS (mx_ldA 2) d 15 61 lo st h := ev_s n15_60 rfl rfl
theorem n15_61 : mx_ins 15 61 = some ((.getfield 189), 3) := mx_ins_of mi15 dX0_part_61 rfl
theorem u15_61 : ev d 15 61 lo st h = evS (mx_gf 0 189) d 15 64 lo st h := ev_s n15_61 rfl rfl
theorem n15_64 : mx_ins 15 64 = some ((.goto 7), 3) := mx_ins_of mi15 dX0_part_64 rfl
theorem u15_64 : ev d 15 64 lo st h = ev d 15 71 lo st h := ev_goto n15_64 rfl
theorem n15_67 : mx_ins 15 67 = some ((.aload_n 2), 1) := mx_ins_of mi15 dX0_part_67 rfl
theorem u15_67 : ev d 15 67 lo st h = evS (mx_ldA 2) d 15 68 lo st h := ev_s n15_67 rfl rfl
theorem n15_68 : mx_ins 15 68 = some ((.getfield 159), 3) := mx_ins_of mi15 dX0_part_68 rfl
theorem u15_68 : ev d 15 68 lo st h = evS (mx_gf 0 159) d 15 71 lo st h := ev_s n15_68 rfl rfl
theorem n15_71 : mx_ins 15 71 = some (.ireturn, 1) := mx_ins_of mi15 dX0_part_71 rfl
theorem u15_71 : ev d 15 71 lo st h = evI d 15 71 72 lo st h .ireturn := ev_u n15_71 rfl
theorem mi16 : mx_mi 16 = some (yX0_bodyOf, cX0_bodyOf, 2, (Option.some Jvm.ClassFile.FieldType.int), 0, 2, []) := rfl
theorem ow16 : mx_own 16 = 0 := mx_mi_own mi16
theorem mm16 : mx_max 16 = 2 := mx_mi_max mi16
theorem rt16 : mx_ret 16 = (Option.some Jvm.ClassFile.FieldType.int) := mx_mi_ret mi16
theorem hn16 : mx_hnd 16 = [] := mx_mi_hnd mi16
theorem n16_0 : mx_ins 16 0 = some ((.iload_n 1), 1) := mx_ins_of mi16 dX0_bodyOf_0 rfl
theorem u16_0 : ev d 16 0 lo st h = evS (mx_ldI 1) d 16 1 lo st h := ev_s n16_0 rfl rfl
theorem n16_1 : mx_ins 16 1 = some ((.tableswitch 126 0 9 #[55, 55, 55, 55, 55, 55, 61, 72, 83, 102]), 55) := mx_ins_of mi16 dX0_bodyOf_1 rfl
theorem u16_1 : ev d 16 1 lo st h = evTS d 16 [(0, 56), (1, 56), (2, 56), (3, 56), (4, 56), (5, 56), (6, 62), (7, 73), (8, 84), (9, 103)] 127 lo st h := ev_ts n16_1 rfl rfl
theorem n16_56 : mx_ins 16 56 = some ((.aload_n 0), 1) := mx_ins_of mi16 dX0_bodyOf_56 rfl
theorem u16_56 : ev d 16 56 lo st h = evS (mx_ldA 0) d 16 57 lo st h := ev_s n16_56 rfl rfl
theorem n16_57 : mx_ins 16 57 = some ((.iload_n 1), 1) := mx_ins_of mi16 dX0_bodyOf_57 rfl
theorem u16_57 : ev d 16 57 lo st h = evS (mx_ldI 1) d 16 58 lo st h := ev_s n16_57 rfl rfl
theorem n16_58 : mx_ins 16 58 = some ((.invokevirtual 251), 3) := mx_ins_of mi16 dX0_bodyOf_58 rfl
theorem u16_58 : ev d 16 58 lo st h = evIn d 16 58 61 0 251 2 false lo st h := ev_inv n16_58 rfl rfl ow16 ia0_251
theorem n16_61 : mx_ins 16 61 = some (.ireturn, 1) := mx_ins_of mi16 dX0_bodyOf_61 rfl
theorem u16_61 : ev d 16 61 lo st h = evI d 16 61 62 lo st h .ireturn := ev_u n16_61 rfl
theorem n16_62 : mx_ins 16 62 = some ((.aload_n 0), 1) := mx_ins_of mi16 dX0_bodyOf_62 rfl
theorem u16_62 : ev d 16 62 lo st h = evS (mx_ldA 0) d 16 63 lo st h := ev_s n16_62 rfl rfl
theorem n16_63 : mx_ins 16 63 = some ((.getfield 22), 3) := mx_ins_of mi16 dX0_bodyOf_63 rfl
theorem u16_63 : ev d 16 63 lo st h = evS (mx_gf 0 22) d 16 66 lo st h := ev_s n16_63 rfl rfl
theorem n16_66 : mx_ins 16 66 = some ((.getfield 238), 3) := mx_ins_of mi16 dX0_bodyOf_66 rfl
theorem u16_66 : ev d 16 66 lo st h = evS (mx_gf 0 238) d 16 69 lo st h := ev_s n16_66 rfl rfl
theorem n16_69 : mx_ins 16 69 = some ((.invokevirtual 256), 3) := mx_ins_of mi16 dX0_bodyOf_69 rfl
theorem u16_69 : ev d 16 69 lo st h = evIn d 16 69 72 0 256 1 false lo st h := ev_inv n16_69 rfl rfl ow16 ia0_256
theorem n16_72 : mx_ins 16 72 = some (.ireturn, 1) := mx_ins_of mi16 dX0_bodyOf_72 rfl
theorem u16_72 : ev d 16 72 lo st h = evI d 16 72 73 lo st h .ireturn := ev_u n16_72 rfl
theorem n16_73 : mx_ins 16 73 = some ((.aload_n 0), 1) := mx_ins_of mi16 dX0_bodyOf_73 rfl
theorem u16_73 : ev d 16 73 lo st h = evS (mx_ldA 0) d 16 74 lo st h := ev_s n16_73 rfl rfl
theorem n16_74 : mx_ins 16 74 = some ((.getfield 22), 3) := mx_ins_of mi16 dX0_bodyOf_74 rfl
theorem u16_74 : ev d 16 74 lo st h = evS (mx_gf 0 22) d 16 77 lo st h := ev_s n16_74 rfl rfl
theorem n16_77 : mx_ins 16 77 = some ((.getfield 238), 3) := mx_ins_of mi16 dX0_bodyOf_77 rfl
theorem u16_77 : ev d 16 77 lo st h = evS (mx_gf 0 238) d 16 80 lo st h := ev_s n16_77 rfl rfl
theorem n16_80 : mx_ins 16 80 = some ((.getfield 155), 3) := mx_ins_of mi16 dX0_bodyOf_80 rfl
theorem u16_80 : ev d 16 80 lo st h = evS (mx_gf 0 155) d 16 83 lo st h := ev_s n16_80 rfl rfl
theorem n16_83 : mx_ins 16 83 = some (.ireturn, 1) := mx_ins_of mi16 dX0_bodyOf_83 rfl
theorem u16_83 : ev d 16 83 lo st h = evI d 16 83 84 lo st h .ireturn := ev_u n16_83 rfl
theorem n16_84 : mx_ins 16 84 = some ((.aload_n 0), 1) := mx_ins_of mi16 dX0_bodyOf_84 rfl
theorem u16_84 : ev d 16 84 lo st h = evS (mx_ldA 0) d 16 85 lo st h := ev_s n16_84 rfl rfl
theorem n16_85 : mx_ins 16 85 = some ((.getfield 22), 3) := mx_ins_of mi16 dX0_bodyOf_85 rfl
theorem u16_85 : ev d 16 85 lo st h = evS (mx_gf 0 22) d 16 88 lo st h := ev_s n16_85 rfl rfl
theorem n16_88 : mx_ins 16 88 = some ((.getfield 238), 3) := mx_ins_of mi16 dX0_bodyOf_88 rfl
theorem u16_88 : ev d 16 88 lo st h = evS (mx_gf 0 238) d 16 91 lo st h := ev_s n16_88 rfl rfl
theorem n16_91 : mx_ins 16 91 = some ((.invokevirtual 151), 3) := mx_ins_of mi16 dX0_bodyOf_91 rfl
theorem u16_91 : ev d 16 91 lo st h = evIn d 16 91 94 0 151 1 false lo st h := ev_inv n16_91 rfl rfl ow16 ia0_151
theorem n16_94 : mx_ins 16 94 = some ((.ifCond .eq 7), 3) := mx_ins_of mi16 dX0_bodyOf_94 rfl
theorem u16_94 : ev d 16 94 lo st h = evJ .eq d 16 101 97 lo st h := ev_if n16_94 rfl rfl
theorem n16_97 : mx_ins 16 97 = some ((.iconst 1), 1) := mx_ins_of mi16 dX0_bodyOf_97 rfl
theorem u16_97 : ev d 16 97 lo st h = ev d 16 98 lo (.int 1 :: st) h := (ev_s (f := mx_push (.int 1)) n16_97 rfl rfl).trans es_push
theorem n16_98 : mx_ins 16 98 = some ((.goto 4), 3) := mx_ins_of mi16 dX0_bodyOf_98 rfl
theorem u16_98 : ev d 16 98 lo st h = ev d 16 102 lo st h := ev_goto n16_98 rfl
theorem n16_101 : mx_ins 16 101 = some ((.iconst 0), 1) := mx_ins_of mi16 dX0_bodyOf_101 rfl
theorem u16_101 : ev d 16 101 lo st h = ev d 16 102 lo (.int 0 :: st) h := (ev_s (f := mx_push (.int 0)) n16_101 rfl rfl).trans es_push
theorem n16_102 : mx_ins 16 102 = some (.ireturn, 1) := mx_ins_of mi16 dX0_bodyOf_102 rfl
theorem u16_102 : ev d 16 102 lo st h = evI d 16 102 103 lo st h .ireturn := ev_u n16_102 rfl
theorem n16_103 : mx_ins 16 103 = some ((.aload_n 0), 1) := mx_ins_of mi16 dX0_bodyOf_103 rfl
theorem u16_103 : ev d 16 103 lo st h = evS (mx_ldA 0) d 16 104 lo st h := ev_s n16_103 rfl rfl
theorem n16_104 : mx_ins 16 104 = some ((.getfield 22), 3) := mx_ins_of mi16 dX0_bodyOf_104 rfl
theorem u16_104 : ev d 16 104 lo st h = evS (mx_gf 0 22) d 16 107 lo st h := ev_s n16_104 rfl rfl
theorem n16_107 : mx_ins 16 107 = some ((.getfield 238), 3) := mx_ins_of mi16 dX0_bodyOf_107 rfl
theorem u16_107 : ev d 16 107 lo st h = evS (mx_gf 0 238) d 16 110 lo st h := ev_s n16_107 rfl rfl
theorem n16_110 : mx_ins 16 110 = some ((.getfield 241), 3) := mx_ins_of mi16 dX0_bodyOf_110 rfl
theorem u16_110 : ev d 16 110 lo st h = evS (mx_gf 0 241) d 16 113 lo st h := ev_s n16_110 rfl rfl
theorem n16_113 : mx_ins 16 113 = some ((.aload_n 0), 1) := mx_ins_of mi16 dX0_bodyOf_113 rfl
theorem u16_113 : ev d 16 113 lo st h = evS (mx_ldA 0) d 16 114 lo st h := ev_s n16_113 rfl rfl
theorem n16_114 : mx_ins 16 114 = some ((.getfield 22), 3) := mx_ins_of mi16 dX0_bodyOf_114 rfl
theorem u16_114 : ev d 16 114 lo st h = evS (mx_gf 0 22) d 16 117 lo st h := ev_s n16_114 rfl rfl
theorem n16_117 : mx_ins 16 117 = some ((.getfield 238), 3) := mx_ins_of mi16 dX0_bodyOf_117 rfl
theorem u16_117 : ev d 16 117 lo st h = evS (mx_gf 0 238) d 16 120 lo st h := ev_s n16_117 rfl rfl
theorem n16_120 : mx_ins 16 120 = some ((.invokevirtual 256), 3) := mx_ins_of mi16 dX0_bodyOf_120 rfl
theorem u16_120 : ev d 16 120 lo st h = evIn d 16 120 123 0 256 1 false lo st h := ev_inv n16_120 rfl rfl ow16 ia0_256
theorem n16_123 : mx_ins 16 123 = some ((.invokestatic 259), 3) := mx_ins_of mi16 dX0_bodyOf_123 rfl
theorem u16_123 : ev d 16 123 lo st h = evIn d 16 123 126 0 259 2 true lo st h := ev_inv n16_123 rfl rfl ow16 ia0_259
theorem n16_126 : mx_ins 16 126 = some (.ireturn, 1) := mx_ins_of mi16 dX0_bodyOf_126 rfl
theorem u16_126 : ev d 16 126 lo st h = evI d 16 126 127 lo st h .ireturn := ev_u n16_126 rfl
theorem n16_127 : mx_ins 16 127 = some ((.iconst (-1)), 1) := mx_ins_of mi16 dX0_bodyOf_127 rfl
theorem u16_127 : ev d 16 127 lo st h = ev d 16 128 lo (.int (-1) :: st) h := (ev_s (f := mx_push (.int (-1))) n16_127 rfl rfl).trans es_push
theorem n16_128 : mx_ins 16 128 = some (.ireturn, 1) := mx_ins_of mi16 dX0_bodyOf_128 rfl
theorem u16_128 : ev d 16 128 lo st h = evI d 16 128 129 lo st h .ireturn := ev_u n16_128 rfl
theorem mi17 : mx_mi 17 = some (yX0_ratio, cX0_ratio, 4, (Option.some Jvm.ClassFile.FieldType.int), 0, 2, []) := rfl
theorem ow17 : mx_own 17 = 0 := mx_mi_own mi17
theorem mm17 : mx_max 17 = 4 := mx_mi_max mi17
theorem rt17 : mx_ret 17 = (Option.some Jvm.ClassFile.FieldType.int) := mx_mi_ret mi17
theorem hn17 : mx_hnd 17 = [] := mx_mi_hnd mi17
theorem n17_0 : mx_ins 17 0 = some ((.iload_n 1), 1) := mx_ins_of mi17 dX0_ratio_0 rfl
theorem u17_0 : ev d 17 0 lo st h = evS (mx_ldI 1) d 17 1 lo st h := ev_s n17_0 rfl rfl
theorem n17_1 : mx_ins 17 1 = some (.i2l, 1) := mx_ins_of mi17 dX0_ratio_1 rfl
theorem u17_1 : ev d 17 1 lo st h = evI d 17 1 2 lo st h .i2l := ev_u n17_1 rfl
theorem n17_2 : mx_ins 17 2 = some ((.ldc2_w 254), 3) := mx_ins_of mi17 dX0_ratio_2 rfl
theorem u17_2 : ev d 17 2 lo st h = ev d 17 5 lo (.long 1000000 :: st) h := (ev_s (f := mx_push (.long 1000000)) n17_2 rfl rfl).trans es_push
theorem n17_5 : mx_ins 17 5 = some (.lmul, 1) := mx_ins_of mi17 dX0_ratio_5 rfl
theorem u17_5 : ev d 17 5 lo st h = evI d 17 5 6 lo st h .lmul := ev_u n17_5 rfl
theorem n17_6 : mx_ins 17 6 = some ((.iload_n 0), 1) := mx_ins_of mi17 dX0_ratio_6 rfl
theorem u17_6 : ev d 17 6 lo st h = evS (mx_ldI 0) d 17 7 lo st h := ev_s n17_6 rfl rfl
theorem n17_7 : mx_ins 17 7 = some (.i2l, 1) := mx_ins_of mi17 dX0_ratio_7 rfl
theorem u17_7 : ev d 17 7 lo st h = evI d 17 7 8 lo st h .i2l := ev_u n17_7 rfl
theorem n17_8 : mx_ins 17 8 = some (.ldiv, 1) := mx_ins_of mi17 dX0_ratio_8 rfl
theorem u17_8 : ev d 17 8 lo st h = evI d 17 8 9 lo st h .ldiv := ev_u n17_8 rfl
theorem n17_9 : mx_ins 17 9 = some ((.lstore_n 2), 1) := mx_ins_of mi17 dX0_ratio_9 rfl
theorem u17_9 : ev d 17 9 lo st h = evS (mx_stL 2) d 17 10 lo st h := ev_s n17_9 rfl rfl
theorem n17_10 : mx_ins 17 10 = some ((.lload_n 2), 1) := mx_ins_of mi17 dX0_ratio_10 rfl
theorem u17_10 : ev d 17 10 lo st h = evS (mx_ldL 2) d 17 11 lo st h := ev_s n17_10 rfl rfl
theorem n17_11 : mx_ins 17 11 = some ((.iload_n 0), 1) := mx_ins_of mi17 dX0_ratio_11 rfl
theorem u17_11 : ev d 17 11 lo st h = evS (mx_ldI 0) d 17 12 lo st h := ev_s n17_11 rfl rfl
theorem n17_12 : mx_ins 17 12 = some (.i2l, 1) := mx_ins_of mi17 dX0_ratio_12 rfl
theorem u17_12 : ev d 17 12 lo st h = evI d 17 12 13 lo st h .i2l := ev_u n17_12 rfl
theorem n17_13 : mx_ins 17 13 = some (.ldiv, 1) := mx_ins_of mi17 dX0_ratio_13 rfl
theorem u17_13 : ev d 17 13 lo st h = evI d 17 13 14 lo st h .ldiv := ev_u n17_13 rfl
theorem n17_14 : mx_ins 17 14 = some ((.iload_n 0), 1) := mx_ins_of mi17 dX0_ratio_14 rfl
theorem u17_14 : ev d 17 14 lo st h = evS (mx_ldI 0) d 17 15 lo st h := ev_s n17_14 rfl rfl
theorem n17_15 : mx_ins 17 15 = some (.i2l, 1) := mx_ins_of mi17 dX0_ratio_15 rfl
theorem u17_15 : ev d 17 15 lo st h = evI d 17 15 16 lo st h .i2l := ev_u n17_15 rfl
theorem n17_16 : mx_ins 17 16 = some (.ldiv, 1) := mx_ins_of mi17 dX0_ratio_16 rfl
theorem u17_16 : ev d 17 16 lo st h = evI d 17 16 17 lo st h .ldiv := ev_u n17_16 rfl
theorem n17_17 : mx_ins 17 17 = some (.l2i, 1) := mx_ins_of mi17 dX0_ratio_17 rfl
theorem u17_17 : ev d 17 17 lo st h = evI d 17 17 18 lo st h .l2i := ev_u n17_17 rfl
theorem n17_18 : mx_ins 17 18 = some (.ireturn, 1) := mx_ins_of mi17 dX0_ratio_18 rfl
theorem u17_18 : ev d 17 18 lo st h = evI d 17 18 19 lo st h .ireturn := ev_u n17_18 rfl
theorem mi18 : mx_mi 18 = some (yX0_uses, cX0_uses, 3, (Option.some Jvm.ClassFile.FieldType.int), 0, 3, []) := rfl
theorem ow18 : mx_own 18 = 0 := mx_mi_own mi18
theorem mm18 : mx_max 18 = 3 := mx_mi_max mi18
theorem rt18 : mx_ret 18 = (Option.some Jvm.ClassFile.FieldType.int) := mx_mi_ret mi18
theorem hn18 : mx_hnd 18 = [] := mx_mi_hnd mi18
theorem n18_0 : mx_ins 18 0 = some ((.iload_n 1), 1) := mx_ins_of mi18 dX0_uses_0 rfl
theorem u18_0 : ev d 18 0 lo st h = evS (mx_ldI 1) d 18 1 lo st h := ev_s n18_0 rfl rfl
theorem n18_1 : mx_ins 18 1 = some ((.invokestatic 215), 3) := mx_ins_of mi18 dX0_uses_1 rfl
theorem u18_1 : ev d 18 1 lo st h = evIn d 18 1 4 0 215 1 true lo st h := ev_inv n18_1 rfl rfl ow18 ia0_215
theorem n18_4 : mx_ins 18 4 = some ((.ifCond .eq 38), 3) := mx_ins_of mi18 dX0_uses_4 rfl
theorem u18_4 : ev d 18 4 lo st h = evJ .eq d 18 42 7 lo st h := ev_if n18_4 rfl rfl
theorem n18_7 : mx_ins 18 7 = some ((.iload_n 2), 1) := mx_ins_of mi18 dX0_uses_7 rfl
theorem u18_7 : ev d 18 7 lo st h = evS (mx_ldI 2) d 18 8 lo st h := ev_s n18_7 rfl rfl
theorem n18_8 : mx_ins 18 8 = some ((.invokestatic 223), 3) := mx_ins_of mi18 dX0_uses_8 rfl
theorem u18_8 : ev d 18 8 lo st h = evIn d 18 8 11 0 223 1 true lo st h := ev_inv n18_8 rfl rfl ow18 ia0_223
theorem n18_11 : mx_ins 18 11 = some ((.ifCond .eq 31), 3) := mx_ins_of mi18 dX0_uses_11 rfl
theorem u18_11 : ev d 18 11 lo st h = evJ .eq d 18 42 14 lo st h := ev_if n18_11 rfl rfl
theorem n18_14 : mx_ins 18 14 = some ((.aload_n 0), 1) := mx_ins_of mi18 dX0_uses_14 rfl
theorem u18_14 : ev d 18 14 lo st h = evS (mx_ldA 0) d 18 15 lo st h := ev_s n18_14 rfl rfl
theorem n18_15 : mx_ins 18 15 = some ((.iload_n 1), 1) := mx_ins_of mi18 dX0_uses_15 rfl
theorem u18_15 : ev d 18 15 lo st h = evS (mx_ldI 1) d 18 16 lo st h := ev_s n18_15 rfl rfl
theorem n18_16 : mx_ins 18 16 = some ((.iload_n 2), 1) := mx_ins_of mi18 dX0_uses_16 rfl
theorem u18_16 : ev d 18 16 lo st h = evS (mx_ldI 2) d 18 17 lo st h := ev_s n18_16 rfl rfl
theorem n18_17 : mx_ins 18 17 = some ((.invokevirtual 162), 3) := mx_ins_of mi18 dX0_uses_17 rfl
theorem u18_17 : ev d 18 17 lo st h = evIn d 18 17 20 0 162 3 false lo st h := ev_inv n18_17 rfl rfl ow18 ia0_162
theorem n18_20 : mx_ins 18 20 = some ((.aload_n 0), 1) := mx_ins_of mi18 dX0_uses_20 rfl
theorem u18_20 : ev d 18 20 lo st h = evS (mx_ldA 0) d 18 21 lo st h := ev_s n18_20 rfl rfl
theorem n18_21 : mx_ins 18 21 = some ((.getfield 22), 3) := mx_ins_of mi18 dX0_uses_21 rfl
theorem u18_21 : ev d 18 21 lo st h = evS (mx_gf 0 22) d 18 24 lo st h := ev_s n18_21 rfl rfl
theorem n18_24 : mx_ins 18 24 = some ((.getfield 238), 3) := mx_ins_of mi18 dX0_uses_24 rfl
theorem u18_24 : ev d 18 24 lo st h = evS (mx_gf 0 238) d 18 27 lo st h := ev_s n18_24 rfl rfl
theorem n18_27 : mx_ins 18 27 = some ((.aload_n 0), 1) := mx_ins_of mi18 dX0_uses_27 rfl
theorem u18_27 : ev d 18 27 lo st h = evS (mx_ldA 0) d 18 28 lo st h := ev_s n18_27 rfl rfl
theorem n18_28 : mx_ins 18 28 = some ((.getfield 22), 3) := mx_ins_of mi18 dX0_uses_28 rfl
theorem u18_28 : ev d 18 28 lo st h = evS (mx_gf 0 22) d 18 31 lo st h := ev_s n18_28 rfl rfl
theorem n18_31 : mx_ins 18 31 = some ((.iload_n 1), 1) := mx_ins_of mi18 dX0_uses_31 rfl
theorem u18_31 : ev d 18 31 lo st h = evS (mx_ldI 1) d 18 32 lo st h := ev_s n18_31 rfl rfl
theorem n18_32 : mx_ins 18 32 = some ((.iload_n 2), 1) := mx_ins_of mi18 dX0_uses_32 rfl
theorem u18_32 : ev d 18 32 lo st h = evS (mx_ldI 2) d 18 33 lo st h := ev_s n18_32 rfl rfl
theorem n18_33 : mx_ins 18 33 = some ((.invokevirtual 169), 3) := mx_ins_of mi18 dX0_uses_33 rfl
theorem u18_33 : ev d 18 33 lo st h = evIn d 18 33 36 0 169 3 false lo st h := ev_inv n18_33 rfl rfl ow18 ia0_169
theorem n18_36 : mx_ins 18 36 = some ((.invokevirtual 172), 3) := mx_ins_of mi18 dX0_uses_36 rfl
theorem u18_36 : ev d 18 36 lo st h = evIn d 18 36 39 0 172 3 false lo st h := ev_inv n18_36 rfl rfl ow18 ia0_172
theorem n18_39 : mx_ins 18 39 = some ((.goto 4), 3) := mx_ins_of mi18 dX0_uses_39 rfl
theorem u18_39 : ev d 18 39 lo st h = ev d 18 43 lo st h := ev_goto n18_39 rfl
theorem n18_42 : mx_ins 18 42 = some ((.iconst (-1)), 1) := mx_ins_of mi18 dX0_uses_42 rfl
theorem u18_42 : ev d 18 42 lo st h = ev d 18 43 lo (.int (-1) :: st) h := (ev_s (f := mx_push (.int (-1))) n18_42 rfl rfl).trans es_push
theorem n18_43 : mx_ins 18 43 = some (.ireturn, 1) := mx_ins_of mi18 dX0_uses_43 rfl
theorem u18_43 : ev d 18 43 lo st h = evI d 18 43 44 lo st h .ireturn := ev_u n18_43 rfl
theorem mi19 : mx_mi 19 = some (yX0_natureOf, cX0_natureOf, 3, (Option.some (Jvm.ClassFile.FieldType.object "ColdBox$Nature")), 0, 3, []) := rfl
theorem ow19 : mx_own 19 = 0 := mx_mi_own mi19
theorem mm19 : mx_max 19 = 3 := mx_mi_max mi19
theorem rt19 : mx_ret 19 = (Option.some (Jvm.ClassFile.FieldType.object "ColdBox$Nature")) := mx_mi_ret mi19
theorem hn19 : mx_hnd 19 = [] := mx_mi_hnd mi19
theorem rr19 : mx_rr 19 = true := by unfold mx_rr; rw [rt19]
theorem n19_0 : mx_ins 19 0 = some ((.aload_n 0), 1) := mx_ins_of mi19 dX0_natureOf_0 rfl
theorem u19_0 : ev d 19 0 lo st h = evS (mx_ldA 0) d 19 1 lo st h := ev_s n19_0 rfl rfl
theorem n19_1 : mx_ins 19 1 = some ((.getfield 64), 3) := mx_ins_of mi19 dX0_natureOf_1 rfl
theorem u19_1 : ev d 19 1 lo st h = evS (mx_gf 0 64) d 19 4 lo st h := ev_s n19_1 rfl rfl
theorem n19_4 : mx_ins 19 4 = some ((.aload_n 0), 1) := mx_ins_of mi19 dX0_natureOf_4 rfl
theorem u19_4 : ev d 19 4 lo st h = evS (mx_ldA 0) d 19 5 lo st h := ev_s n19_4 rfl rfl
theorem n19_5 : mx_ins 19 5 = some ((.getfield 22), 3) := mx_ins_of mi19 dX0_natureOf_5 rfl
theorem u19_5 : ev d 19 5 lo st h = evS (mx_gf 0 22) d 19 8 lo st h := ev_s n19_5 rfl rfl
theorem n19_8 : mx_ins 19 8 = some ((.iload_n 1), 1) := mx_ins_of mi19 dX0_natureOf_8 rfl
theorem u19_8 : ev d 19 8 lo st h = evS (mx_ldI 1) d 19 9 lo st h := ev_s n19_8 rfl rfl
theorem n19_9 : mx_ins 19 9 = some ((.iload_n 2), 1) := mx_ins_of mi19 dX0_natureOf_9 rfl
theorem u19_9 : ev d 19 9 lo st h = evS (mx_ldI 2) d 19 10 lo st h := ev_s n19_9 rfl rfl
theorem n19_10 : mx_ins 19 10 = some ((.invokevirtual 147), 3) := mx_ins_of mi19 dX0_natureOf_10 rfl
theorem u19_10 : ev d 19 10 lo st h = evIn d 19 10 13 0 147 3 false lo st h := ev_inv n19_10 rfl rfl ow19 ia0_147
theorem n19_13 : mx_ins 19 13 = some (.aaload, 1) := mx_ins_of mi19 dX0_natureOf_13 rfl
theorem u19_13 : ev d 19 13 lo st h = evI d 19 13 14 lo st h .aaload := ev_u n19_13 rfl
theorem n19_14 : mx_ins 19 14 = some (.areturn, 1) := mx_ins_of mi19 dX0_natureOf_14 rfl
theorem u19_14 : ev d 19 14 lo st h = evI d 19 14 15 lo st h .areturn := ev_u n19_14 rfl
theorem mi20 : mx_mi 20 = some (yX0_dries, cX0_dries, 3, (Option.some Jvm.ClassFile.FieldType.int), 0, 3, []) := rfl
theorem ow20 : mx_own 20 = 0 := mx_mi_own mi20
theorem mm20 : mx_max 20 = 3 := mx_mi_max mi20
theorem rt20 : mx_ret 20 = (Option.some Jvm.ClassFile.FieldType.int) := mx_mi_ret mi20
theorem hn20 : mx_hnd 20 = [] := mx_mi_hnd mi20
theorem n20_0 : mx_ins 20 0 = some ((.iload_n 1), 1) := mx_ins_of mi20 dX0_dries_0 rfl
theorem u20_0 : ev d 20 0 lo st h = evS (mx_ldI 1) d 20 1 lo st h := ev_s n20_0 rfl rfl
theorem n20_1 : mx_ins 20 1 = some ((.invokestatic 215), 3) := mx_ins_of mi20 dX0_dries_1 rfl
theorem u20_1 : ev d 20 1 lo st h = evIn d 20 1 4 0 215 1 true lo st h := ev_inv n20_1 rfl rfl ow20 ia0_215
theorem n20_4 : mx_ins 20 4 = some ((.ifCond .eq 31), 3) := mx_ins_of mi20 dX0_dries_4 rfl
theorem u20_4 : ev d 20 4 lo st h = evJ .eq d 20 35 7 lo st h := ev_if n20_4 rfl rfl
theorem n20_7 : mx_ins 20 7 = some ((.iload_n 2), 1) := mx_ins_of mi20 dX0_dries_7 rfl
theorem u20_7 : ev d 20 7 lo st h = evS (mx_ldI 2) d 20 8 lo st h := ev_s n20_7 rfl rfl
theorem n20_8 : mx_ins 20 8 = some ((.invokestatic 223), 3) := mx_ins_of mi20 dX0_dries_8 rfl
theorem u20_8 : ev d 20 8 lo st h = evIn d 20 8 11 0 223 1 true lo st h := ev_inv n20_8 rfl rfl ow20 ia0_223
theorem n20_11 : mx_ins 20 11 = some ((.ifCond .eq 24), 3) := mx_ins_of mi20 dX0_dries_11 rfl
theorem u20_11 : ev d 20 11 lo st h = evJ .eq d 20 35 14 lo st h := ev_if n20_11 rfl rfl
theorem n20_14 : mx_ins 20 14 = some ((.aload_n 0), 1) := mx_ins_of mi20 dX0_dries_14 rfl
theorem u20_14 : ev d 20 14 lo st h = evS (mx_ldA 0) d 20 15 lo st h := ev_s n20_14 rfl rfl
theorem n20_15 : mx_ins 20 15 = some ((.iload_n 1), 1) := mx_ins_of mi20 dX0_dries_15 rfl
theorem u20_15 : ev d 20 15 lo st h = evS (mx_ldI 1) d 20 16 lo st h := ev_s n20_15 rfl rfl
theorem n20_16 : mx_ins 20 16 = some ((.iload_n 2), 1) := mx_ins_of mi20 dX0_dries_16 rfl
theorem u20_16 : ev d 20 16 lo st h = evS (mx_ldI 2) d 20 17 lo st h := ev_s n20_16 rfl rfl
theorem n20_17 : mx_ins 20 17 = some ((.invokevirtual 162), 3) := mx_ins_of mi20 dX0_dries_17 rfl
theorem u20_17 : ev d 20 17 lo st h = evIn d 20 17 20 0 162 3 false lo st h := ev_inv n20_17 rfl rfl ow20 ia0_162
theorem n20_20 : mx_ins 20 20 = some ((.aload_n 0), 1) := mx_ins_of mi20 dX0_dries_20 rfl
theorem u20_20 : ev d 20 20 lo st h = evS (mx_ldA 0) d 20 21 lo st h := ev_s n20_20 rfl rfl
theorem n20_21 : mx_ins 20 21 = some ((.getfield 22), 3) := mx_ins_of mi20 dX0_dries_21 rfl
theorem u20_21 : ev d 20 21 lo st h = evS (mx_gf 0 22) d 20 24 lo st h := ev_s n20_21 rfl rfl
theorem n20_24 : mx_ins 20 24 = some ((.getfield 179), 3) := mx_ins_of mi20 dX0_dries_24 rfl
theorem u20_24 : ev d 20 24 lo st h = evS (mx_gf 0 179) d 20 27 lo st h := ev_s n20_24 rfl rfl
theorem n20_27 : mx_ins 20 27 = some ((.iload_n 1), 1) := mx_ins_of mi20 dX0_dries_27 rfl
theorem u20_27 : ev d 20 27 lo st h = evS (mx_ldI 1) d 20 28 lo st h := ev_s n20_27 rfl rfl
theorem n20_28 : mx_ins 20 28 = some (.iaload, 1) := mx_ins_of mi20 dX0_dries_28 rfl
theorem u20_28 : ev d 20 28 lo st h = evI d 20 28 29 lo st h .iaload := ev_u n20_28 rfl
theorem n20_29 : mx_ins 20 29 = some ((.invokevirtual 182), 3) := mx_ins_of mi20 dX0_dries_29 rfl
theorem u20_29 : ev d 20 29 lo st h = evIn d 20 29 32 0 182 2 false lo st h := ev_inv n20_29 rfl rfl ow20 ia0_182
theorem n20_32 : mx_ins 20 32 = some ((.goto 4), 3) := mx_ins_of mi20 dX0_dries_32 rfl
theorem u20_32 : ev d 20 32 lo st h = ev d 20 36 lo st h := ev_goto n20_32 rfl
theorem n20_35 : mx_ins 20 35 = some ((.iconst (-1)), 1) := mx_ins_of mi20 dX0_dries_35 rfl
theorem u20_35 : ev d 20 35 lo st h = ev d 20 36 lo (.int (-1) :: st) h := (ev_s (f := mx_push (.int (-1))) n20_35 rfl rfl).trans es_push
theorem n20_36 : mx_ins 20 36 = some (.ireturn, 1) := mx_ins_of mi20 dX0_dries_36 rfl
theorem u20_36 : ev d 20 36 lo st h = evI d 20 36 37 lo st h .ireturn := ev_u n20_36 rfl
theorem mi21 : mx_mi 21 = some (yX0_goes, cX0_goes, 3, (Option.some Jvm.ClassFile.FieldType.int), 0, 2, []) := rfl
theorem ow21 : mx_own 21 = 0 := mx_mi_own mi21
theorem mm21 : mx_max 21 = 3 := mx_mi_max mi21
theorem rt21 : mx_ret 21 = (Option.some Jvm.ClassFile.FieldType.int) := mx_mi_ret mi21
theorem hn21 : mx_hnd 21 = [] := mx_mi_hnd mi21
theorem n21_0 : mx_ins 21 0 = some ((.iload_n 1), 1) := mx_ins_of mi21 dX0_goes_0 rfl
theorem u21_0 : ev d 21 0 lo st h = evS (mx_ldI 1) d 21 1 lo st h := ev_s n21_0 rfl rfl
theorem n21_1 : mx_ins 21 1 = some ((.iconst 0), 1) := mx_ins_of mi21 dX0_goes_1 rfl
theorem u21_1 : ev d 21 1 lo st h = ev d 21 2 lo (.int 0 :: st) h := (ev_s (f := mx_push (.int 0)) n21_1 rfl rfl).trans es_push
theorem n21_2 : mx_ins 21 2 = some ((.bipush 24), 2) := mx_ins_of mi21 dX0_goes_2 rfl
theorem u21_2 : ev d 21 2 lo st h = ev d 21 4 lo (.int 24 :: st) h := (ev_s (f := mx_push (.int 24)) n21_2 rfl rfl).trans es_push
theorem n21_4 : mx_ins 21 4 = some ((.invokestatic 143), 3) := mx_ins_of mi21 dX0_goes_4 rfl
theorem u21_4 : ev d 21 4 lo st h = evIn d 21 4 7 0 143 3 true lo st h := ev_inv n21_4 rfl rfl ow21 ia0_143
theorem n21_7 : mx_ins 21 7 = some ((.ifCond .ne 5), 3) := mx_ins_of mi21 dX0_goes_7 rfl
theorem u21_7 : ev d 21 7 lo st h = evJ .ne d 21 12 10 lo st h := ev_if n21_7 rfl rfl
theorem n21_10 : mx_ins 21 10 = some ((.iconst (-1)), 1) := mx_ins_of mi21 dX0_goes_10 rfl
theorem u21_10 : ev d 21 10 lo st h = ev d 21 11 lo (.int (-1) :: st) h := (ev_s (f := mx_push (.int (-1))) n21_10 rfl rfl).trans es_push
theorem n21_11 : mx_ins 21 11 = some (.ireturn, 1) := mx_ins_of mi21 dX0_goes_11 rfl
theorem u21_11 : ev d 21 11 lo st h = evI d 21 11 12 lo st h .ireturn := ev_u n21_11 rfl
theorem n21_12 : mx_ins 21 12 = some ((.iconst 0), 1) := mx_ins_of mi21 dX0_goes_12 rfl
theorem u21_12 : ev d 21 12 lo st h = ev d 21 13 lo (.int 0 :: st) h := (ev_s (f := mx_push (.int 0)) n21_12 rfl rfl).trans es_push
theorem n21_13 : mx_ins 21 13 = some ((.istore_n 2), 1) := mx_ins_of mi21 dX0_goes_13 rfl
theorem u21_13 : ev d 21 13 lo st h = evS (mx_stI 2) d 21 14 lo st h := ev_s n21_13 rfl rfl
theorem n21_14 : mx_ins 21 14 = some ((.iload_n 2), 1) := mx_ins_of mi21 dX0_goes_14 rfl
theorem u21_14 : ev d 21 14 lo st h = evS (mx_ldI 2) d 21 15 lo st h := ev_s n21_14 rfl rfl
theorem n21_15 : mx_ins 21 15 = some ((.iload_n 1), 1) := mx_ins_of mi21 dX0_goes_15 rfl
theorem u21_15 : ev d 21 15 lo st h = evS (mx_ldI 1) d 21 16 lo st h := ev_s n21_15 rfl rfl
theorem n21_16 : mx_ins 21 16 = some ((.if_icmp .ge 35), 3) := mx_ins_of mi21 dX0_goes_16 rfl
theorem u21_16 : ev d 21 16 lo st h = evK .ge d 21 51 19 lo st h := ev_ic n21_16 rfl rfl
theorem n21_19 : mx_ins 21 19 = some ((.aload_n 0), 1) := mx_ins_of mi21 dX0_goes_19 rfl
theorem u21_19 : ev d 21 19 lo st h = evS (mx_ldA 0) d 21 20 lo st h := ev_s n21_19 rfl rfl
theorem n21_20 : mx_ins 21 20 = some ((.getfield 22), 3) := mx_ins_of mi21 dX0_goes_20 rfl
theorem u21_20 : ev d 21 20 lo st h = evS (mx_gf 0 22) d 21 23 lo st h := ev_s n21_20 rfl rfl
theorem n21_23 : mx_ins 21 23 = some ((.getfield 238), 3) := mx_ins_of mi21 dX0_goes_23 rfl
theorem u21_23 : ev d 21 23 lo st h = evS (mx_gf 0 238) d 21 26 lo st h := ev_s n21_23 rfl rfl
theorem n21_26 : mx_ins 21 26 = some ((.getfield 155), 3) := mx_ins_of mi21 dX0_goes_26 rfl
theorem u21_26 : ev d 21 26 lo st h = evS (mx_gf 0 155) d 21 29 lo st h := ev_s n21_26 rfl rfl
theorem n21_29 : mx_ins 21 29 = some ((.bipush 24), 2) := mx_ins_of mi21 dX0_goes_29 rfl
theorem u21_29 : ev d 21 29 lo st h = ev d 21 31 lo (.int 24 :: st) h := (ev_s (f := mx_push (.int 24)) n21_29 rfl rfl).trans es_push
theorem n21_31 : mx_ins 21 31 = some ((.if_icmp .ge 20), 3) := mx_ins_of mi21 dX0_goes_31 rfl
theorem u21_31 : ev d 21 31 lo st h = evK .ge d 21 51 34 lo st h := ev_ic n21_31 rfl rfl
theorem n21_34 : mx_ins 21 34 = some ((.aload_n 0), 1) := mx_ins_of mi21 dX0_goes_34 rfl
theorem u21_34 : ev d 21 34 lo st h = evS (mx_ldA 0) d 21 35 lo st h := ev_s n21_34 rfl rfl
theorem n21_35 : mx_ins 21 35 = some ((.aload_n 0), 1) := mx_ins_of mi21 dX0_goes_35 rfl
theorem u21_35 : ev d 21 35 lo st h = evS (mx_ldA 0) d 21 36 lo st h := ev_s n21_35 rfl rfl
theorem n21_36 : mx_ins 21 36 = some ((.getfield 22), 3) := mx_ins_of mi21 dX0_goes_36 rfl
theorem u21_36 : ev d 21 36 lo st h = evS (mx_gf 0 22) d 21 39 lo st h := ev_s n21_36 rfl rfl
theorem n21_39 : mx_ins 21 39 = some ((.getfield 238), 3) := mx_ins_of mi21 dX0_goes_39 rfl
theorem u21_39 : ev d 21 39 lo st h = evS (mx_gf 0 238) d 21 42 lo st h := ev_s n21_39 rfl rfl
theorem n21_42 : mx_ins 21 42 = some ((.invokevirtual 262), 3) := mx_ins_of mi21 dX0_goes_42 rfl
theorem u21_42 : ev d 21 42 lo st h = evIn d 21 42 45 0 262 2 false lo st h := ev_inv n21_42 rfl rfl ow21 ia0_262
theorem n21_45 : mx_ins 21 45 = some ((.iinc 2 1), 3) := mx_ins_of mi21 dX0_goes_45 rfl
theorem u21_45 : ev d 21 45 lo st h = evS (mx_inc 2 (1)) d 21 48 lo st h := ev_s n21_45 rfl rfl
theorem n21_48 : mx_ins 21 48 = some ((.goto (-34)), 3) := mx_ins_of mi21 dX0_goes_48 rfl
theorem u21_48 : ev d 21 48 lo st h = ev d 21 14 lo st h := ev_goto n21_48 rfl
theorem n21_51 : mx_ins 21 51 = some ((.aload_n 0), 1) := mx_ins_of mi21 dX0_goes_51 rfl
theorem u21_51 : ev d 21 51 lo st h = evS (mx_ldA 0) d 21 52 lo st h := ev_s n21_51 rfl rfl
theorem n21_52 : mx_ins 21 52 = some ((.getfield 22), 3) := mx_ins_of mi21 dX0_goes_52 rfl
theorem u21_52 : ev d 21 52 lo st h = evS (mx_gf 0 22) d 21 55 lo st h := ev_s n21_52 rfl rfl
theorem n21_55 : mx_ins 21 55 = some ((.getfield 238), 3) := mx_ins_of mi21 dX0_goes_55 rfl
theorem u21_55 : ev d 21 55 lo st h = evS (mx_gf 0 238) d 21 58 lo st h := ev_s n21_55 rfl rfl
theorem n21_58 : mx_ins 21 58 = some ((.getfield 155), 3) := mx_ins_of mi21 dX0_goes_58 rfl
theorem u21_58 : ev d 21 58 lo st h = evS (mx_gf 0 155) d 21 61 lo st h := ev_s n21_58 rfl rfl
theorem n21_61 : mx_ins 21 61 = some (.ireturn, 1) := mx_ins_of mi21 dX0_goes_61 rfl
theorem u21_61 : ev d 21 61 lo st h = evI d 21 61 62 lo st h .ireturn := ev_u n21_61 rfl
theorem mi22 : mx_mi 22 = some (yX0_passes, cX0_passes, 4, (none : Option FieldType), 0, 2, []) := rfl
theorem ow22 : mx_own 22 = 0 := mx_mi_own mi22
theorem mm22 : mx_max 22 = 4 := mx_mi_max mi22
theorem rt22 : mx_ret 22 = (none : Option FieldType) := mx_mi_ret mi22
theorem hn22 : mx_hnd 22 = [] := mx_mi_hnd mi22
theorem n22_0 : mx_ins 22 0 = some ((.aload_n 1), 1) := mx_ins_of mi22 dX0_passes_0 rfl
theorem u22_0 : ev d 22 0 lo st h = evS (mx_ldA 1) d 22 1 lo st h := ev_s n22_0 rfl rfl
theorem n22_1 : mx_ins 22 1 = some ((.invokevirtual 151), 3) := mx_ins_of mi22 dX0_passes_1 rfl
theorem u22_1 : ev d 22 1 lo st h = evIn d 22 1 4 0 151 1 false lo st h := ev_inv n22_1 rfl rfl ow22 ia0_151
theorem n22_4 : mx_ins 22 4 = some ((.ifCond .eq 98), 3) := mx_ins_of mi22 dX0_passes_4 rfl
theorem u22_4 : ev d 22 4 lo st h = evJ .eq d 22 102 7 lo st h := ev_if n22_4 rfl rfl
theorem n22_7 : mx_ins 22 7 = some ((.aload_n 0), 1) := mx_ins_of mi22 dX0_passes_7 rfl
theorem u22_7 : ev d 22 7 lo st h = evS (mx_ldA 0) d 22 8 lo st h := ev_s n22_7 rfl rfl
theorem n22_8 : mx_ins 22 8 = some ((.aload_n 1), 1) := mx_ins_of mi22 dX0_passes_8 rfl
theorem u22_8 : ev d 22 8 lo st h = evS (mx_ldA 1) d 22 9 lo st h := ev_s n22_8 rfl rfl
theorem n22_9 : mx_ins 22 9 = some ((.getfield 155), 3) := mx_ins_of mi22 dX0_passes_9 rfl
theorem u22_9 : ev d 22 9 lo st h = evS (mx_gf 0 155) d 22 12 lo st h := ev_s n22_9 rfl rfl
theorem n22_12 : mx_ins 22 12 = some ((.aload_n 1), 1) := mx_ins_of mi22 dX0_passes_12 rfl
theorem u22_12 : ev d 22 12 lo st h = evS (mx_ldA 1) d 22 13 lo st h := ev_s n22_12 rfl rfl
theorem n22_13 : mx_ins 22 13 = some ((.getfield 159), 3) := mx_ins_of mi22 dX0_passes_13 rfl
theorem u22_13 : ev d 22 13 lo st h = evS (mx_gf 0 159) d 22 16 lo st h := ev_s n22_13 rfl rfl
theorem n22_16 : mx_ins 22 16 = some ((.invokevirtual 162), 3) := mx_ins_of mi22 dX0_passes_16 rfl
theorem u22_16 : ev d 22 16 lo st h = evIn d 22 16 19 0 162 3 false lo st h := ev_inv n22_16 rfl rfl ow22 ia0_162
theorem n22_19 : mx_ins 22 19 = some ((.astore_n 2), 1) := mx_ins_of mi22 dX0_passes_19 rfl
theorem u22_19 : ev d 22 19 lo st h = evS (mx_stA 2) d 22 20 lo st h := ev_s n22_19 rfl rfl
theorem n22_20 : mx_ins 22 20 = some ((.aload_n 1), 1) := mx_ins_of mi22 dX0_passes_20 rfl
theorem u22_20 : ev d 22 20 lo st h = evS (mx_ldA 1) d 22 21 lo st h := ev_s n22_20 rfl rfl
theorem n22_21 : mx_ins 22 21 = some ((.getfield 166), 3) := mx_ins_of mi22 dX0_passes_21 rfl
theorem u22_21 : ev d 22 21 lo st h = evS (mx_gf 0 166) d 22 24 lo st h := ev_s n22_21 rfl rfl
theorem n22_24 : mx_ins 22 24 = some ((.aload_n 2), 1) := mx_ins_of mi22 dX0_passes_24 rfl
theorem u22_24 : ev d 22 24 lo st h = evS (mx_ldA 2) d 22 25 lo st h := ev_s n22_24 rfl rfl
theorem n22_25 : mx_ins 22 25 = some ((.aload_n 1), 1) := mx_ins_of mi22 dX0_passes_25 rfl
theorem u22_25 : ev d 22 25 lo st h = evS (mx_ldA 1) d 22 26 lo st h := ev_s n22_25 rfl rfl
theorem n22_26 : mx_ins 22 26 = some ((.aload_n 0), 1) := mx_ins_of mi22 dX0_passes_26 rfl
theorem u22_26 : ev d 22 26 lo st h = evS (mx_ldA 0) d 22 27 lo st h := ev_s n22_26 rfl rfl
theorem n22_27 : mx_ins 22 27 = some ((.getfield 22), 3) := mx_ins_of mi22 dX0_passes_27 rfl
theorem u22_27 : ev d 22 27 lo st h = evS (mx_gf 0 22) d 22 30 lo st h := ev_s n22_27 rfl rfl
theorem n22_30 : mx_ins 22 30 = some ((.aload_n 1), 1) := mx_ins_of mi22 dX0_passes_30 rfl
theorem u22_30 : ev d 22 30 lo st h = evS (mx_ldA 1) d 22 31 lo st h := ev_s n22_30 rfl rfl
theorem n22_31 : mx_ins 22 31 = some ((.getfield 155), 3) := mx_ins_of mi22 dX0_passes_31 rfl
theorem u22_31 : ev d 22 31 lo st h = evS (mx_gf 0 155) d 22 34 lo st h := ev_s n22_31 rfl rfl
theorem n22_34 : mx_ins 22 34 = some ((.aload_n 1), 1) := mx_ins_of mi22 dX0_passes_34 rfl
theorem u22_34 : ev d 22 34 lo st h = evS (mx_ldA 1) d 22 35 lo st h := ev_s n22_34 rfl rfl
theorem n22_35 : mx_ins 22 35 = some ((.getfield 159), 3) := mx_ins_of mi22 dX0_passes_35 rfl
theorem u22_35 : ev d 22 35 lo st h = evS (mx_gf 0 159) d 22 38 lo st h := ev_s n22_35 rfl rfl
theorem n22_38 : mx_ins 22 38 = some ((.invokevirtual 169), 3) := mx_ins_of mi22 dX0_passes_38 rfl
theorem u22_38 : ev d 22 38 lo st h = evIn d 22 38 41 0 169 3 false lo st h := ev_inv n22_38 rfl rfl ow22 ia0_169
theorem n22_41 : mx_ins 22 41 = some ((.invokevirtual 172), 3) := mx_ins_of mi22 dX0_passes_41 rfl
theorem u22_41 : ev d 22 41 lo st h = evIn d 22 41 44 0 172 3 false lo st h := ev_inv n22_41 rfl rfl ow22 ia0_172
theorem n22_44 : mx_ins 22 44 = some (.isub, 1) := mx_ins_of mi22 dX0_passes_44 rfl
theorem u22_44 : ev d 22 44 lo st h = evI d 22 44 45 lo st h .isub := ev_u n22_44 rfl
theorem n22_45 : mx_ins 22 45 = some ((.istore_n 3), 1) := mx_ins_of mi22 dX0_passes_45 rfl
theorem u22_45 : ev d 22 45 lo st h = evS (mx_stI 3) d 22 46 lo st h := ev_s n22_45 rfl rfl
theorem n22_46 : mx_ins 22 46 = some ((.aload_n 1), 1) := mx_ins_of mi22 dX0_passes_46 rfl
theorem u22_46 : ev d 22 46 lo st h = evS (mx_ldA 1) d 22 47 lo st h := ev_s n22_46 rfl rfl
theorem n22_47 : mx_ins 22 47 = some ((.iconst 0), 1) := mx_ins_of mi22 dX0_passes_47 rfl
theorem u22_47 : ev d 22 47 lo st h = ev d 22 48 lo (.int 0 :: st) h := (ev_s (f := mx_push (.int 0)) n22_47 rfl rfl).trans es_push
theorem n22_48 : mx_ins 22 48 = some ((.aload_n 1), 1) := mx_ins_of mi22 dX0_passes_48 rfl
theorem u22_48 : ev d 22 48 lo st h = evS (mx_ldA 1) d 22 49 lo st h := ev_s n22_48 rfl rfl
theorem n22_49 : mx_ins 22 49 = some ((.getfield 176), 3) := mx_ins_of mi22 dX0_passes_49 rfl
theorem u22_49 : ev d 22 49 lo st h = evS (mx_gf 0 176) d 22 52 lo st h := ev_s n22_49 rfl rfl
theorem n22_52 : mx_ins 22 52 = some ((.aload_n 2), 1) := mx_ins_of mi22 dX0_passes_52 rfl
theorem u22_52 : ev d 22 52 lo st h = evS (mx_ldA 2) d 22 53 lo st h := ev_s n22_52 rfl rfl
theorem n22_53 : mx_ins 22 53 = some ((.aload_n 0), 1) := mx_ins_of mi22 dX0_passes_53 rfl
theorem u22_53 : ev d 22 53 lo st h = evS (mx_ldA 0) d 22 54 lo st h := ev_s n22_53 rfl rfl
theorem n22_54 : mx_ins 22 54 = some ((.getfield 22), 3) := mx_ins_of mi22 dX0_passes_54 rfl
theorem u22_54 : ev d 22 54 lo st h = evS (mx_gf 0 22) d 22 57 lo st h := ev_s n22_54 rfl rfl
theorem n22_57 : mx_ins 22 57 = some ((.getfield 179), 3) := mx_ins_of mi22 dX0_passes_57 rfl
theorem u22_57 : ev d 22 57 lo st h = evS (mx_gf 0 179) d 22 60 lo st h := ev_s n22_57 rfl rfl
theorem n22_60 : mx_ins 22 60 = some ((.aload_n 1), 1) := mx_ins_of mi22 dX0_passes_60 rfl
theorem u22_60 : ev d 22 60 lo st h = evS (mx_ldA 1) d 22 61 lo st h := ev_s n22_60 rfl rfl
theorem n22_61 : mx_ins 22 61 = some ((.getfield 155), 3) := mx_ins_of mi22 dX0_passes_61 rfl
theorem u22_61 : ev d 22 61 lo st h = evS (mx_gf 0 155) d 22 64 lo st h := ev_s n22_61 rfl rfl
theorem n22_64 : mx_ins 22 64 = some (.iaload, 1) := mx_ins_of mi22 dX0_passes_64 rfl
theorem u22_64 : ev d 22 64 lo st h = evI d 22 64 65 lo st h .iaload := ev_u n22_64 rfl
theorem n22_65 : mx_ins 22 65 = some ((.invokevirtual 182), 3) := mx_ins_of mi22 dX0_passes_65 rfl
theorem u22_65 : ev d 22 65 lo st h = evIn d 22 65 68 0 182 2 false lo st h := ev_inv n22_65 rfl rfl ow22 ia0_182
theorem n22_68 : mx_ins 22 68 = some (.isub, 1) := mx_ins_of mi22 dX0_passes_68 rfl
theorem u22_68 : ev d 22 68 lo st h = evI d 22 68 69 lo st h .isub := ev_u n22_68 rfl
theorem n22_69 : mx_ins 22 69 = some ((.invokestatic 186), 3) := mx_ins_of mi22 dX0_passes_69 rfl
theorem u22_69 : ev d 22 69 lo st h = evIn d 22 69 72 0 186 2 true lo st h := ev_inv n22_69 rfl rfl ow22 ia0_186
theorem n22_72 : mx_ins 22 72 = some ((.putfield 176), 3) := mx_ins_of mi22 dX0_passes_72 rfl
theorem u22_72 : ev d 22 72 lo st h = evS (mx_pf 0 176 false) d 22 75 lo st h := ev_s n22_72 rfl rfl
theorem n22_75 : mx_ins 22 75 = some ((.aload_n 1), 1) := mx_ins_of mi22 dX0_passes_75 rfl
theorem u22_75 : ev d 22 75 lo st h = evS (mx_ldA 1) d 22 76 lo st h := ev_s n22_75 rfl rfl
theorem n22_76 : mx_ins 22 76 = some ((.iconst 0), 1) := mx_ins_of mi22 dX0_passes_76 rfl
theorem u22_76 : ev d 22 76 lo st h = ev d 22 77 lo (.int 0 :: st) h := (ev_s (f := mx_push (.int 0)) n22_76 rfl rfl).trans es_push
theorem n22_77 : mx_ins 22 77 = some ((.iload_n 3), 1) := mx_ins_of mi22 dX0_passes_77 rfl
theorem u22_77 : ev d 22 77 lo st h = evS (mx_ldI 3) d 22 78 lo st h := ev_s n22_77 rfl rfl
theorem n22_78 : mx_ins 22 78 = some ((.invokestatic 186), 3) := mx_ins_of mi22 dX0_passes_78 rfl
theorem u22_78 : ev d 22 78 lo st h = evIn d 22 78 81 0 186 2 true lo st h := ev_inv n22_78 rfl rfl ow22 ia0_186
theorem n22_81 : mx_ins 22 81 = some ((.putfield 166), 3) := mx_ins_of mi22 dX0_passes_81 rfl
theorem u22_81 : ev d 22 81 lo st h = evS (mx_pf 0 166 false) d 22 84 lo st h := ev_s n22_81 rfl rfl
theorem n22_84 : mx_ins 22 84 = some ((.aload_n 1), 1) := mx_ins_of mi22 dX0_passes_84 rfl
theorem u22_84 : ev d 22 84 lo st h = evS (mx_ldA 1) d 22 85 lo st h := ev_s n22_84 rfl rfl
theorem n22_85 : mx_ins 22 85 = some ((.bipush 9), 2) := mx_ins_of mi22 dX0_passes_85 rfl
theorem u22_85 : ev d 22 85 lo st h = ev d 22 87 lo (.int 9 :: st) h := (ev_s (f := mx_push (.int 9)) n22_85 rfl rfl).trans es_push
theorem n22_87 : mx_ins 22 87 = some ((.aload_n 1), 1) := mx_ins_of mi22 dX0_passes_87 rfl
theorem u22_87 : ev d 22 87 lo st h = evS (mx_ldA 1) d 22 88 lo st h := ev_s n22_87 rfl rfl
theorem n22_88 : mx_ins 22 88 = some ((.getfield 189), 3) := mx_ins_of mi22 dX0_passes_88 rfl
theorem u22_88 : ev d 22 88 lo st h = evS (mx_gf 0 189) d 22 91 lo st h := ev_s n22_88 rfl rfl
theorem n22_91 : mx_ins 22 91 = some ((.aload_n 2), 1) := mx_ins_of mi22 dX0_passes_91 rfl
theorem u22_91 : ev d 22 91 lo st h = evS (mx_ldA 2) d 22 92 lo st h := ev_s n22_91 rfl rfl
theorem n22_92 : mx_ins 22 92 = some ((.invokevirtual 192), 3) := mx_ins_of mi22 dX0_passes_92 rfl
theorem u22_92 : ev d 22 92 lo st h = evIn d 22 92 95 0 192 1 false lo st h := ev_inv n22_92 rfl rfl ow22 ia0_192
theorem n22_95 : mx_ins 22 95 = some (.iadd, 1) := mx_ins_of mi22 dX0_passes_95 rfl
theorem u22_95 : ev d 22 95 lo st h = evI d 22 95 96 lo st h .iadd := ev_u n22_95 rfl
theorem n22_96 : mx_ins 22 96 = some ((.invokestatic 196), 3) := mx_ins_of mi22 dX0_passes_96 rfl
theorem u22_96 : ev d 22 96 lo st h = evIn d 22 96 99 0 196 2 true lo st h := ev_inv n22_96 rfl rfl ow22 ia0_196
theorem n22_99 : mx_ins 22 99 = some ((.putfield 189), 3) := mx_ins_of mi22 dX0_passes_99 rfl
theorem u22_99 : ev d 22 99 lo st h = evS (mx_pf 0 189 false) d 22 102 lo st h := ev_s n22_99 rfl rfl
theorem n22_102 : mx_ins 22 102 = some ((.aload_n 1), 1) := mx_ins_of mi22 dX0_passes_102 rfl
theorem u22_102 : ev d 22 102 lo st h = evS (mx_ldA 1) d 22 103 lo st h := ev_s n22_102 rfl rfl
theorem n22_103 : mx_ins 22 103 = some (.dup, 1) := mx_ins_of mi22 dX0_passes_103 rfl
theorem u22_103 : ev d 22 103 lo st h = evI d 22 103 104 lo st h .dup := ev_u n22_103 rfl
theorem n22_104 : mx_ins 22 104 = some ((.getfield 155), 3) := mx_ins_of mi22 dX0_passes_104 rfl
theorem u22_104 : ev d 22 104 lo st h = evS (mx_gf 0 155) d 22 107 lo st h := ev_s n22_104 rfl rfl
theorem n22_107 : mx_ins 22 107 = some ((.iconst 1), 1) := mx_ins_of mi22 dX0_passes_107 rfl
theorem u22_107 : ev d 22 107 lo st h = ev d 22 108 lo (.int 1 :: st) h := (ev_s (f := mx_push (.int 1)) n22_107 rfl rfl).trans es_push
theorem n22_108 : mx_ins 22 108 = some (.iadd, 1) := mx_ins_of mi22 dX0_passes_108 rfl
theorem u22_108 : ev d 22 108 lo st h = evI d 22 108 109 lo st h .iadd := ev_u n22_108 rfl
theorem n22_109 : mx_ins 22 109 = some ((.putfield 155), 3) := mx_ins_of mi22 dX0_passes_109 rfl
theorem u22_109 : ev d 22 109 lo st h = evS (mx_pf 0 155 false) d 22 112 lo st h := ev_s n22_109 rfl rfl
theorem n22_112 : mx_ins 22 112 = some (.return_, 1) := mx_ins_of mi22 dX0_passes_112 rfl
theorem u22_112 : ev d 22 112 lo st h = evI d 22 112 113 lo st h .return_ := ev_u n22_112 rfl
theorem mi23 : mx_mi 23 = some (yX0_begin, cX0_begin, 3, (Option.some Jvm.ClassFile.FieldType.int), 0, 2, []) := rfl
theorem ow23 : mx_own 23 = 0 := mx_mi_own mi23
theorem mm23 : mx_max 23 = 3 := mx_mi_max mi23
theorem rt23 : mx_ret 23 = (Option.some Jvm.ClassFile.FieldType.int) := mx_mi_ret mi23
theorem hn23 : mx_hnd 23 = [] := mx_mi_hnd mi23
theorem n23_0 : mx_ins 23 0 = some ((.iload_n 1), 1) := mx_ins_of mi23 dX0_begin_0 rfl
theorem u23_0 : ev d 23 0 lo st h = evS (mx_ldI 1) d 23 1 lo st h := ev_s n23_0 rfl rfl
theorem n23_1 : mx_ins 23 1 = some ((.iconst 0), 1) := mx_ins_of mi23 dX0_begin_1 rfl
theorem u23_1 : ev d 23 1 lo st h = ev d 23 2 lo (.int 0 :: st) h := (ev_s (f := mx_push (.int 0)) n23_1 rfl rfl).trans es_push
theorem n23_2 : mx_ins 23 2 = some ((.bipush 24), 2) := mx_ins_of mi23 dX0_begin_2 rfl
theorem u23_2 : ev d 23 2 lo st h = ev d 23 4 lo (.int 24 :: st) h := (ev_s (f := mx_push (.int 24)) n23_2 rfl rfl).trans es_push
theorem n23_4 : mx_ins 23 4 = some ((.invokestatic 143), 3) := mx_ins_of mi23 dX0_begin_4 rfl
theorem u23_4 : ev d 23 4 lo st h = evIn d 23 4 7 0 143 3 true lo st h := ev_inv n23_4 rfl rfl ow23 ia0_143
theorem n23_7 : mx_ins 23 7 = some ((.ifCond .ne 5), 3) := mx_ins_of mi23 dX0_begin_7 rfl
theorem u23_7 : ev d 23 7 lo st h = evJ .ne d 23 12 10 lo st h := ev_if n23_7 rfl rfl
theorem n23_10 : mx_ins 23 10 = some ((.iconst (-1)), 1) := mx_ins_of mi23 dX0_begin_10 rfl
theorem u23_10 : ev d 23 10 lo st h = ev d 23 11 lo (.int (-1) :: st) h := (ev_s (f := mx_push (.int (-1))) n23_10 rfl rfl).trans es_push
theorem n23_11 : mx_ins 23 11 = some (.ireturn, 1) := mx_ins_of mi23 dX0_begin_11 rfl
theorem u23_11 : ev d 23 11 lo st h = evI d 23 11 12 lo st h .ireturn := ev_u n23_11 rfl
theorem n23_12 : mx_ins 23 12 = some ((.aload_n 0), 1) := mx_ins_of mi23 dX0_begin_12 rfl
theorem u23_12 : ev d 23 12 lo st h = evS (mx_ldA 0) d 23 13 lo st h := ev_s n23_12 rfl rfl
theorem n23_13 : mx_ins 23 13 = some ((.getfield 22), 3) := mx_ins_of mi23 dX0_begin_13 rfl
theorem u23_13 : ev d 23 13 lo st h = evS (mx_gf 0 22) d 23 16 lo st h := ev_s n23_13 rfl rfl
theorem n23_16 : mx_ins 23 16 = some ((.getfield 238), 3) := mx_ins_of mi23 dX0_begin_16 rfl
theorem u23_16 : ev d 23 16 lo st h = evS (mx_gf 0 238) d 23 19 lo st h := ev_s n23_16 rfl rfl
theorem n23_19 : mx_ins 23 19 = some ((.getfield 155), 3) := mx_ins_of mi23 dX0_begin_19 rfl
theorem u23_19 : ev d 23 19 lo st h = evS (mx_gf 0 155) d 23 22 lo st h := ev_s n23_19 rfl rfl
theorem n23_22 : mx_ins 23 22 = some ((.istore_n 2), 1) := mx_ins_of mi23 dX0_begin_22 rfl
theorem u23_22 : ev d 23 22 lo st h = evS (mx_stI 2) d 23 23 lo st h := ev_s n23_22 rfl rfl
theorem n23_23 : mx_ins 23 23 = some ((.aload_n 0), 1) := mx_ins_of mi23 dX0_begin_23 rfl
theorem u23_23 : ev d 23 23 lo st h = evS (mx_ldA 0) d 23 24 lo st h := ev_s n23_23 rfl rfl
theorem n23_24 : mx_ins 23 24 = some ((.getfield 22), 3) := mx_ins_of mi23 dX0_begin_24 rfl
theorem u23_24 : ev d 23 24 lo st h = evS (mx_gf 0 22) d 23 27 lo st h := ev_s n23_24 rfl rfl
theorem n23_27 : mx_ins 23 27 = some ((.getfield 238), 3) := mx_ins_of mi23 dX0_begin_27 rfl
theorem u23_27 : ev d 23 27 lo st h = evS (mx_gf 0 238) d 23 30 lo st h := ev_s n23_27 rfl rfl
theorem n23_30 : mx_ins 23 30 = some ((.iload_n 1), 1) := mx_ins_of mi23 dX0_begin_30 rfl
theorem u23_30 : ev d 23 30 lo st h = evS (mx_ldI 1) d 23 31 lo st h := ev_s n23_30 rfl rfl
theorem n23_31 : mx_ins 23 31 = some ((.putfield 155), 3) := mx_ins_of mi23 dX0_begin_31 rfl
theorem u23_31 : ev d 23 31 lo st h = evS (mx_pf 0 155 false) d 23 34 lo st h := ev_s n23_31 rfl rfl
theorem n23_34 : mx_ins 23 34 = some ((.iload_n 2), 1) := mx_ins_of mi23 dX0_begin_34 rfl
theorem u23_34 : ev d 23 34 lo st h = evS (mx_ldI 2) d 23 35 lo st h := ev_s n23_34 rfl rfl
theorem n23_35 : mx_ins 23 35 = some (.ireturn, 1) := mx_ins_of mi23 dX0_begin_35 rfl
theorem u23_35 : ev d 23 35 lo st h = evI d 23 35 36 lo st h .ireturn := ev_u n23_35 rfl
theorem mi24 : mx_mi 24 = some (yX0_says, cX0_says, 2, (Option.some Jvm.ClassFile.FieldType.int), 0, 1, []) := rfl
theorem ow24 : mx_own 24 = 0 := mx_mi_own mi24
theorem mm24 : mx_max 24 = 2 := mx_mi_max mi24
theorem rt24 : mx_ret 24 = (Option.some Jvm.ClassFile.FieldType.int) := mx_mi_ret mi24
theorem hn24 : mx_hnd 24 = [] := mx_mi_hnd mi24
theorem n24_0 : mx_ins 24 0 = some ((.aload_n 0), 1) := mx_ins_of mi24 dX0_says_0 rfl
theorem u24_0 : ev d 24 0 lo st h = evS (mx_ldA 0) d 24 1 lo st h := ev_s n24_0 rfl rfl
theorem n24_1 : mx_ins 24 1 = some ((.aload_n 0), 1) := mx_ins_of mi24 dX0_says_1 rfl
theorem u24_1 : ev d 24 1 lo st h = evS (mx_ldA 0) d 24 2 lo st h := ev_s n24_1 rfl rfl
theorem n24_2 : mx_ins 24 2 = some ((.getfield 22), 3) := mx_ins_of mi24 dX0_says_2 rfl
theorem u24_2 : ev d 24 2 lo st h = evS (mx_gf 0 22) d 24 5 lo st h := ev_s n24_2 rfl rfl
theorem n24_5 : mx_ins 24 5 = some ((.getfield 238), 3) := mx_ins_of mi24 dX0_says_5 rfl
theorem u24_5 : ev d 24 5 lo st h = evS (mx_gf 0 238) d 24 8 lo st h := ev_s n24_5 rfl rfl
theorem n24_8 : mx_ins 24 8 = some ((.aload_n 0), 1) := mx_ins_of mi24 dX0_says_8 rfl
theorem u24_8 : ev d 24 8 lo st h = evS (mx_ldA 0) d 24 9 lo st h := ev_s n24_8 rfl rfl
theorem n24_9 : mx_ins 24 9 = some ((.getfield 22), 3) := mx_ins_of mi24 dX0_says_9 rfl
theorem u24_9 : ev d 24 9 lo st h = evS (mx_gf 0 22) d 24 12 lo st h := ev_s n24_9 rfl rfl
theorem n24_12 : mx_ins 24 12 = some ((.getfield 238), 3) := mx_ins_of mi24 dX0_says_12 rfl
theorem u24_12 : ev d 24 12 lo st h = evS (mx_gf 0 238) d 24 15 lo st h := ev_s n24_12 rfl rfl
theorem n24_15 : mx_ins 24 15 = some ((.invokevirtual 256), 3) := mx_ins_of mi24 dX0_says_15 rfl
theorem u24_15 : ev d 24 15 lo st h = evIn d 24 15 18 0 256 1 false lo st h := ev_inv n24_15 rfl rfl ow24 ia0_256
theorem n24_18 : mx_ins 24 18 = some ((.invokevirtual 279), 3) := mx_ins_of mi24 dX0_says_18 rfl
theorem u24_18 : ev d 24 18 lo st h = evIn d 24 18 21 0 279 3 false lo st h := ev_inv n24_18 rfl rfl ow24 ia0_279
theorem n24_21 : mx_ins 24 21 = some ((.istore_n 1), 1) := mx_ins_of mi24 dX0_says_21 rfl
theorem u24_21 : ev d 24 21 lo st h = evS (mx_stI 1) d 24 22 lo st h := ev_s n24_21 rfl rfl
theorem n24_22 : mx_ins 24 22 = some ((.iload_n 1), 1) := mx_ins_of mi24 dX0_says_22 rfl
theorem u24_22 : ev d 24 22 lo st h = evS (mx_ldI 1) d 24 23 lo st h := ev_s n24_22 rfl rfl
theorem n24_23 : mx_ins 24 23 = some ((.ifCond .ge 8), 3) := mx_ins_of mi24 dX0_says_23 rfl
theorem u24_23 : ev d 24 23 lo st h = evJ .ge d 24 31 26 lo st h := ev_if n24_23 rfl rfl
theorem n24_26 : mx_ins 24 26 = some ((.bipush (-9)), 2) := mx_ins_of mi24 dX0_says_26 rfl
theorem u24_26 : ev d 24 26 lo st h = ev d 24 28 lo (.int (-9) :: st) h := (ev_s (f := mx_push (.int (-9))) n24_26 rfl rfl).trans es_push
theorem n24_28 : mx_ins 24 28 = some ((.goto 4), 3) := mx_ins_of mi24 dX0_says_28 rfl
theorem u24_28 : ev d 24 28 lo st h = ev d 24 32 lo st h := ev_goto n24_28 rfl
theorem n24_31 : mx_ins 24 31 = some ((.iload_n 1), 1) := mx_ins_of mi24 dX0_says_31 rfl
theorem u24_31 : ev d 24 31 lo st h = evS (mx_ldI 1) d 24 32 lo st h := ev_s n24_31 rfl rfl
theorem n24_32 : mx_ins 24 32 = some (.ireturn, 1) := mx_ins_of mi24 dX0_says_32 rfl
theorem u24_32 : ev d 24 32 lo st h = evI d 24 32 33 lo st h .ireturn := ev_u n24_32 rfl
theorem mi25 : mx_mi 25 = some (yX0_clauseOf, cX0_clauseOf, 4, (Option.some Jvm.ClassFile.FieldType.int), 0, 3, []) := rfl
theorem ow25 : mx_own 25 = 0 := mx_mi_own mi25
theorem mm25 : mx_max 25 = 4 := mx_mi_max mi25
theorem rt25 : mx_ret 25 = (Option.some Jvm.ClassFile.FieldType.int) := mx_mi_ret mi25
theorem hn25 : mx_hnd 25 = [] := mx_mi_hnd mi25
theorem n25_0 : mx_ins 25 0 = some ((.aload_n 0), 1) := mx_ins_of mi25 dX0_clauseOf_0 rfl
theorem u25_0 : ev d 25 0 lo st h = evS (mx_ldA 0) d 25 1 lo st h := ev_s n25_0 rfl rfl
theorem n25_1 : mx_ins 25 1 = some ((.getfield 81), 3) := mx_ins_of mi25 dX0_clauseOf_1 rfl
theorem u25_1 : ev d 25 1 lo st h = evS (mx_gf 0 81) d 25 4 lo st h := ev_s n25_1 rfl rfl
theorem n25_4 : mx_ins 25 4 = some ((.iconst 0), 1) := mx_ins_of mi25 dX0_clauseOf_4 rfl
theorem u25_4 : ev d 25 4 lo st h = ev d 25 5 lo (.int 0 :: st) h := (ev_s (f := mx_push (.int 0)) n25_4 rfl rfl).trans es_push
theorem n25_5 : mx_ins 25 5 = some ((.aload_n 1), 1) := mx_ins_of mi25 dX0_clauseOf_5 rfl
theorem u25_5 : ev d 25 5 lo st h = evS (mx_ldA 1) d 25 6 lo st h := ev_s n25_5 rfl rfl
theorem n25_6 : mx_ins 25 6 = some ((.getfield 155), 3) := mx_ins_of mi25 dX0_clauseOf_6 rfl
theorem u25_6 : ev d 25 6 lo st h = evS (mx_gf 0 155) d 25 9 lo st h := ev_s n25_6 rfl rfl
theorem n25_9 : mx_ins 25 9 = some (.iastore, 1) := mx_ins_of mi25 dX0_clauseOf_9 rfl
theorem u25_9 : ev d 25 9 lo st h = evI d 25 9 10 lo st h .iastore := ev_u n25_9 rfl
theorem n25_10 : mx_ins 25 10 = some ((.aload_n 0), 1) := mx_ins_of mi25 dX0_clauseOf_10 rfl
theorem u25_10 : ev d 25 10 lo st h = evS (mx_ldA 0) d 25 11 lo st h := ev_s n25_10 rfl rfl
theorem n25_11 : mx_ins 25 11 = some ((.getfield 81), 3) := mx_ins_of mi25 dX0_clauseOf_11 rfl
theorem u25_11 : ev d 25 11 lo st h = evS (mx_gf 0 81) d 25 14 lo st h := ev_s n25_11 rfl rfl
theorem n25_14 : mx_ins 25 14 = some ((.iconst 1), 1) := mx_ins_of mi25 dX0_clauseOf_14 rfl
theorem u25_14 : ev d 25 14 lo st h = ev d 25 15 lo (.int 1 :: st) h := (ev_s (f := mx_push (.int 1)) n25_14 rfl rfl).trans es_push
theorem n25_15 : mx_ins 25 15 = some ((.iload_n 2), 1) := mx_ins_of mi25 dX0_clauseOf_15 rfl
theorem u25_15 : ev d 25 15 lo st h = evS (mx_ldI 2) d 25 16 lo st h := ev_s n25_15 rfl rfl
theorem n25_16 : mx_ins 25 16 = some ((.aload_n 1), 1) := mx_ins_of mi25 dX0_clauseOf_16 rfl
theorem u25_16 : ev d 25 16 lo st h = evS (mx_ldA 1) d 25 17 lo st h := ev_s n25_16 rfl rfl
theorem n25_17 : mx_ins 25 17 = some ((.invokevirtual 256), 3) := mx_ins_of mi25 dX0_clauseOf_17 rfl
theorem u25_17 : ev d 25 17 lo st h = evIn d 25 17 20 0 256 1 false lo st h := ev_inv n25_17 rfl rfl ow25 ia0_256
theorem n25_20 : mx_ins 25 20 = some ((.invokestatic 266), 3) := mx_ins_of mi25 dX0_clauseOf_20 rfl
theorem u25_20 : ev d 25 20 lo st h = evIn d 25 20 23 0 266 2 true lo st h := ev_inv n25_20 rfl rfl ow25 ia0_266
theorem n25_23 : mx_ins 25 23 = some (.iastore, 1) := mx_ins_of mi25 dX0_clauseOf_23 rfl
theorem u25_23 : ev d 25 23 lo st h = evI d 25 23 24 lo st h .iastore := ev_u n25_23 rfl
theorem n25_24 : mx_ins 25 24 = some ((.aload_n 0), 1) := mx_ins_of mi25 dX0_clauseOf_24 rfl
theorem u25_24 : ev d 25 24 lo st h = evS (mx_ldA 0) d 25 25 lo st h := ev_s n25_24 rfl rfl
theorem n25_25 : mx_ins 25 25 = some ((.getfield 81), 3) := mx_ins_of mi25 dX0_clauseOf_25 rfl
theorem u25_25 : ev d 25 25 lo st h = evS (mx_gf 0 81) d 25 28 lo st h := ev_s n25_25 rfl rfl
theorem n25_28 : mx_ins 25 28 = some ((.iconst 2), 1) := mx_ins_of mi25 dX0_clauseOf_28 rfl
theorem u25_28 : ev d 25 28 lo st h = ev d 25 29 lo (.int 2 :: st) h := (ev_s (f := mx_push (.int 2)) n25_28 rfl rfl).trans es_push
theorem n25_29 : mx_ins 25 29 = some ((.aload_n 1), 1) := mx_ins_of mi25 dX0_clauseOf_29 rfl
theorem u25_29 : ev d 25 29 lo st h = evS (mx_ldA 1) d 25 30 lo st h := ev_s n25_29 rfl rfl
theorem n25_30 : mx_ins 25 30 = some ((.getfield 166), 3) := mx_ins_of mi25 dX0_clauseOf_30 rfl
theorem u25_30 : ev d 25 30 lo st h = evS (mx_gf 0 166) d 25 33 lo st h := ev_s n25_30 rfl rfl
theorem n25_33 : mx_ins 25 33 = some (.iastore, 1) := mx_ins_of mi25 dX0_clauseOf_33 rfl
theorem u25_33 : ev d 25 33 lo st h = evI d 25 33 34 lo st h .iastore := ev_u n25_33 rfl
theorem n25_34 : mx_ins 25 34 = some ((.aload_n 0), 1) := mx_ins_of mi25 dX0_clauseOf_34 rfl
theorem u25_34 : ev d 25 34 lo st h = evS (mx_ldA 0) d 25 35 lo st h := ev_s n25_34 rfl rfl
theorem n25_35 : mx_ins 25 35 = some ((.getfield 81), 3) := mx_ins_of mi25 dX0_clauseOf_35 rfl
theorem u25_35 : ev d 25 35 lo st h = evS (mx_gf 0 81) d 25 38 lo st h := ev_s n25_35 rfl rfl
theorem n25_38 : mx_ins 25 38 = some ((.iconst 3), 1) := mx_ins_of mi25 dX0_clauseOf_38 rfl
theorem u25_38 : ev d 25 38 lo st h = ev d 25 39 lo (.int 3 :: st) h := (ev_s (f := mx_push (.int 3)) n25_38 rfl rfl).trans es_push
theorem n25_39 : mx_ins 25 39 = some ((.aload_n 1), 1) := mx_ins_of mi25 dX0_clauseOf_39 rfl
theorem u25_39 : ev d 25 39 lo st h = evS (mx_ldA 1) d 25 40 lo st h := ev_s n25_39 rfl rfl
theorem n25_40 : mx_ins 25 40 = some ((.getfield 176), 3) := mx_ins_of mi25 dX0_clauseOf_40 rfl
theorem u25_40 : ev d 25 40 lo st h = evS (mx_gf 0 176) d 25 43 lo st h := ev_s n25_40 rfl rfl
theorem n25_43 : mx_ins 25 43 = some (.iastore, 1) := mx_ins_of mi25 dX0_clauseOf_43 rfl
theorem u25_43 : ev d 25 43 lo st h = evI d 25 43 44 lo st h .iastore := ev_u n25_43 rfl
theorem n25_44 : mx_ins 25 44 = some ((.aload_n 0), 1) := mx_ins_of mi25 dX0_clauseOf_44 rfl
theorem u25_44 : ev d 25 44 lo st h = evS (mx_ldA 0) d 25 45 lo st h := ev_s n25_44 rfl rfl
theorem n25_45 : mx_ins 25 45 = some ((.getfield 81), 3) := mx_ins_of mi25 dX0_clauseOf_45 rfl
theorem u25_45 : ev d 25 45 lo st h = evS (mx_gf 0 81) d 25 48 lo st h := ev_s n25_45 rfl rfl
theorem n25_48 : mx_ins 25 48 = some ((.iconst 4), 1) := mx_ins_of mi25 dX0_clauseOf_48 rfl
theorem u25_48 : ev d 25 48 lo st h = ev d 25 49 lo (.int 4 :: st) h := (ev_s (f := mx_push (.int 4)) n25_48 rfl rfl).trans es_push
theorem n25_49 : mx_ins 25 49 = some ((.aload_n 1), 1) := mx_ins_of mi25 dX0_clauseOf_49 rfl
theorem u25_49 : ev d 25 49 lo st h = evS (mx_ldA 1) d 25 50 lo st h := ev_s n25_49 rfl rfl
theorem n25_50 : mx_ins 25 50 = some ((.getfield 189), 3) := mx_ins_of mi25 dX0_clauseOf_50 rfl
theorem u25_50 : ev d 25 50 lo st h = evS (mx_gf 0 189) d 25 53 lo st h := ev_s n25_50 rfl rfl
theorem n25_53 : mx_ins 25 53 = some (.iastore, 1) := mx_ins_of mi25 dX0_clauseOf_53 rfl
theorem u25_53 : ev d 25 53 lo st h = evI d 25 53 54 lo st h .iastore := ev_u n25_53 rfl
theorem n25_54 : mx_ins 25 54 = some ((.aload_n 0), 1) := mx_ins_of mi25 dX0_clauseOf_54 rfl
theorem u25_54 : ev d 25 54 lo st h = evS (mx_ldA 0) d 25 55 lo st h := ev_s n25_54 rfl rfl
theorem n25_55 : mx_ins 25 55 = some ((.getfield 81), 3) := mx_ins_of mi25 dX0_clauseOf_55 rfl
theorem u25_55 : ev d 25 55 lo st h = evS (mx_gf 0 81) d 25 58 lo st h := ev_s n25_55 rfl rfl
theorem n25_58 : mx_ins 25 58 = some ((.iconst 5), 1) := mx_ins_of mi25 dX0_clauseOf_58 rfl
theorem u25_58 : ev d 25 58 lo st h = ev d 25 59 lo (.int 5 :: st) h := (ev_s (f := mx_push (.int 5)) n25_58 rfl rfl).trans es_push
theorem n25_59 : mx_ins 25 59 = some ((.aload_n 1), 1) := mx_ins_of mi25 dX0_clauseOf_59 rfl
theorem u25_59 : ev d 25 59 lo st h = evS (mx_ldA 1) d 25 60 lo st h := ev_s n25_59 rfl rfl
theorem n25_60 : mx_ins 25 60 = some ((.getfield 155), 3) := mx_ins_of mi25 dX0_clauseOf_60 rfl
theorem u25_60 : ev d 25 60 lo st h = evS (mx_gf 0 155) d 25 63 lo st h := ev_s n25_60 rfl rfl
theorem n25_63 : mx_ins 25 63 = some ((.bipush 24), 2) := mx_ins_of mi25 dX0_clauseOf_63 rfl
theorem u25_63 : ev d 25 63 lo st h = ev d 25 65 lo (.int 24 :: st) h := (ev_s (f := mx_push (.int 24)) n25_63 rfl rfl).trans es_push
theorem n25_65 : mx_ins 25 65 = some ((.if_icmp .ge 22), 3) := mx_ins_of mi25 dX0_clauseOf_65 rfl
theorem u25_65 : ev d 25 65 lo st h = evK .ge d 25 87 68 lo st h := ev_ic n25_65 rfl rfl
theorem n25_68 : mx_ins 25 68 = some ((.iconst 0), 1) := mx_ins_of mi25 dX0_clauseOf_68 rfl
theorem u25_68 : ev d 25 68 lo st h = ev d 25 69 lo (.int 0 :: st) h := (ev_s (f := mx_push (.int 0)) n25_68 rfl rfl).trans es_push
theorem n25_69 : mx_ins 25 69 = some ((.aload_n 0), 1) := mx_ins_of mi25 dX0_clauseOf_69 rfl
theorem u25_69 : ev d 25 69 lo st h = evS (mx_ldA 0) d 25 70 lo st h := ev_s n25_69 rfl rfl
theorem n25_70 : mx_ins 25 70 = some ((.getfield 22), 3) := mx_ins_of mi25 dX0_clauseOf_70 rfl
theorem u25_70 : ev d 25 70 lo st h = evS (mx_gf 0 22) d 25 73 lo st h := ev_s n25_70 rfl rfl
theorem n25_73 : mx_ins 25 73 = some ((.getfield 220), 3) := mx_ins_of mi25 dX0_clauseOf_73 rfl
theorem u25_73 : ev d 25 73 lo st h = evS (mx_gf 0 220) d 25 76 lo st h := ev_s n25_73 rfl rfl
theorem n25_76 : mx_ins 25 76 = some ((.aload_n 1), 1) := mx_ins_of mi25 dX0_clauseOf_76 rfl
theorem u25_76 : ev d 25 76 lo st h = evS (mx_ldA 1) d 25 77 lo st h := ev_s n25_76 rfl rfl
theorem n25_77 : mx_ins 25 77 = some ((.getfield 155), 3) := mx_ins_of mi25 dX0_clauseOf_77 rfl
theorem u25_77 : ev d 25 77 lo st h = evS (mx_gf 0 155) d 25 80 lo st h := ev_s n25_77 rfl rfl
theorem n25_80 : mx_ins 25 80 = some (.iaload, 1) := mx_ins_of mi25 dX0_clauseOf_80 rfl
theorem u25_80 : ev d 25 80 lo st h = evI d 25 80 81 lo st h .iaload := ev_u n25_80 rfl
theorem n25_81 : mx_ins 25 81 = some ((.invokestatic 186), 3) := mx_ins_of mi25 dX0_clauseOf_81 rfl
theorem u25_81 : ev d 25 81 lo st h = evIn d 25 81 84 0 186 2 true lo st h := ev_inv n25_81 rfl rfl ow25 ia0_186
theorem n25_84 : mx_ins 25 84 = some ((.goto 4), 3) := mx_ins_of mi25 dX0_clauseOf_84 rfl
theorem u25_84 : ev d 25 84 lo st h = ev d 25 88 lo st h := ev_goto n25_84 rfl
theorem n25_87 : mx_ins 25 87 = some ((.iconst 0), 1) := mx_ins_of mi25 dX0_clauseOf_87 rfl
theorem u25_87 : ev d 25 87 lo st h = ev d 25 88 lo (.int 0 :: st) h := (ev_s (f := mx_push (.int 0)) n25_87 rfl rfl).trans es_push
theorem n25_88 : mx_ins 25 88 = some (.iastore, 1) := mx_ins_of mi25 dX0_clauseOf_88 rfl
theorem u25_88 : ev d 25 88 lo st h = evI d 25 88 89 lo st h .iastore := ev_u n25_88 rfl
theorem n25_89 : mx_ins 25 89 = some ((.iconst 0), 1) := mx_ins_of mi25 dX0_clauseOf_89 rfl
theorem u25_89 : ev d 25 89 lo st h = ev d 25 90 lo (.int 0 :: st) h := (ev_s (f := mx_push (.int 0)) n25_89 rfl rfl).trans es_push
theorem n25_90 : mx_ins 25 90 = some ((.istore_n 3), 1) := mx_ins_of mi25 dX0_clauseOf_90 rfl
theorem u25_90 : ev d 25 90 lo st h = evS (mx_stI 3) d 25 91 lo st h := ev_s n25_90 rfl rfl
theorem n25_91 : mx_ins 25 91 = some ((.iload_n 3), 1) := mx_ins_of mi25 dX0_clauseOf_91 rfl
theorem u25_91 : ev d 25 91 lo st h = evS (mx_ldI 3) d 25 92 lo st h := ev_s n25_91 rfl rfl
theorem n25_92 : mx_ins 25 92 = some ((.aload_n 0), 1) := mx_ins_of mi25 dX0_clauseOf_92 rfl
theorem u25_92 : ev d 25 92 lo st h = evS (mx_ldA 0) d 25 93 lo st h := ev_s n25_92 rfl rfl
theorem n25_93 : mx_ins 25 93 = some ((.getfield 22), 3) := mx_ins_of mi25 dX0_clauseOf_93 rfl
theorem u25_93 : ev d 25 93 lo st h = evS (mx_gf 0 22) d 25 96 lo st h := ev_s n25_93 rfl rfl
theorem n25_96 : mx_ins 25 96 = some ((.getfield 212), 3) := mx_ins_of mi25 dX0_clauseOf_96 rfl
theorem u25_96 : ev d 25 96 lo st h = evS (mx_gf 0 212) d 25 99 lo st h := ev_s n25_96 rfl rfl
theorem n25_99 : mx_ins 25 99 = some ((.if_icmp .ge 28), 3) := mx_ins_of mi25 dX0_clauseOf_99 rfl
theorem u25_99 : ev d 25 99 lo st h = evK .ge d 25 127 102 lo st h := ev_ic n25_99 rfl rfl
theorem n25_102 : mx_ins 25 102 = some ((.aload_n 0), 1) := mx_ins_of mi25 dX0_clauseOf_102 rfl
theorem u25_102 : ev d 25 102 lo st h = evS (mx_ldA 0) d 25 103 lo st h := ev_s n25_102 rfl rfl
theorem n25_103 : mx_ins 25 103 = some ((.getfield 22), 3) := mx_ins_of mi25 dX0_clauseOf_103 rfl
theorem u25_103 : ev d 25 103 lo st h = evS (mx_gf 0 22) d 25 106 lo st h := ev_s n25_103 rfl rfl
theorem n25_106 : mx_ins 25 106 = some ((.getfield 269), 3) := mx_ins_of mi25 dX0_clauseOf_106 rfl
theorem u25_106 : ev d 25 106 lo st h = evS (mx_gf 0 269) d 25 109 lo st h := ev_s n25_106 rfl rfl
theorem n25_109 : mx_ins 25 109 = some ((.iload_n 3), 1) := mx_ins_of mi25 dX0_clauseOf_109 rfl
theorem u25_109 : ev d 25 109 lo st h = evS (mx_ldI 3) d 25 110 lo st h := ev_s n25_109 rfl rfl
theorem n25_110 : mx_ins 25 110 = some (.aaload, 1) := mx_ins_of mi25 dX0_clauseOf_110 rfl
theorem u25_110 : ev d 25 110 lo st h = evI d 25 110 111 lo st h .aaload := ev_u n25_110 rfl
theorem n25_111 : mx_ins 25 111 = some ((.aload_n 0), 1) := mx_ins_of mi25 dX0_clauseOf_111 rfl
theorem u25_111 : ev d 25 111 lo st h = evS (mx_ldA 0) d 25 112 lo st h := ev_s n25_111 rfl rfl
theorem n25_112 : mx_ins 25 112 = some ((.getfield 81), 3) := mx_ins_of mi25 dX0_clauseOf_112 rfl
theorem u25_112 : ev d 25 112 lo st h = evS (mx_gf 0 81) d 25 115 lo st h := ev_s n25_112 rfl rfl
theorem n25_115 : mx_ins 25 115 = some ((.invokevirtual 273), 3) := mx_ins_of mi25 dX0_clauseOf_115 rfl
theorem u25_115 : ev d 25 115 lo st h = evIn d 25 115 118 0 273 2 false lo st h := ev_inv n25_115 rfl rfl ow25 ia0_273
theorem n25_118 : mx_ins 25 118 = some ((.ifCond .ne 9), 3) := mx_ins_of mi25 dX0_clauseOf_118 rfl
theorem u25_118 : ev d 25 118 lo st h = evJ .ne d 25 127 121 lo st h := ev_if n25_118 rfl rfl
theorem n25_121 : mx_ins 25 121 = some ((.iinc 3 1), 3) := mx_ins_of mi25 dX0_clauseOf_121 rfl
theorem u25_121 : ev d 25 121 lo st h = evS (mx_inc 3 (1)) d 25 124 lo st h := ev_s n25_121 rfl rfl
theorem n25_124 : mx_ins 25 124 = some ((.goto (-33)), 3) := mx_ins_of mi25 dX0_clauseOf_124 rfl
theorem u25_124 : ev d 25 124 lo st h = ev d 25 91 lo st h := ev_goto n25_124 rfl
theorem n25_127 : mx_ins 25 127 = some ((.iload_n 3), 1) := mx_ins_of mi25 dX0_clauseOf_127 rfl
theorem u25_127 : ev d 25 127 lo st h = evS (mx_ldI 3) d 25 128 lo st h := ev_s n25_127 rfl rfl
theorem n25_128 : mx_ins 25 128 = some ((.aload_n 0), 1) := mx_ins_of mi25 dX0_clauseOf_128 rfl
theorem u25_128 : ev d 25 128 lo st h = evS (mx_ldA 0) d 25 129 lo st h := ev_s n25_128 rfl rfl
theorem n25_129 : mx_ins 25 129 = some ((.getfield 22), 3) := mx_ins_of mi25 dX0_clauseOf_129 rfl
theorem u25_129 : ev d 25 129 lo st h = evS (mx_gf 0 22) d 25 132 lo st h := ev_s n25_129 rfl rfl
theorem n25_132 : mx_ins 25 132 = some ((.getfield 212), 3) := mx_ins_of mi25 dX0_clauseOf_132 rfl
theorem u25_132 : ev d 25 132 lo st h = evS (mx_gf 0 212) d 25 135 lo st h := ev_s n25_132 rfl rfl
theorem n25_135 : mx_ins 25 135 = some ((.if_icmp .ge 7), 3) := mx_ins_of mi25 dX0_clauseOf_135 rfl
theorem u25_135 : ev d 25 135 lo st h = evK .ge d 25 142 138 lo st h := ev_ic n25_135 rfl rfl
theorem n25_138 : mx_ins 25 138 = some ((.iload_n 3), 1) := mx_ins_of mi25 dX0_clauseOf_138 rfl
theorem u25_138 : ev d 25 138 lo st h = evS (mx_ldI 3) d 25 139 lo st h := ev_s n25_138 rfl rfl
theorem n25_139 : mx_ins 25 139 = some ((.goto 4), 3) := mx_ins_of mi25 dX0_clauseOf_139 rfl
theorem u25_139 : ev d 25 139 lo st h = ev d 25 143 lo st h := ev_goto n25_139 rfl
theorem n25_142 : mx_ins 25 142 = some ((.iconst (-1)), 1) := mx_ins_of mi25 dX0_clauseOf_142 rfl
theorem u25_142 : ev d 25 142 lo st h = ev d 25 143 lo (.int (-1) :: st) h := (ev_s (f := mx_push (.int (-1))) n25_142 rfl rfl).trans es_push
theorem n25_143 : mx_ins 25 143 = some (.ireturn, 1) := mx_ins_of mi25 dX0_clauseOf_143 rfl
theorem u25_143 : ev d 25 143 lo st h = evI d 25 143 144 lo st h .ireturn := ev_u n25_143 rfl
theorem mi26 : mx_mi 26 = some (yX0_lossOf, cX0_lossOf, 2, (Option.some Jvm.ClassFile.FieldType.int), 0, 2, []) := rfl
theorem ow26 : mx_own 26 = 0 := mx_mi_own mi26
theorem mm26 : mx_max 26 = 2 := mx_mi_max mi26
theorem rt26 : mx_ret 26 = (Option.some Jvm.ClassFile.FieldType.int) := mx_mi_ret mi26
theorem hn26 : mx_hnd 26 = [] := mx_mi_hnd mi26
theorem n26_0 : mx_ins 26 0 = some ((.iload_n 0), 1) := mx_ins_of mi26 dX0_lossOf_0 rfl
theorem u26_0 : ev d 26 0 lo st h = evS (mx_ldI 0) d 26 1 lo st h := ev_s n26_0 rfl rfl
theorem n26_1 : mx_ins 26 1 = some ((.iload_n 1), 1) := mx_ins_of mi26 dX0_lossOf_1 rfl
theorem u26_1 : ev d 26 1 lo st h = evS (mx_ldI 1) d 26 2 lo st h := ev_s n26_1 rfl rfl
theorem n26_2 : mx_ins 26 2 = some (.isub, 1) := mx_ins_of mi26 dX0_lossOf_2 rfl
theorem u26_2 : ev d 26 2 lo st h = evI d 26 2 3 lo st h .isub := ev_u n26_2 rfl
theorem n26_3 : mx_ins 26 3 = some ((.sipush 1000), 3) := mx_ins_of mi26 dX0_lossOf_3 rfl
theorem u26_3 : ev d 26 3 lo st h = ev d 26 6 lo (.int 1000 :: st) h := (ev_s (f := mx_push (.int 1000)) n26_3 rfl rfl).trans es_push
theorem n26_6 : mx_ins 26 6 = some (.imul, 1) := mx_ins_of mi26 dX0_lossOf_6 rfl
theorem u26_6 : ev d 26 6 lo st h = evI d 26 6 7 lo st h .imul := ev_u n26_6 rfl
theorem n26_7 : mx_ins 26 7 = some ((.iload_n 0), 1) := mx_ins_of mi26 dX0_lossOf_7 rfl
theorem u26_7 : ev d 26 7 lo st h = evS (mx_ldI 0) d 26 8 lo st h := ev_s n26_7 rfl rfl
theorem n26_8 : mx_ins 26 8 = some (.idiv, 1) := mx_ins_of mi26 dX0_lossOf_8 rfl
theorem u26_8 : ev d 26 8 lo st h = evI d 26 8 9 lo st h .idiv := ev_u n26_8 rfl
theorem n26_9 : mx_ins 26 9 = some (.ireturn, 1) := mx_ins_of mi26 dX0_lossOf_9 rfl
theorem u26_9 : ev d 26 9 lo st h = evI d 26 9 10 lo st h .ireturn := ev_u n26_9 rfl
theorem mi27 : mx_mi 27 = some (yX0_lie, cX0_lie, 2, (Option.some Jvm.ClassFile.FieldType.int), 0, 1, []) := rfl
theorem ow27 : mx_own 27 = 0 := mx_mi_own mi27
theorem mm27 : mx_max 27 = 2 := mx_mi_max mi27
theorem rt27 : mx_ret 27 = (Option.some Jvm.ClassFile.FieldType.int) := mx_mi_ret mi27
theorem hn27 : mx_hnd 27 = [] := mx_mi_hnd mi27
theorem n27_0 : mx_ins 27 0 = some ((.aload_n 0), 1) := mx_ins_of mi27 dX0_lie_0 rfl
theorem u27_0 : ev d 27 0 lo st h = evS (mx_ldA 0) d 27 1 lo st h := ev_s n27_0 rfl rfl
theorem n27_1 : mx_ins 27 1 = some ((.getfield 88), 3) := mx_ins_of mi27 dX0_lie_1 rfl
theorem u27_1 : ev d 27 1 lo st h = evS (mx_gf 0 88) d 27 4 lo st h := ev_s n27_1 rfl rfl
theorem n27_4 : mx_ins 27 4 = some ((.aload_n 0), 1) := mx_ins_of mi27 dX0_lie_4 rfl
theorem u27_4 : ev d 27 4 lo st h = evS (mx_ldA 0) d 27 5 lo st h := ev_s n27_4 rfl rfl
theorem n27_5 : mx_ins 27 5 = some ((.getfield 22), 3) := mx_ins_of mi27 dX0_lie_5 rfl
theorem u27_5 : ev d 27 5 lo st h = evS (mx_gf 0 22) d 27 8 lo st h := ev_s n27_5 rfl rfl
theorem n27_8 : mx_ins 27 8 = some ((.getfield 238), 3) := mx_ins_of mi27 dX0_lie_8 rfl
theorem u27_8 : ev d 27 8 lo st h = evS (mx_gf 0 238) d 27 11 lo st h := ev_s n27_8 rfl rfl
theorem n27_11 : mx_ins 27 11 = some ((.invokevirtual 282), 3) := mx_ins_of mi27 dX0_lie_11 rfl
theorem u27_11 : ev d 27 11 lo st h = evIn d 27 11 14 0 282 2 false lo st h := ev_inv n27_11 rfl rfl ow27 ia0_282
theorem n27_14 : mx_ins 27 14 = some ((.istore_n 1), 1) := mx_ins_of mi27 dX0_lie_14 rfl
theorem u27_14 : ev d 27 14 lo st h = evS (mx_stI 1) d 27 15 lo st h := ev_s n27_14 rfl rfl
theorem n27_15 : mx_ins 27 15 = some ((.iload_n 1), 1) := mx_ins_of mi27 dX0_lie_15 rfl
theorem u27_15 : ev d 27 15 lo st h = evS (mx_ldI 1) d 27 16 lo st h := ev_s n27_15 rfl rfl
theorem n27_16 : mx_ins 27 16 = some ((.ifCond .eq 13), 3) := mx_ins_of mi27 dX0_lie_16 rfl
theorem u27_16 : ev d 27 16 lo st h = evJ .eq d 27 29 19 lo st h := ev_if n27_16 rfl rfl
theorem n27_19 : mx_ins 27 19 = some ((.aload_n 0), 1) := mx_ins_of mi27 dX0_lie_19 rfl
theorem u27_19 : ev d 27 19 lo st h = evS (mx_ldA 0) d 27 20 lo st h := ev_s n27_19 rfl rfl
theorem n27_20 : mx_ins 27 20 = some ((.getfield 88), 3) := mx_ins_of mi27 dX0_lie_20 rfl
theorem u27_20 : ev d 27 20 lo st h = evS (mx_gf 0 88) d 27 23 lo st h := ev_s n27_20 rfl rfl
theorem n27_23 : mx_ins 27 23 = some ((.getfield 286), 3) := mx_ins_of mi27 dX0_lie_23 rfl
theorem u27_23 : ev d 27 23 lo st h = evS (mx_gf 0 286) d 27 26 lo st h := ev_s n27_23 rfl rfl
theorem n27_26 : mx_ins 27 26 = some ((.goto 5), 3) := mx_ins_of mi27 dX0_lie_26 rfl
theorem u27_26 : ev d 27 26 lo st h = ev d 27 31 lo st h := ev_goto n27_26 rfl
theorem n27_29 : mx_ins 27 29 = some ((.bipush (-3)), 2) := mx_ins_of mi27 dX0_lie_29 rfl
theorem u27_29 : ev d 27 29 lo st h = ev d 27 31 lo (.int (-3) :: st) h := (ev_s (f := mx_push (.int (-3))) n27_29 rfl rfl).trans es_push
theorem n27_31 : mx_ins 27 31 = some (.ireturn, 1) := mx_ins_of mi27 dX0_lie_31 rfl
theorem u27_31 : ev d 27 31 lo st h = evI d 27 31 32 lo st h .ireturn := ev_u n27_31 rfl
theorem mi28 : mx_mi 28 = some (yX0_rowAt, cX0_rowAt, 2, (Option.some (Jvm.ClassFile.FieldType.object "ColdBox$Row")), 0, 2, []) := rfl
theorem ow28 : mx_own 28 = 0 := mx_mi_own mi28
theorem mm28 : mx_max 28 = 2 := mx_mi_max mi28
theorem rt28 : mx_ret 28 = (Option.some (Jvm.ClassFile.FieldType.object "ColdBox$Row")) := mx_mi_ret mi28
theorem hn28 : mx_hnd 28 = [] := mx_mi_hnd mi28
theorem rr28 : mx_rr 28 = true := by unfold mx_rr; rw [rt28]
theorem n28_0 : mx_ins 28 0 = some ((.aload_n 0), 1) := mx_ins_of mi28 dX0_rowAt_0 rfl
theorem u28_0 : ev d 28 0 lo st h = evS (mx_ldA 0) d 28 1 lo st h := ev_s n28_0 rfl rfl
theorem n28_1 : mx_ins 28 1 = some ((.getfield 94), 3) := mx_ins_of mi28 dX0_rowAt_1 rfl
theorem u28_1 : ev d 28 1 lo st h = evS (mx_gf 0 94) d 28 4 lo st h := ev_s n28_1 rfl rfl
theorem n28_4 : mx_ins 28 4 = some ((.iload_n 1), 1) := mx_ins_of mi28 dX0_rowAt_4 rfl
theorem u28_4 : ev d 28 4 lo st h = evS (mx_ldI 1) d 28 5 lo st h := ev_s n28_4 rfl rfl
theorem n28_5 : mx_ins 28 5 = some (.aaload, 1) := mx_ins_of mi28 dX0_rowAt_5 rfl
theorem u28_5 : ev d 28 5 lo st h = evI d 28 5 6 lo st h .aaload := ev_u n28_5 rfl
theorem n28_6 : mx_ins 28 6 = some ((.ifnonnull 16), 3) := mx_ins_of mi28 dX0_rowAt_6 rfl
theorem u28_6 : ev d 28 6 lo st h = evNN d 28 22 9 lo st h := ev_nn n28_6 rfl rfl
theorem n28_9 : mx_ins 28 9 = some ((.aload_n 0), 1) := mx_ins_of mi28 dX0_rowAt_9 rfl
theorem u28_9 : ev d 28 9 lo st h = evS (mx_ldA 0) d 28 10 lo st h := ev_s n28_9 rfl rfl
theorem n28_10 : mx_ins 28 10 = some ((.getfield 94), 3) := mx_ins_of mi28 dX0_rowAt_10 rfl
theorem u28_10 : ev d 28 10 lo st h = evS (mx_gf 0 94) d 28 13 lo st h := ev_s n28_10 rfl rfl
theorem n28_13 : mx_ins 28 13 = some ((.iload_n 1), 1) := mx_ins_of mi28 dX0_rowAt_13 rfl
theorem u28_13 : ev d 28 13 lo st h = evS (mx_ldI 1) d 28 14 lo st h := ev_s n28_13 rfl rfl
theorem n28_14 : mx_ins 28 14 = some ((.new 92), 3) := mx_ins_of mi28 dX0_rowAt_14 rfl
theorem u28_14 : ev d 28 14 lo st h = evS (mx_nw 0 92) d 28 17 lo st h := ev_s n28_14 rfl rfl
theorem n28_17 : mx_ins 28 17 = some (.dup, 1) := mx_ins_of mi28 dX0_rowAt_17 rfl
theorem u28_17 : ev d 28 17 lo st h = evI d 28 17 18 lo st h .dup := ev_u n28_17 rfl
theorem n28_18 : mx_ins 28 18 = some ((.invokespecial 317), 3) := mx_ins_of mi28 dX0_rowAt_18 rfl
theorem u28_18 : ev d 28 18 lo st h = evIn d 28 18 21 0 317 1 false lo st h := ev_inv n28_18 rfl rfl ow28 ia0_317
theorem n28_21 : mx_ins 28 21 = some (.aastore, 1) := mx_ins_of mi28 dX0_rowAt_21 rfl
theorem u28_21 : ev d 28 21 lo st h = evI d 28 21 22 lo st h .aastore := ev_u n28_21 rfl
theorem n28_22 : mx_ins 28 22 = some ((.aload_n 0), 1) := mx_ins_of mi28 dX0_rowAt_22 rfl
theorem u28_22 : ev d 28 22 lo st h = evS (mx_ldA 0) d 28 23 lo st h := ev_s n28_22 rfl rfl
theorem n28_23 : mx_ins 28 23 = some ((.getfield 94), 3) := mx_ins_of mi28 dX0_rowAt_23 rfl
theorem u28_23 : ev d 28 23 lo st h = evS (mx_gf 0 94) d 28 26 lo st h := ev_s n28_23 rfl rfl
theorem n28_26 : mx_ins 28 26 = some ((.iload_n 1), 1) := mx_ins_of mi28 dX0_rowAt_26 rfl
theorem u28_26 : ev d 28 26 lo st h = evS (mx_ldI 1) d 28 27 lo st h := ev_s n28_26 rfl rfl
theorem n28_27 : mx_ins 28 27 = some (.aaload, 1) := mx_ins_of mi28 dX0_rowAt_27 rfl
theorem u28_27 : ev d 28 27 lo st h = evI d 28 27 28 lo st h .aaload := ev_u n28_27 rfl
theorem n28_28 : mx_ins 28 28 = some (.areturn, 1) := mx_ins_of mi28 dX0_rowAt_28 rfl
theorem u28_28 : ev d 28 28 lo st h = evI d 28 28 29 lo st h .areturn := ev_u n28_28 rfl
theorem mi29 : mx_mi 29 = some (yX0_would, cX0_would, 3, (Option.some Jvm.ClassFile.FieldType.int), 0, 2, []) := rfl
theorem ow29 : mx_own 29 = 0 := mx_mi_own mi29
theorem mm29 : mx_max 29 = 3 := mx_mi_max mi29
theorem rt29 : mx_ret 29 = (Option.some Jvm.ClassFile.FieldType.int) := mx_mi_ret mi29
theorem hn29 : mx_hnd 29 = [] := mx_mi_hnd mi29
theorem n29_0 : mx_ins 29 0 = some ((.iload_n 1), 1) := mx_ins_of mi29 dX0_would_0 rfl
theorem u29_0 : ev d 29 0 lo st h = evS (mx_ldI 1) d 29 1 lo st h := ev_s n29_0 rfl rfl
theorem n29_1 : mx_ins 29 1 = some ((.iconst 0), 1) := mx_ins_of mi29 dX0_would_1 rfl
theorem u29_1 : ev d 29 1 lo st h = ev d 29 2 lo (.int 0 :: st) h := (ev_s (f := mx_push (.int 0)) n29_1 rfl rfl).trans es_push
theorem n29_2 : mx_ins 29 2 = some ((.iconst 4), 1) := mx_ins_of mi29 dX0_would_2 rfl
theorem u29_2 : ev d 29 2 lo st h = ev d 29 3 lo (.int 4 :: st) h := (ev_s (f := mx_push (.int 4)) n29_2 rfl rfl).trans es_push
theorem n29_3 : mx_ins 29 3 = some ((.invokestatic 143), 3) := mx_ins_of mi29 dX0_would_3 rfl
theorem u29_3 : ev d 29 3 lo st h = evIn d 29 3 6 0 143 3 true lo st h := ev_inv n29_3 rfl rfl ow29 ia0_143
theorem n29_6 : mx_ins 29 6 = some ((.ifCond .ne 5), 3) := mx_ins_of mi29 dX0_would_6 rfl
theorem u29_6 : ev d 29 6 lo st h = evJ .ne d 29 11 9 lo st h := ev_if n29_6 rfl rfl
theorem n29_9 : mx_ins 29 9 = some ((.iconst (-1)), 1) := mx_ins_of mi29 dX0_would_9 rfl
theorem u29_9 : ev d 29 9 lo st h = ev d 29 10 lo (.int (-1) :: st) h := (ev_s (f := mx_push (.int (-1))) n29_9 rfl rfl).trans es_push
theorem n29_10 : mx_ins 29 10 = some (.ireturn, 1) := mx_ins_of mi29 dX0_would_10 rfl
theorem u29_10 : ev d 29 10 lo st h = evI d 29 10 11 lo st h .ireturn := ev_u n29_10 rfl
theorem n29_11 : mx_ins 29 11 = some ((.aload_n 0), 1) := mx_ins_of mi29 dX0_would_11 rfl
theorem u29_11 : ev d 29 11 lo st h = evS (mx_ldA 0) d 29 12 lo st h := ev_s n29_11 rfl rfl
theorem n29_12 : mx_ins 29 12 = some ((.getfield 35), 3) := mx_ins_of mi29 dX0_would_12 rfl
theorem u29_12 : ev d 29 12 lo st h = evS (mx_gf 0 35) d 29 15 lo st h := ev_s n29_12 rfl rfl
theorem n29_15 : mx_ins 29 15 = some ((.aload_n 0), 1) := mx_ins_of mi29 dX0_would_15 rfl
theorem u29_15 : ev d 29 15 lo st h = evS (mx_ldA 0) d 29 16 lo st h := ev_s n29_15 rfl rfl
theorem n29_16 : mx_ins 29 16 = some ((.getfield 22), 3) := mx_ins_of mi29 dX0_would_16 rfl
theorem u29_16 : ev d 29 16 lo st h = evS (mx_gf 0 22) d 29 19 lo st h := ev_s n29_16 rfl rfl
theorem n29_19 : mx_ins 29 19 = some ((.getfield 238), 3) := mx_ins_of mi29 dX0_would_19 rfl
theorem u29_19 : ev d 29 19 lo st h = evS (mx_gf 0 238) d 29 22 lo st h := ev_s n29_19 rfl rfl
theorem n29_22 : mx_ins 29 22 = some ((.invokevirtual 289), 3) := mx_ins_of mi29 dX0_would_22 rfl
theorem u29_22 : ev d 29 22 lo st h = evIn d 29 22 25 0 289 2 false lo st h := ev_inv n29_22 rfl rfl ow29 ia0_289
theorem n29_25 : mx_ins 29 25 = some ((.aload_n 0), 1) := mx_ins_of mi29 dX0_would_25 rfl
theorem u29_25 : ev d 29 25 lo st h = evS (mx_ldA 0) d 29 26 lo st h := ev_s n29_25 rfl rfl
theorem n29_26 : mx_ins 29 26 = some ((.getfield 88), 3) := mx_ins_of mi29 dX0_would_26 rfl
theorem u29_26 : ev d 29 26 lo st h = evS (mx_gf 0 88) d 29 29 lo st h := ev_s n29_26 rfl rfl
theorem n29_29 : mx_ins 29 29 = some ((.aload_n 0), 1) := mx_ins_of mi29 dX0_would_29 rfl
theorem u29_29 : ev d 29 29 lo st h = evS (mx_ldA 0) d 29 30 lo st h := ev_s n29_29 rfl rfl
theorem n29_30 : mx_ins 29 30 = some ((.getfield 35), 3) := mx_ins_of mi29 dX0_would_30 rfl
theorem u29_30 : ev d 29 30 lo st h = evS (mx_gf 0 35) d 29 33 lo st h := ev_s n29_30 rfl rfl
theorem n29_33 : mx_ins 29 33 = some ((.invokevirtual 282), 3) := mx_ins_of mi29 dX0_would_33 rfl
theorem u29_33 : ev d 29 33 lo st h = evIn d 29 33 36 0 282 2 false lo st h := ev_inv n29_33 rfl rfl ow29 ia0_282
theorem n29_36 : mx_ins 29 36 = some ((.istore_n 2), 1) := mx_ins_of mi29 dX0_would_36 rfl
theorem u29_36 : ev d 29 36 lo st h = evS (mx_stI 2) d 29 37 lo st h := ev_s n29_36 rfl rfl
theorem n29_37 : mx_ins 29 37 = some ((.iload_n 1), 1) := mx_ins_of mi29 dX0_would_37 rfl
theorem u29_37 : ev d 29 37 lo st h = evS (mx_ldI 1) d 29 38 lo st h := ev_s n29_37 rfl rfl
theorem n29_38 : mx_ins 29 38 = some ((.tableswitch 79 0 3 #[30, 47, 55, 63]), 30) := mx_ins_of mi29 dX0_would_38 rfl
theorem u29_38 : ev d 29 38 lo st h = evTS d 29 [(0, 68), (1, 85), (2, 93), (3, 101)] 117 lo st h := ev_ts n29_38 rfl rfl
theorem n29_68 : mx_ins 29 68 = some ((.iload_n 2), 1) := mx_ins_of mi29 dX0_would_68 rfl
theorem u29_68 : ev d 29 68 lo st h = evS (mx_ldI 2) d 29 69 lo st h := ev_s n29_68 rfl rfl
theorem n29_69 : mx_ins 29 69 = some ((.ifCond .eq 13), 3) := mx_ins_of mi29 dX0_would_69 rfl
theorem u29_69 : ev d 29 69 lo st h = evJ .eq d 29 82 72 lo st h := ev_if n29_69 rfl rfl
theorem n29_72 : mx_ins 29 72 = some ((.aload_n 0), 1) := mx_ins_of mi29 dX0_would_72 rfl
theorem u29_72 : ev d 29 72 lo st h = evS (mx_ldA 0) d 29 73 lo st h := ev_s n29_72 rfl rfl
theorem n29_73 : mx_ins 29 73 = some ((.getfield 88), 3) := mx_ins_of mi29 dX0_would_73 rfl
theorem u29_73 : ev d 29 73 lo st h = evS (mx_gf 0 88) d 29 76 lo st h := ev_s n29_73 rfl rfl
theorem n29_76 : mx_ins 29 76 = some ((.getfield 286), 3) := mx_ins_of mi29 dX0_would_76 rfl
theorem u29_76 : ev d 29 76 lo st h = evS (mx_gf 0 286) d 29 79 lo st h := ev_s n29_76 rfl rfl
theorem n29_79 : mx_ins 29 79 = some ((.goto 5), 3) := mx_ins_of mi29 dX0_would_79 rfl
theorem u29_79 : ev d 29 79 lo st h = ev d 29 84 lo st h := ev_goto n29_79 rfl
theorem n29_82 : mx_ins 29 82 = some ((.bipush (-3)), 2) := mx_ins_of mi29 dX0_would_82 rfl
theorem u29_82 : ev d 29 82 lo st h = ev d 29 84 lo (.int (-3) :: st) h := (ev_s (f := mx_push (.int (-3))) n29_82 rfl rfl).trans es_push
theorem n29_84 : mx_ins 29 84 = some (.ireturn, 1) := mx_ins_of mi29 dX0_would_84 rfl
theorem u29_84 : ev d 29 84 lo st h = evI d 29 84 85 lo st h .ireturn := ev_u n29_84 rfl
theorem n29_85 : mx_ins 29 85 = some ((.aload_n 0), 1) := mx_ins_of mi29 dX0_would_85 rfl
theorem u29_85 : ev d 29 85 lo st h = evS (mx_ldA 0) d 29 86 lo st h := ev_s n29_85 rfl rfl
theorem n29_86 : mx_ins 29 86 = some ((.getfield 35), 3) := mx_ins_of mi29 dX0_would_86 rfl
theorem u29_86 : ev d 29 86 lo st h = evS (mx_gf 0 35) d 29 89 lo st h := ev_s n29_86 rfl rfl
theorem n29_89 : mx_ins 29 89 = some ((.invokevirtual 256), 3) := mx_ins_of mi29 dX0_would_89 rfl
theorem u29_89 : ev d 29 89 lo st h = evIn d 29 89 92 0 256 1 false lo st h := ev_inv n29_89 rfl rfl ow29 ia0_256
theorem n29_92 : mx_ins 29 92 = some (.ireturn, 1) := mx_ins_of mi29 dX0_would_92 rfl
theorem u29_92 : ev d 29 92 lo st h = evI d 29 92 93 lo st h .ireturn := ev_u n29_92 rfl
theorem n29_93 : mx_ins 29 93 = some ((.aload_n 0), 1) := mx_ins_of mi29 dX0_would_93 rfl
theorem u29_93 : ev d 29 93 lo st h = evS (mx_ldA 0) d 29 94 lo st h := ev_s n29_93 rfl rfl
theorem n29_94 : mx_ins 29 94 = some ((.getfield 35), 3) := mx_ins_of mi29 dX0_would_94 rfl
theorem u29_94 : ev d 29 94 lo st h = evS (mx_gf 0 35) d 29 97 lo st h := ev_s n29_94 rfl rfl
theorem n29_97 : mx_ins 29 97 = some ((.getfield 189), 3) := mx_ins_of mi29 dX0_would_97 rfl
theorem u29_97 : ev d 29 97 lo st h = evS (mx_gf 0 189) d 29 100 lo st h := ev_s n29_97 rfl rfl
theorem n29_100 : mx_ins 29 100 = some (.ireturn, 1) := mx_ins_of mi29 dX0_would_100 rfl
theorem u29_100 : ev d 29 100 lo st h = evI d 29 100 101 lo st h .ireturn := ev_u n29_100 rfl
theorem n29_101 : mx_ins 29 101 = some ((.aload_n 0), 1) := mx_ins_of mi29 dX0_would_101 rfl
theorem u29_101 : ev d 29 101 lo st h = evS (mx_ldA 0) d 29 102 lo st h := ev_s n29_101 rfl rfl
theorem n29_102 : mx_ins 29 102 = some ((.getfield 35), 3) := mx_ins_of mi29 dX0_would_102 rfl
theorem u29_102 : ev d 29 102 lo st h = evS (mx_gf 0 35) d 29 105 lo st h := ev_s n29_102 rfl rfl
theorem n29_105 : mx_ins 29 105 = some ((.invokevirtual 151), 3) := mx_ins_of mi29 dX0_would_105 rfl
theorem u29_105 : ev d 29 105 lo st h = evIn d 29 105 108 0 151 1 false lo st h := ev_inv n29_105 rfl rfl ow29 ia0_151
theorem n29_108 : mx_ins 29 108 = some ((.ifCond .eq 7), 3) := mx_ins_of mi29 dX0_would_108 rfl
theorem u29_108 : ev d 29 108 lo st h = evJ .eq d 29 115 111 lo st h := ev_if n29_108 rfl rfl
theorem n29_111 : mx_ins 29 111 = some ((.iconst 1), 1) := mx_ins_of mi29 dX0_would_111 rfl
theorem u29_111 : ev d 29 111 lo st h = ev d 29 112 lo (.int 1 :: st) h := (ev_s (f := mx_push (.int 1)) n29_111 rfl rfl).trans es_push
theorem n29_112 : mx_ins 29 112 = some ((.goto 4), 3) := mx_ins_of mi29 dX0_would_112 rfl
theorem u29_112 : ev d 29 112 lo st h = ev d 29 116 lo st h := ev_goto n29_112 rfl
theorem n29_115 : mx_ins 29 115 = some ((.iconst 0), 1) := mx_ins_of mi29 dX0_would_115 rfl
theorem u29_115 : ev d 29 115 lo st h = ev d 29 116 lo (.int 0 :: st) h := (ev_s (f := mx_push (.int 0)) n29_115 rfl rfl).trans es_push
theorem n29_116 : mx_ins 29 116 = some (.ireturn, 1) := mx_ins_of mi29 dX0_would_116 rfl
theorem u29_116 : ev d 29 116 lo st h = evI d 29 116 117 lo st h .ireturn := ev_u n29_116 rfl
theorem n29_117 : mx_ins 29 117 = some ((.aload_n 0), 1) := mx_ins_of mi29 dX0_would_117 rfl
theorem u29_117 : ev d 29 117 lo st h = evS (mx_ldA 0) d 29 118 lo st h := ev_s n29_117 rfl rfl
theorem n29_118 : mx_ins 29 118 = some ((.getfield 22), 3) := mx_ins_of mi29 dX0_would_118 rfl
theorem u29_118 : ev d 29 118 lo st h = evS (mx_gf 0 22) d 29 121 lo st h := ev_s n29_118 rfl rfl
theorem n29_121 : mx_ins 29 121 = some ((.getfield 238), 3) := mx_ins_of mi29 dX0_would_121 rfl
theorem u29_121 : ev d 29 121 lo st h = evS (mx_gf 0 238) d 29 124 lo st h := ev_s n29_121 rfl rfl
theorem n29_124 : mx_ins 29 124 = some ((.invokevirtual 256), 3) := mx_ins_of mi29 dX0_would_124 rfl
theorem u29_124 : ev d 29 124 lo st h = evIn d 29 124 127 0 256 1 false lo st h := ev_inv n29_124 rfl rfl ow29 ia0_256
theorem n29_127 : mx_ins 29 127 = some ((.aload_n 0), 1) := mx_ins_of mi29 dX0_would_127 rfl
theorem u29_127 : ev d 29 127 lo st h = evS (mx_ldA 0) d 29 128 lo st h := ev_s n29_127 rfl rfl
theorem n29_128 : mx_ins 29 128 = some ((.getfield 35), 3) := mx_ins_of mi29 dX0_would_128 rfl
theorem u29_128 : ev d 29 128 lo st h = evS (mx_gf 0 35) d 29 131 lo st h := ev_s n29_128 rfl rfl
theorem n29_131 : mx_ins 29 131 = some ((.invokevirtual 256), 3) := mx_ins_of mi29 dX0_would_131 rfl
theorem u29_131 : ev d 29 131 lo st h = evIn d 29 131 134 0 256 1 false lo st h := ev_inv n29_131 rfl rfl ow29 ia0_256
theorem n29_134 : mx_ins 29 134 = some ((.invokestatic 266), 3) := mx_ins_of mi29 dX0_would_134 rfl
theorem u29_134 : ev d 29 134 lo st h = evIn d 29 134 137 0 266 2 true lo st h := ev_inv n29_134 rfl rfl ow29 ia0_266
theorem n29_137 : mx_ins 29 137 = some (.ireturn, 1) := mx_ins_of mi29 dX0_would_137 rfl
theorem u29_137 : ev d 29 137 lo st h = evI d 29 137 138 lo st h .ireturn := ev_u n29_137 rfl
theorem mi30 : mx_mi 30 = some (yX0_lasts, cX0_lasts, 3, (Option.some Jvm.ClassFile.FieldType.int), 0, 2, []) := rfl
theorem ow30 : mx_own 30 = 0 := mx_mi_own mi30
theorem mm30 : mx_max 30 = 3 := mx_mi_max mi30
theorem rt30 : mx_ret 30 = (Option.some Jvm.ClassFile.FieldType.int) := mx_mi_ret mi30
theorem hn30 : mx_hnd 30 = [] := mx_mi_hnd mi30
theorem n30_0 : mx_ins 30 0 = some ((.iload_n 1), 1) := mx_ins_of mi30 dX0_lasts_0 rfl
theorem u30_0 : ev d 30 0 lo st h = evS (mx_ldI 1) d 30 1 lo st h := ev_s n30_0 rfl rfl
theorem n30_1 : mx_ins 30 1 = some ((.invokestatic 223), 3) := mx_ins_of mi30 dX0_lasts_1 rfl
theorem u30_1 : ev d 30 1 lo st h = evIn d 30 1 4 0 223 1 true lo st h := ev_inv n30_1 rfl rfl ow30 ia0_223
theorem n30_4 : mx_ins 30 4 = some ((.ifCond .ne 5), 3) := mx_ins_of mi30 dX0_lasts_4 rfl
theorem u30_4 : ev d 30 4 lo st h = evJ .ne d 30 9 7 lo st h := ev_if n30_4 rfl rfl
theorem n30_7 : mx_ins 30 7 = some ((.iconst (-1)), 1) := mx_ins_of mi30 dX0_lasts_7 rfl
theorem u30_7 : ev d 30 7 lo st h = ev d 30 8 lo (.int (-1) :: st) h := (ev_s (f := mx_push (.int (-1))) n30_7 rfl rfl).trans es_push
theorem n30_8 : mx_ins 30 8 = some (.ireturn, 1) := mx_ins_of mi30 dX0_lasts_8 rfl
theorem u30_8 : ev d 30 8 lo st h = evI d 30 8 9 lo st h .ireturn := ev_u n30_8 rfl
theorem n30_9 : mx_ins 30 9 = some ((.aload_n 0), 1) := mx_ins_of mi30 dX0_lasts_9 rfl
theorem u30_9 : ev d 30 9 lo st h = evS (mx_ldA 0) d 30 10 lo st h := ev_s n30_9 rfl rfl
theorem n30_10 : mx_ins 30 10 = some ((.getfield 35), 3) := mx_ins_of mi30 dX0_lasts_10 rfl
theorem u30_10 : ev d 30 10 lo st h = evS (mx_gf 0 35) d 30 13 lo st h := ev_s n30_10 rfl rfl
theorem n30_13 : mx_ins 30 13 = some ((.aload_n 0), 1) := mx_ins_of mi30 dX0_lasts_13 rfl
theorem u30_13 : ev d 30 13 lo st h = evS (mx_ldA 0) d 30 14 lo st h := ev_s n30_13 rfl rfl
theorem n30_14 : mx_ins 30 14 = some ((.getfield 22), 3) := mx_ins_of mi30 dX0_lasts_14 rfl
theorem u30_14 : ev d 30 14 lo st h = evS (mx_gf 0 22) d 30 17 lo st h := ev_s n30_14 rfl rfl
theorem n30_17 : mx_ins 30 17 = some ((.getfield 238), 3) := mx_ins_of mi30 dX0_lasts_17 rfl
theorem u30_17 : ev d 30 17 lo st h = evS (mx_gf 0 238) d 30 20 lo st h := ev_s n30_17 rfl rfl
theorem n30_20 : mx_ins 30 20 = some ((.invokevirtual 289), 3) := mx_ins_of mi30 dX0_lasts_20 rfl
theorem u30_20 : ev d 30 20 lo st h = evIn d 30 20 23 0 289 2 false lo st h := ev_inv n30_20 rfl rfl ow30 ia0_289
theorem n30_23 : mx_ins 30 23 = some ((.aload_n 0), 1) := mx_ins_of mi30 dX0_lasts_23 rfl
theorem u30_23 : ev d 30 23 lo st h = evS (mx_ldA 0) d 30 24 lo st h := ev_s n30_23 rfl rfl
theorem n30_24 : mx_ins 30 24 = some ((.getfield 35), 3) := mx_ins_of mi30 dX0_lasts_24 rfl
theorem u30_24 : ev d 30 24 lo st h = evS (mx_gf 0 35) d 30 27 lo st h := ev_s n30_24 rfl rfl
theorem n30_27 : mx_ins 30 27 = some ((.iload_n 1), 1) := mx_ins_of mi30 dX0_lasts_27 rfl
theorem u30_27 : ev d 30 27 lo st h = evS (mx_ldI 1) d 30 28 lo st h := ev_s n30_27 rfl rfl
theorem n30_28 : mx_ins 30 28 = some ((.putfield 159), 3) := mx_ins_of mi30 dX0_lasts_28 rfl
theorem u30_28 : ev d 30 28 lo st h = evS (mx_pf 0 159 false) d 30 31 lo st h := ev_s n30_28 rfl rfl
theorem n30_31 : mx_ins 30 31 = some ((.iconst 0), 1) := mx_ins_of mi30 dX0_lasts_31 rfl
theorem u30_31 : ev d 30 31 lo st h = ev d 30 32 lo (.int 0 :: st) h := (ev_s (f := mx_push (.int 0)) n30_31 rfl rfl).trans es_push
theorem n30_32 : mx_ins 30 32 = some ((.istore_n 2), 1) := mx_ins_of mi30 dX0_lasts_32 rfl
theorem u30_32 : ev d 30 32 lo st h = evS (mx_stI 2) d 30 33 lo st h := ev_s n30_32 rfl rfl
theorem n30_33 : mx_ins 30 33 = some ((.aload_n 0), 1) := mx_ins_of mi30 dX0_lasts_33 rfl
theorem u30_33 : ev d 30 33 lo st h = evS (mx_ldA 0) d 30 34 lo st h := ev_s n30_33 rfl rfl
theorem n30_34 : mx_ins 30 34 = some ((.getfield 35), 3) := mx_ins_of mi30 dX0_lasts_34 rfl
theorem u30_34 : ev d 30 34 lo st h = evS (mx_gf 0 35) d 30 37 lo st h := ev_s n30_34 rfl rfl
theorem n30_37 : mx_ins 30 37 = some ((.getfield 155), 3) := mx_ins_of mi30 dX0_lasts_37 rfl
theorem u30_37 : ev d 30 37 lo st h = evS (mx_gf 0 155) d 30 40 lo st h := ev_s n30_37 rfl rfl
theorem n30_40 : mx_ins 30 40 = some ((.bipush 24), 2) := mx_ins_of mi30 dX0_lasts_40 rfl
theorem u30_40 : ev d 30 40 lo st h = ev d 30 42 lo (.int 24 :: st) h := (ev_s (f := mx_push (.int 24)) n30_40 rfl rfl).trans es_push
theorem n30_42 : mx_ins 30 42 = some ((.if_icmp .ge 42), 3) := mx_ins_of mi30 dX0_lasts_42 rfl
theorem u30_42 : ev d 30 42 lo st h = evK .ge d 30 84 45 lo st h := ev_ic n30_42 rfl rfl
theorem n30_45 : mx_ins 30 45 = some ((.aload_n 0), 1) := mx_ins_of mi30 dX0_lasts_45 rfl
theorem u30_45 : ev d 30 45 lo st h = evS (mx_ldA 0) d 30 46 lo st h := ev_s n30_45 rfl rfl
theorem n30_46 : mx_ins 30 46 = some ((.getfield 35), 3) := mx_ins_of mi30 dX0_lasts_46 rfl
theorem u30_46 : ev d 30 46 lo st h = evS (mx_gf 0 35) d 30 49 lo st h := ev_s n30_46 rfl rfl
theorem n30_49 : mx_ins 30 49 = some ((.invokevirtual 151), 3) := mx_ins_of mi30 dX0_lasts_49 rfl
theorem u30_49 : ev d 30 49 lo st h = evIn d 30 49 52 0 151 1 false lo st h := ev_inv n30_49 rfl rfl ow30 ia0_151
theorem n30_52 : mx_ins 30 52 = some ((.ifCond .eq 32), 3) := mx_ins_of mi30 dX0_lasts_52 rfl
theorem u30_52 : ev d 30 52 lo st h = evJ .eq d 30 84 55 lo st h := ev_if n30_52 rfl rfl
theorem n30_55 : mx_ins 30 55 = some ((.aload_n 0), 1) := mx_ins_of mi30 dX0_lasts_55 rfl
theorem u30_55 : ev d 30 55 lo st h = evS (mx_ldA 0) d 30 56 lo st h := ev_s n30_55 rfl rfl
theorem n30_56 : mx_ins 30 56 = some ((.aload_n 0), 1) := mx_ins_of mi30 dX0_lasts_56 rfl
theorem u30_56 : ev d 30 56 lo st h = evS (mx_ldA 0) d 30 57 lo st h := ev_s n30_56 rfl rfl
theorem n30_57 : mx_ins 30 57 = some ((.getfield 35), 3) := mx_ins_of mi30 dX0_lasts_57 rfl
theorem u30_57 : ev d 30 57 lo st h = evS (mx_gf 0 35) d 30 60 lo st h := ev_s n30_57 rfl rfl
theorem n30_60 : mx_ins 30 60 = some ((.invokevirtual 262), 3) := mx_ins_of mi30 dX0_lasts_60 rfl
theorem u30_60 : ev d 30 60 lo st h = evIn d 30 60 63 0 262 2 false lo st h := ev_inv n30_60 rfl rfl ow30 ia0_262
theorem n30_63 : mx_ins 30 63 = some ((.iload_n 2), 1) := mx_ins_of mi30 dX0_lasts_63 rfl
theorem u30_63 : ev d 30 63 lo st h = evS (mx_ldI 2) d 30 64 lo st h := ev_s n30_63 rfl rfl
theorem n30_64 : mx_ins 30 64 = some ((.aload_n 0), 1) := mx_ins_of mi30 dX0_lasts_64 rfl
theorem u30_64 : ev d 30 64 lo st h = evS (mx_ldA 0) d 30 65 lo st h := ev_s n30_64 rfl rfl
theorem n30_65 : mx_ins 30 65 = some ((.getfield 35), 3) := mx_ins_of mi30 dX0_lasts_65 rfl
theorem u30_65 : ev d 30 65 lo st h = evS (mx_gf 0 35) d 30 68 lo st h := ev_s n30_65 rfl rfl
theorem n30_68 : mx_ins 30 68 = some ((.invokevirtual 151), 3) := mx_ins_of mi30 dX0_lasts_68 rfl
theorem u30_68 : ev d 30 68 lo st h = evIn d 30 68 71 0 151 1 false lo st h := ev_inv n30_68 rfl rfl ow30 ia0_151
theorem n30_71 : mx_ins 30 71 = some ((.ifCond .eq 7), 3) := mx_ins_of mi30 dX0_lasts_71 rfl
theorem u30_71 : ev d 30 71 lo st h = evJ .eq d 30 78 74 lo st h := ev_if n30_71 rfl rfl
theorem n30_74 : mx_ins 30 74 = some ((.iconst 1), 1) := mx_ins_of mi30 dX0_lasts_74 rfl
theorem u30_74 : ev d 30 74 lo st h = ev d 30 75 lo (.int 1 :: st) h := (ev_s (f := mx_push (.int 1)) n30_74 rfl rfl).trans es_push
theorem n30_75 : mx_ins 30 75 = some ((.goto 4), 3) := mx_ins_of mi30 dX0_lasts_75 rfl
theorem u30_75 : ev d 30 75 lo st h = ev d 30 79 lo st h := ev_goto n30_75 rfl
theorem n30_78 : mx_ins 30 78 = some ((.iconst 0), 1) := mx_ins_of mi30 dX0_lasts_78 rfl
theorem u30_78 : ev d 30 78 lo st h = ev d 30 79 lo (.int 0 :: st) h := (ev_s (f := mx_push (.int 0)) n30_78 rfl rfl).trans es_push
theorem n30_79 : mx_ins 30 79 = some (.iadd, 1) := mx_ins_of mi30 dX0_lasts_79 rfl
theorem u30_79 : ev d 30 79 lo st h = evI d 30 79 80 lo st h .iadd := ev_u n30_79 rfl
theorem n30_80 : mx_ins 30 80 = some ((.istore_n 2), 1) := mx_ins_of mi30 dX0_lasts_80 rfl
theorem u30_80 : ev d 30 80 lo st h = evS (mx_stI 2) d 30 81 lo st h := ev_s n30_80 rfl rfl
theorem n30_81 : mx_ins 30 81 = some ((.goto (-48)), 3) := mx_ins_of mi30 dX0_lasts_81 rfl
theorem u30_81 : ev d 30 81 lo st h = ev d 30 33 lo st h := ev_goto n30_81 rfl
theorem n30_84 : mx_ins 30 84 = some ((.iload_n 2), 1) := mx_ins_of mi30 dX0_lasts_84 rfl
theorem u30_84 : ev d 30 84 lo st h = evS (mx_ldI 2) d 30 85 lo st h := ev_s n30_84 rfl rfl
theorem n30_85 : mx_ins 30 85 = some (.ireturn, 1) := mx_ins_of mi30 dX0_lasts_85 rfl
theorem u30_85 : ev d 30 85 lo st h = evI d 30 85 86 lo st h .ireturn := ev_u n30_85 rfl
theorem mi31 : mx_mi 31 = some (yX0_best, cX0_best, 4, (Option.some Jvm.ClassFile.FieldType.int), 0, 3, []) := rfl
theorem ow31 : mx_own 31 = 0 := mx_mi_own mi31
theorem mm31 : mx_max 31 = 4 := mx_mi_max mi31
theorem rt31 : mx_ret 31 = (Option.some Jvm.ClassFile.FieldType.int) := mx_mi_ret mi31
theorem hn31 : mx_hnd 31 = [] := mx_mi_hnd mi31
theorem n31_0 : mx_ins 31 0 = some ((.iload_n 1), 1) := mx_ins_of mi31 dX0_best_0 rfl
theorem u31_0 : ev d 31 0 lo st h = evS (mx_ldI 1) d 31 1 lo st h := ev_s n31_0 rfl rfl
theorem n31_1 : mx_ins 31 1 = some ((.iconst 1), 1) := mx_ins_of mi31 dX0_best_1 rfl
theorem u31_1 : ev d 31 1 lo st h = ev d 31 2 lo (.int 1 :: st) h := (ev_s (f := mx_push (.int 1)) n31_1 rfl rfl).trans es_push
theorem n31_2 : mx_ins 31 2 = some ((.iconst 5), 1) := mx_ins_of mi31 dX0_best_2 rfl
theorem u31_2 : ev d 31 2 lo st h = ev d 31 3 lo (.int 5 :: st) h := (ev_s (f := mx_push (.int 5)) n31_2 rfl rfl).trans es_push
theorem n31_3 : mx_ins 31 3 = some ((.invokestatic 143), 3) := mx_ins_of mi31 dX0_best_3 rfl
theorem u31_3 : ev d 31 3 lo st h = evIn d 31 3 6 0 143 3 true lo st h := ev_inv n31_3 rfl rfl ow31 ia0_143
theorem n31_6 : mx_ins 31 6 = some ((.ifCond .eq 29), 3) := mx_ins_of mi31 dX0_best_6 rfl
theorem u31_6 : ev d 31 6 lo st h = evJ .eq d 31 35 9 lo st h := ev_if n31_6 rfl rfl
theorem n31_9 : mx_ins 31 9 = some ((.iload_n 1), 1) := mx_ins_of mi31 dX0_best_9 rfl
theorem u31_9 : ev d 31 9 lo st h = evS (mx_ldI 1) d 31 10 lo st h := ev_s n31_9 rfl rfl
theorem n31_10 : mx_ins 31 10 = some ((.bipush 24), 2) := mx_ins_of mi31 dX0_best_10 rfl
theorem u31_10 : ev d 31 10 lo st h = ev d 31 12 lo (.int 24 :: st) h := (ev_s (f := mx_push (.int 24)) n31_10 rfl rfl).trans es_push
theorem n31_12 : mx_ins 31 12 = some ((.aload_n 0), 1) := mx_ins_of mi31 dX0_best_12 rfl
theorem u31_12 : ev d 31 12 lo st h = evS (mx_ldA 0) d 31 13 lo st h := ev_s n31_12 rfl rfl
theorem n31_13 : mx_ins 31 13 = some ((.getfield 22), 3) := mx_ins_of mi31 dX0_best_13 rfl
theorem u31_13 : ev d 31 13 lo st h = evS (mx_gf 0 22) d 31 16 lo st h := ev_s n31_13 rfl rfl
theorem n31_16 : mx_ins 31 16 = some ((.getfield 238), 3) := mx_ins_of mi31 dX0_best_16 rfl
theorem u31_16 : ev d 31 16 lo st h = evS (mx_gf 0 238) d 31 19 lo st h := ev_s n31_16 rfl rfl
theorem n31_19 : mx_ins 31 19 = some ((.getfield 155), 3) := mx_ins_of mi31 dX0_best_19 rfl
theorem u31_19 : ev d 31 19 lo st h = evS (mx_gf 0 155) d 31 22 lo st h := ev_s n31_19 rfl rfl
theorem n31_22 : mx_ins 31 22 = some (.isub, 1) := mx_ins_of mi31 dX0_best_22 rfl
theorem u31_22 : ev d 31 22 lo st h = evI d 31 22 23 lo st h .isub := ev_u n31_22 rfl
theorem n31_23 : mx_ins 31 23 = some ((.if_icmp .gt 12), 3) := mx_ins_of mi31 dX0_best_23 rfl
theorem u31_23 : ev d 31 23 lo st h = evK .gt d 31 35 26 lo st h := ev_ic n31_23 rfl rfl
theorem n31_26 : mx_ins 31 26 = some ((.iload_n 2), 1) := mx_ins_of mi31 dX0_best_26 rfl
theorem u31_26 : ev d 31 26 lo st h = evS (mx_ldI 2) d 31 27 lo st h := ev_s n31_26 rfl rfl
theorem n31_27 : mx_ins 31 27 = some ((.iconst 0), 1) := mx_ins_of mi31 dX0_best_27 rfl
theorem u31_27 : ev d 31 27 lo st h = ev d 31 28 lo (.int 0 :: st) h := (ev_s (f := mx_push (.int 0)) n31_27 rfl rfl).trans es_push
theorem n31_28 : mx_ins 31 28 = some ((.iconst 2), 1) := mx_ins_of mi31 dX0_best_28 rfl
theorem u31_28 : ev d 31 28 lo st h = ev d 31 29 lo (.int 2 :: st) h := (ev_s (f := mx_push (.int 2)) n31_28 rfl rfl).trans es_push
theorem n31_29 : mx_ins 31 29 = some ((.invokestatic 143), 3) := mx_ins_of mi31 dX0_best_29 rfl
theorem u31_29 : ev d 31 29 lo st h = evIn d 31 29 32 0 143 3 true lo st h := ev_inv n31_29 rfl rfl ow31 ia0_143
theorem n31_32 : mx_ins 31 32 = some ((.ifCond .ne 5), 3) := mx_ins_of mi31 dX0_best_32 rfl
theorem u31_32 : ev d 31 32 lo st h = evJ .ne d 31 37 35 lo st h := ev_if n31_32 rfl rfl
theorem n31_35 : mx_ins 31 35 = some ((.iconst (-1)), 1) := mx_ins_of mi31 dX0_best_35 rfl
theorem u31_35 : ev d 31 35 lo st h = ev d 31 36 lo (.int (-1) :: st) h := (ev_s (f := mx_push (.int (-1))) n31_35 rfl rfl).trans es_push
theorem n31_36 : mx_ins 31 36 = some (.ireturn, 1) := mx_ins_of mi31 dX0_best_36 rfl
theorem u31_36 : ev d 31 36 lo st h = evI d 31 36 37 lo st h .ireturn := ev_u n31_36 rfl
theorem n31_37 : mx_ins 31 37 = some ((.aload_n 0), 1) := mx_ins_of mi31 dX0_best_37 rfl
theorem u31_37 : ev d 31 37 lo st h = evS (mx_ldA 0) d 31 38 lo st h := ev_s n31_37 rfl rfl
theorem n31_38 : mx_ins 31 38 = some ((.bipush (-3)), 2) := mx_ins_of mi31 dX0_best_38 rfl
theorem u31_38 : ev d 31 38 lo st h = ev d 31 40 lo (.int (-3) :: st) h := (ev_s (f := mx_push (.int (-3))) n31_38 rfl rfl).trans es_push
theorem n31_40 : mx_ins 31 40 = some ((.putfield 292), 3) := mx_ins_of mi31 dX0_best_40 rfl
theorem u31_40 : ev d 31 40 lo st h = evS (mx_pf 0 292 false) d 31 43 lo st h := ev_s n31_40 rfl rfl
theorem n31_43 : mx_ins 31 43 = some ((.iconst 0), 1) := mx_ins_of mi31 dX0_best_43 rfl
theorem u31_43 : ev d 31 43 lo st h = ev d 31 44 lo (.int 0 :: st) h := (ev_s (f := mx_push (.int 0)) n31_43 rfl rfl).trans es_push
theorem n31_44 : mx_ins 31 44 = some ((.istore_n 3), 1) := mx_ins_of mi31 dX0_best_44 rfl
theorem u31_44 : ev d 31 44 lo st h = evS (mx_stI 3) d 31 45 lo st h := ev_s n31_44 rfl rfl
theorem n31_45 : mx_ins 31 45 = some ((.iload_n 3), 1) := mx_ins_of mi31 dX0_best_45 rfl
theorem u31_45 : ev d 31 45 lo st h = evS (mx_ldI 3) d 31 46 lo st h := ev_s n31_45 rfl rfl
theorem n31_46 : mx_ins 31 46 = some ((.iconst 1), 1) := mx_ins_of mi31 dX0_best_46 rfl
theorem u31_46 : ev d 31 46 lo st h = ev d 31 47 lo (.int 1 :: st) h := (ev_s (f := mx_push (.int 1)) n31_46 rfl rfl).trans es_push
theorem n31_47 : mx_ins 31 47 = some ((.iconst 2), 1) := mx_ins_of mi31 dX0_best_47 rfl
theorem u31_47 : ev d 31 47 lo st h = ev d 31 48 lo (.int 2 :: st) h := (ev_s (f := mx_push (.int 2)) n31_47 rfl rfl).trans es_push
theorem n31_48 : mx_ins 31 48 = some ((.iload_n 1), 1) := mx_ins_of mi31 dX0_best_48 rfl
theorem u31_48 : ev d 31 48 lo st h = evS (mx_ldI 1) d 31 49 lo st h := ev_s n31_48 rfl rfl
theorem n31_49 : mx_ins 31 49 = some (.imul, 1) := mx_ins_of mi31 dX0_best_49 rfl
theorem u31_49 : ev d 31 49 lo st h = evI d 31 49 50 lo st h .imul := ev_u n31_49 rfl
theorem n31_50 : mx_ins 31 50 = some (.ishl, 1) := mx_ins_of mi31 dX0_best_50 rfl
theorem u31_50 : ev d 31 50 lo st h = evI d 31 50 51 lo st h .ishl := ev_u n31_50 rfl
theorem n31_51 : mx_ins 31 51 = some ((.if_icmp .ge 15), 3) := mx_ins_of mi31 dX0_best_51 rfl
theorem u31_51 : ev d 31 51 lo st h = evK .ge d 31 66 54 lo st h := ev_ic n31_51 rfl rfl
theorem n31_54 : mx_ins 31 54 = some ((.aload_n 0), 1) := mx_ins_of mi31 dX0_best_54 rfl
theorem u31_54 : ev d 31 54 lo st h = evS (mx_ldA 0) d 31 55 lo st h := ev_s n31_54 rfl rfl
theorem n31_55 : mx_ins 31 55 = some ((.iload_n 1), 1) := mx_ins_of mi31 dX0_best_55 rfl
theorem u31_55 : ev d 31 55 lo st h = evS (mx_ldI 1) d 31 56 lo st h := ev_s n31_55 rfl rfl
theorem n31_56 : mx_ins 31 56 = some ((.iload_n 3), 1) := mx_ins_of mi31 dX0_best_56 rfl
theorem u31_56 : ev d 31 56 lo st h = evS (mx_ldI 3) d 31 57 lo st h := ev_s n31_56 rfl rfl
theorem n31_57 : mx_ins 31 57 = some ((.invokevirtual 301), 3) := mx_ins_of mi31 dX0_best_57 rfl
theorem u31_57 : ev d 31 57 lo st h = evIn d 31 57 60 0 301 3 false lo st h := ev_inv n31_57 rfl rfl ow31 ia0_301
theorem n31_60 : mx_ins 31 60 = some ((.iinc 3 1), 3) := mx_ins_of mi31 dX0_best_60 rfl
theorem u31_60 : ev d 31 60 lo st h = evS (mx_inc 3 (1)) d 31 63 lo st h := ev_s n31_60 rfl rfl
theorem n31_63 : mx_ins 31 63 = some ((.goto (-18)), 3) := mx_ins_of mi31 dX0_best_63 rfl
theorem u31_63 : ev d 31 63 lo st h = ev d 31 45 lo st h := ev_goto n31_63 rfl
theorem n31_66 : mx_ins 31 66 = some ((.aload_n 0), 1) := mx_ins_of mi31 dX0_best_66 rfl
theorem u31_66 : ev d 31 66 lo st h = evS (mx_ldA 0) d 31 67 lo st h := ev_s n31_66 rfl rfl
theorem n31_67 : mx_ins 31 67 = some ((.getfield 292), 3) := mx_ins_of mi31 dX0_best_67 rfl
theorem u31_67 : ev d 31 67 lo st h = evS (mx_gf 0 292) d 31 70 lo st h := ev_s n31_67 rfl rfl
theorem n31_70 : mx_ins 31 70 = some ((.ifCond .ge 8), 3) := mx_ins_of mi31 dX0_best_70 rfl
theorem u31_70 : ev d 31 70 lo st h = evJ .ge d 31 78 73 lo st h := ev_if n31_70 rfl rfl
theorem n31_73 : mx_ins 31 73 = some ((.bipush (-3)), 2) := mx_ins_of mi31 dX0_best_73 rfl
theorem u31_73 : ev d 31 73 lo st h = ev d 31 75 lo (.int (-3) :: st) h := (ev_s (f := mx_push (.int (-3))) n31_73 rfl rfl).trans es_push
theorem n31_75 : mx_ins 31 75 = some ((.goto 30), 3) := mx_ins_of mi31 dX0_best_75 rfl
theorem u31_75 : ev d 31 75 lo st h = ev d 31 105 lo st h := ev_goto n31_75 rfl
theorem n31_78 : mx_ins 31 78 = some ((.iload_n 2), 1) := mx_ins_of mi31 dX0_best_78 rfl
theorem u31_78 : ev d 31 78 lo st h = evS (mx_ldI 2) d 31 79 lo st h := ev_s n31_78 rfl rfl
theorem n31_79 : mx_ins 31 79 = some ((.ifCond .ne 10), 3) := mx_ins_of mi31 dX0_best_79 rfl
theorem u31_79 : ev d 31 79 lo st h = evJ .ne d 31 89 82 lo st h := ev_if n31_79 rfl rfl
theorem n31_82 : mx_ins 31 82 = some ((.aload_n 0), 1) := mx_ins_of mi31 dX0_best_82 rfl
theorem u31_82 : ev d 31 82 lo st h = evS (mx_ldA 0) d 31 83 lo st h := ev_s n31_82 rfl rfl
theorem n31_83 : mx_ins 31 83 = some ((.getfield 298), 3) := mx_ins_of mi31 dX0_best_83 rfl
theorem u31_83 : ev d 31 83 lo st h = evS (mx_gf 0 298) d 31 86 lo st h := ev_s n31_83 rfl rfl
theorem n31_86 : mx_ins 31 86 = some ((.goto 19), 3) := mx_ins_of mi31 dX0_best_86 rfl
theorem u31_86 : ev d 31 86 lo st h = ev d 31 105 lo st h := ev_goto n31_86 rfl
theorem n31_89 : mx_ins 31 89 = some ((.iload_n 2), 1) := mx_ins_of mi31 dX0_best_89 rfl
theorem u31_89 : ev d 31 89 lo st h = evS (mx_ldI 2) d 31 90 lo st h := ev_s n31_89 rfl rfl
theorem n31_90 : mx_ins 31 90 = some ((.iconst 1), 1) := mx_ins_of mi31 dX0_best_90 rfl
theorem u31_90 : ev d 31 90 lo st h = ev d 31 91 lo (.int 1 :: st) h := (ev_s (f := mx_push (.int 1)) n31_90 rfl rfl).trans es_push
theorem n31_91 : mx_ins 31 91 = some ((.if_icmp .ne 10), 3) := mx_ins_of mi31 dX0_best_91 rfl
theorem u31_91 : ev d 31 91 lo st h = evK .ne d 31 101 94 lo st h := ev_ic n31_91 rfl rfl
theorem n31_94 : mx_ins 31 94 = some ((.aload_n 0), 1) := mx_ins_of mi31 dX0_best_94 rfl
theorem u31_94 : ev d 31 94 lo st h = evS (mx_ldA 0) d 31 95 lo st h := ev_s n31_94 rfl rfl
theorem n31_95 : mx_ins 31 95 = some ((.getfield 295), 3) := mx_ins_of mi31 dX0_best_95 rfl
theorem u31_95 : ev d 31 95 lo st h = evS (mx_gf 0 295) d 31 98 lo st h := ev_s n31_95 rfl rfl
theorem n31_98 : mx_ins 31 98 = some ((.goto 7), 3) := mx_ins_of mi31 dX0_best_98 rfl
theorem u31_98 : ev d 31 98 lo st h = ev d 31 105 lo st h := ev_goto n31_98 rfl
theorem n31_101 : mx_ins 31 101 = some ((.aload_n 0), 1) := mx_ins_of mi31 dX0_best_101 rfl
theorem u31_101 : ev d 31 101 lo st h = evS (mx_ldA 0) d 31 102 lo st h := ev_s n31_101 rfl rfl
theorem n31_102 : mx_ins 31 102 = some ((.getfield 292), 3) := mx_ins_of mi31 dX0_best_102 rfl
theorem u31_102 : ev d 31 102 lo st h = evS (mx_gf 0 292) d 31 105 lo st h := ev_s n31_102 rfl rfl
theorem n31_105 : mx_ins 31 105 = some (.ireturn, 1) := mx_ins_of mi31 dX0_best_105 rfl
theorem u31_105 : ev d 31 105 lo st h = evI d 31 105 106 lo st h .ireturn := ev_u n31_105 rfl
theorem mi32 : mx_mi 32 = some (yX0_tries, cX0_tries, 6, (none : Option FieldType), 0, 3, []) := rfl
theorem ow32 : mx_own 32 = 0 := mx_mi_own mi32
theorem mm32 : mx_max 32 = 6 := mx_mi_max mi32
theorem rt32 : mx_ret 32 = (none : Option FieldType) := mx_mi_ret mi32
theorem hn32 : mx_hnd 32 = [] := mx_mi_hnd mi32
theorem n32_0 : mx_ins 32 0 = some ((.aload_n 0), 1) := mx_ins_of mi32 dX0_tries_0 rfl
theorem u32_0 : ev d 32 0 lo st h = evS (mx_ldA 0) d 32 1 lo st h := ev_s n32_0 rfl rfl
theorem n32_1 : mx_ins 32 1 = some ((.getfield 35), 3) := mx_ins_of mi32 dX0_tries_1 rfl
theorem u32_1 : ev d 32 1 lo st h = evS (mx_gf 0 35) d 32 4 lo st h := ev_s n32_1 rfl rfl
theorem n32_4 : mx_ins 32 4 = some ((.aload_n 0), 1) := mx_ins_of mi32 dX0_tries_4 rfl
theorem u32_4 : ev d 32 4 lo st h = evS (mx_ldA 0) d 32 5 lo st h := ev_s n32_4 rfl rfl
theorem n32_5 : mx_ins 32 5 = some ((.getfield 22), 3) := mx_ins_of mi32 dX0_tries_5 rfl
theorem u32_5 : ev d 32 5 lo st h = evS (mx_gf 0 22) d 32 8 lo st h := ev_s n32_5 rfl rfl
theorem n32_8 : mx_ins 32 8 = some ((.getfield 238), 3) := mx_ins_of mi32 dX0_tries_8 rfl
theorem u32_8 : ev d 32 8 lo st h = evS (mx_gf 0 238) d 32 11 lo st h := ev_s n32_8 rfl rfl
theorem n32_11 : mx_ins 32 11 = some ((.invokevirtual 289), 3) := mx_ins_of mi32 dX0_tries_11 rfl
theorem u32_11 : ev d 32 11 lo st h = evIn d 32 11 14 0 289 2 false lo st h := ev_inv n32_11 rfl rfl ow32 ia0_289
theorem n32_14 : mx_ins 32 14 = some ((.iconst 0), 1) := mx_ins_of mi32 dX0_tries_14 rfl
theorem u32_14 : ev d 32 14 lo st h = ev d 32 15 lo (.int 0 :: st) h := (ev_s (f := mx_push (.int 0)) n32_14 rfl rfl).trans es_push
theorem n32_15 : mx_ins 32 15 = some ((.istore_n 3), 1) := mx_ins_of mi32 dX0_tries_15 rfl
theorem u32_15 : ev d 32 15 lo st h = evS (mx_stI 3) d 32 16 lo st h := ev_s n32_15 rfl rfl
theorem n32_16 : mx_ins 32 16 = some ((.iconst 0), 1) := mx_ins_of mi32 dX0_tries_16 rfl
theorem u32_16 : ev d 32 16 lo st h = ev d 32 17 lo (.int 0 :: st) h := (ev_s (f := mx_push (.int 0)) n32_16 rfl rfl).trans es_push
theorem n32_17 : mx_ins 32 17 = some ((.istore 4), 2) := mx_ins_of mi32 dX0_tries_17 rfl
theorem u32_17 : ev d 32 17 lo st h = evS (mx_stI 4) d 32 19 lo st h := ev_s n32_17 rfl rfl
theorem n32_19 : mx_ins 32 19 = some ((.iload 4), 2) := mx_ins_of mi32 dX0_tries_19 rfl
theorem u32_19 : ev d 32 19 lo st h = evS (mx_ldI 4) d 32 21 lo st h := ev_s n32_19 rfl rfl
theorem n32_21 : mx_ins 32 21 = some ((.iload_n 1), 1) := mx_ins_of mi32 dX0_tries_21 rfl
theorem u32_21 : ev d 32 21 lo st h = evS (mx_ldI 1) d 32 22 lo st h := ev_s n32_21 rfl rfl
theorem n32_22 : mx_ins 32 22 = some ((.if_icmp .ge 50), 3) := mx_ins_of mi32 dX0_tries_22 rfl
theorem u32_22 : ev d 32 22 lo st h = evK .ge d 32 72 25 lo st h := ev_ic n32_22 rfl rfl
theorem n32_25 : mx_ins 32 25 = some ((.iload_n 2), 1) := mx_ins_of mi32 dX0_tries_25 rfl
theorem u32_25 : ev d 32 25 lo st h = evS (mx_ldI 2) d 32 26 lo st h := ev_s n32_25 rfl rfl
theorem n32_26 : mx_ins 32 26 = some ((.iconst 2), 1) := mx_ins_of mi32 dX0_tries_26 rfl
theorem u32_26 : ev d 32 26 lo st h = ev d 32 27 lo (.int 2 :: st) h := (ev_s (f := mx_push (.int 2)) n32_26 rfl rfl).trans es_push
theorem n32_27 : mx_ins 32 27 = some ((.iload_n 1), 1) := mx_ins_of mi32 dX0_tries_27 rfl
theorem u32_27 : ev d 32 27 lo st h = evS (mx_ldI 1) d 32 28 lo st h := ev_s n32_27 rfl rfl
theorem n32_28 : mx_ins 32 28 = some ((.iconst 1), 1) := mx_ins_of mi32 dX0_tries_28 rfl
theorem u32_28 : ev d 32 28 lo st h = ev d 32 29 lo (.int 1 :: st) h := (ev_s (f := mx_push (.int 1)) n32_28 rfl rfl).trans es_push
theorem n32_29 : mx_ins 32 29 = some (.isub, 1) := mx_ins_of mi32 dX0_tries_29 rfl
theorem u32_29 : ev d 32 29 lo st h = evI d 32 29 30 lo st h .isub := ev_u n32_29 rfl
theorem n32_30 : mx_ins 32 30 = some ((.iload 4), 2) := mx_ins_of mi32 dX0_tries_30 rfl
theorem u32_30 : ev d 32 30 lo st h = evS (mx_ldI 4) d 32 32 lo st h := ev_s n32_30 rfl rfl
theorem n32_32 : mx_ins 32 32 = some (.isub, 1) := mx_ins_of mi32 dX0_tries_32 rfl
theorem u32_32 : ev d 32 32 lo st h = evI d 32 32 33 lo st h .isub := ev_u n32_32 rfl
theorem n32_33 : mx_ins 32 33 = some (.imul, 1) := mx_ins_of mi32 dX0_tries_33 rfl
theorem u32_33 : ev d 32 33 lo st h = evI d 32 33 34 lo st h .imul := ev_u n32_33 rfl
theorem n32_34 : mx_ins 32 34 = some (.ishr, 1) := mx_ins_of mi32 dX0_tries_34 rfl
theorem u32_34 : ev d 32 34 lo st h = evI d 32 34 35 lo st h .ishr := ev_u n32_34 rfl
theorem n32_35 : mx_ins 32 35 = some ((.iconst 3), 1) := mx_ins_of mi32 dX0_tries_35 rfl
theorem u32_35 : ev d 32 35 lo st h = ev d 32 36 lo (.int 3 :: st) h := (ev_s (f := mx_push (.int 3)) n32_35 rfl rfl).trans es_push
theorem n32_36 : mx_ins 32 36 = some (.iand, 1) := mx_ins_of mi32 dX0_tries_36 rfl
theorem u32_36 : ev d 32 36 lo st h = evI d 32 36 37 lo st h .iand := ev_u n32_36 rfl
theorem n32_37 : mx_ins 32 37 = some ((.istore 5), 2) := mx_ins_of mi32 dX0_tries_37 rfl
theorem u32_37 : ev d 32 37 lo st h = evS (mx_stI 5) d 32 39 lo st h := ev_s n32_37 rfl rfl
theorem n32_39 : mx_ins 32 39 = some ((.iload_n 3), 1) := mx_ins_of mi32 dX0_tries_39 rfl
theorem u32_39 : ev d 32 39 lo st h = evS (mx_ldI 3) d 32 40 lo st h := ev_s n32_39 rfl rfl
theorem n32_40 : mx_ins 32 40 = some ((.iload 5), 2) := mx_ins_of mi32 dX0_tries_40 rfl
theorem u32_40 : ev d 32 40 lo st h = evS (mx_ldI 5) d 32 42 lo st h := ev_s n32_40 rfl rfl
theorem n32_42 : mx_ins 32 42 = some ((.iconst 2), 1) := mx_ins_of mi32 dX0_tries_42 rfl
theorem u32_42 : ev d 32 42 lo st h = ev d 32 43 lo (.int 2 :: st) h := (ev_s (f := mx_push (.int 2)) n32_42 rfl rfl).trans es_push
theorem n32_43 : mx_ins 32 43 = some ((.iload 4), 2) := mx_ins_of mi32 dX0_tries_43 rfl
theorem u32_43 : ev d 32 43 lo st h = evS (mx_ldI 4) d 32 45 lo st h := ev_s n32_43 rfl rfl
theorem n32_45 : mx_ins 32 45 = some (.imul, 1) := mx_ins_of mi32 dX0_tries_45 rfl
theorem u32_45 : ev d 32 45 lo st h = evI d 32 45 46 lo st h .imul := ev_u n32_45 rfl
theorem n32_46 : mx_ins 32 46 = some (.ishl, 1) := mx_ins_of mi32 dX0_tries_46 rfl
theorem u32_46 : ev d 32 46 lo st h = evI d 32 46 47 lo st h .ishl := ev_u n32_46 rfl
theorem n32_47 : mx_ins 32 47 = some (.ior, 1) := mx_ins_of mi32 dX0_tries_47 rfl
theorem u32_47 : ev d 32 47 lo st h = evI d 32 47 48 lo st h .ior := ev_u n32_47 rfl
theorem n32_48 : mx_ins 32 48 = some ((.istore_n 3), 1) := mx_ins_of mi32 dX0_tries_48 rfl
theorem u32_48 : ev d 32 48 lo st h = evS (mx_stI 3) d 32 49 lo st h := ev_s n32_48 rfl rfl
theorem n32_49 : mx_ins 32 49 = some ((.aload_n 0), 1) := mx_ins_of mi32 dX0_tries_49 rfl
theorem u32_49 : ev d 32 49 lo st h = evS (mx_ldA 0) d 32 50 lo st h := ev_s n32_49 rfl rfl
theorem n32_50 : mx_ins 32 50 = some ((.getfield 35), 3) := mx_ins_of mi32 dX0_tries_50 rfl
theorem u32_50 : ev d 32 50 lo st h = evS (mx_gf 0 35) d 32 53 lo st h := ev_s n32_50 rfl rfl
theorem n32_53 : mx_ins 32 53 = some ((.iload 5), 2) := mx_ins_of mi32 dX0_tries_53 rfl
theorem u32_53 : ev d 32 53 lo st h = evS (mx_ldI 5) d 32 55 lo st h := ev_s n32_53 rfl rfl
theorem n32_55 : mx_ins 32 55 = some ((.putfield 159), 3) := mx_ins_of mi32 dX0_tries_55 rfl
theorem u32_55 : ev d 32 55 lo st h = evS (mx_pf 0 159 false) d 32 58 lo st h := ev_s n32_55 rfl rfl
theorem n32_58 : mx_ins 32 58 = some ((.aload_n 0), 1) := mx_ins_of mi32 dX0_tries_58 rfl
theorem u32_58 : ev d 32 58 lo st h = evS (mx_ldA 0) d 32 59 lo st h := ev_s n32_58 rfl rfl
theorem n32_59 : mx_ins 32 59 = some ((.aload_n 0), 1) := mx_ins_of mi32 dX0_tries_59 rfl
theorem u32_59 : ev d 32 59 lo st h = evS (mx_ldA 0) d 32 60 lo st h := ev_s n32_59 rfl rfl
theorem n32_60 : mx_ins 32 60 = some ((.getfield 35), 3) := mx_ins_of mi32 dX0_tries_60 rfl
theorem u32_60 : ev d 32 60 lo st h = evS (mx_gf 0 35) d 32 63 lo st h := ev_s n32_60 rfl rfl
theorem n32_63 : mx_ins 32 63 = some ((.invokevirtual 262), 3) := mx_ins_of mi32 dX0_tries_63 rfl
theorem u32_63 : ev d 32 63 lo st h = evIn d 32 63 66 0 262 2 false lo st h := ev_inv n32_63 rfl rfl ow32 ia0_262
theorem n32_66 : mx_ins 32 66 = some ((.iinc 4 1), 3) := mx_ins_of mi32 dX0_tries_66 rfl
theorem u32_66 : ev d 32 66 lo st h = evS (mx_inc 4 (1)) d 32 69 lo st h := ev_s n32_66 rfl rfl
theorem n32_69 : mx_ins 32 69 = some ((.goto (-50)), 3) := mx_ins_of mi32 dX0_tries_69 rfl
theorem u32_69 : ev d 32 69 lo st h = ev d 32 19 lo st h := ev_goto n32_69 rfl
theorem n32_72 : mx_ins 32 72 = some ((.aload_n 0), 1) := mx_ins_of mi32 dX0_tries_72 rfl
theorem u32_72 : ev d 32 72 lo st h = evS (mx_ldA 0) d 32 73 lo st h := ev_s n32_72 rfl rfl
theorem n32_73 : mx_ins 32 73 = some ((.getfield 35), 3) := mx_ins_of mi32 dX0_tries_73 rfl
theorem u32_73 : ev d 32 73 lo st h = evS (mx_gf 0 35) d 32 76 lo st h := ev_s n32_73 rfl rfl
theorem n32_76 : mx_ins 32 76 = some ((.getfield 166), 3) := mx_ins_of mi32 dX0_tries_76 rfl
theorem u32_76 : ev d 32 76 lo st h = evS (mx_gf 0 166) d 32 79 lo st h := ev_s n32_76 rfl rfl
theorem n32_79 : mx_ins 32 79 = some ((.aload_n 0), 1) := mx_ins_of mi32 dX0_tries_79 rfl
theorem u32_79 : ev d 32 79 lo st h = evS (mx_ldA 0) d 32 80 lo st h := ev_s n32_79 rfl rfl
theorem n32_80 : mx_ins 32 80 = some ((.getfield 35), 3) := mx_ins_of mi32 dX0_tries_80 rfl
theorem u32_80 : ev d 32 80 lo st h = evS (mx_gf 0 35) d 32 83 lo st h := ev_s n32_80 rfl rfl
theorem n32_83 : mx_ins 32 83 = some ((.getfield 176), 3) := mx_ins_of mi32 dX0_tries_83 rfl
theorem u32_83 : ev d 32 83 lo st h = evS (mx_gf 0 176) d 32 86 lo st h := ev_s n32_83 rfl rfl
theorem n32_86 : mx_ins 32 86 = some (.iadd, 1) := mx_ins_of mi32 dX0_tries_86 rfl
theorem u32_86 : ev d 32 86 lo st h = evI d 32 86 87 lo st h .iadd := ev_u n32_86 rfl
theorem n32_87 : mx_ins 32 87 = some ((.istore 4), 2) := mx_ins_of mi32 dX0_tries_87 rfl
theorem u32_87 : ev d 32 87 lo st h = evS (mx_stI 4) d 32 89 lo st h := ev_s n32_87 rfl rfl
theorem n32_89 : mx_ins 32 89 = some ((.aload_n 0), 1) := mx_ins_of mi32 dX0_tries_89 rfl
theorem u32_89 : ev d 32 89 lo st h = evS (mx_ldA 0) d 32 90 lo st h := ev_s n32_89 rfl rfl
theorem n32_90 : mx_ins 32 90 = some ((.getfield 292), 3) := mx_ins_of mi32 dX0_tries_90 rfl
theorem u32_90 : ev d 32 90 lo st h = evS (mx_gf 0 292) d 32 93 lo st h := ev_s n32_90 rfl rfl
theorem n32_93 : mx_ins 32 93 = some ((.ifCond .lt 40), 3) := mx_ins_of mi32 dX0_tries_93 rfl
theorem u32_93 : ev d 32 93 lo st h = evJ .lt d 32 133 96 lo st h := ev_if n32_93 rfl rfl
theorem n32_96 : mx_ins 32 96 = some ((.aload_n 0), 1) := mx_ins_of mi32 dX0_tries_96 rfl
theorem u32_96 : ev d 32 96 lo st h = evS (mx_ldA 0) d 32 97 lo st h := ev_s n32_96 rfl rfl
theorem n32_97 : mx_ins 32 97 = some ((.getfield 35), 3) := mx_ins_of mi32 dX0_tries_97 rfl
theorem u32_97 : ev d 32 97 lo st h = evS (mx_gf 0 35) d 32 100 lo st h := ev_s n32_97 rfl rfl
theorem n32_100 : mx_ins 32 100 = some ((.getfield 189), 3) := mx_ins_of mi32 dX0_tries_100 rfl
theorem u32_100 : ev d 32 100 lo st h = evS (mx_gf 0 189) d 32 103 lo st h := ev_s n32_100 rfl rfl
theorem n32_103 : mx_ins 32 103 = some ((.aload_n 0), 1) := mx_ins_of mi32 dX0_tries_103 rfl
theorem u32_103 : ev d 32 103 lo st h = evS (mx_ldA 0) d 32 104 lo st h := ev_s n32_103 rfl rfl
theorem n32_104 : mx_ins 32 104 = some ((.getfield 295), 3) := mx_ins_of mi32 dX0_tries_104 rfl
theorem u32_104 : ev d 32 104 lo st h = evS (mx_gf 0 295) d 32 107 lo st h := ev_s n32_104 rfl rfl
theorem n32_107 : mx_ins 32 107 = some ((.if_icmp .lt 26), 3) := mx_ins_of mi32 dX0_tries_107 rfl
theorem u32_107 : ev d 32 107 lo st h = evK .lt d 32 133 110 lo st h := ev_ic n32_107 rfl rfl
theorem n32_110 : mx_ins 32 110 = some ((.aload_n 0), 1) := mx_ins_of mi32 dX0_tries_110 rfl
theorem u32_110 : ev d 32 110 lo st h = evS (mx_ldA 0) d 32 111 lo st h := ev_s n32_110 rfl rfl
theorem n32_111 : mx_ins 32 111 = some ((.getfield 35), 3) := mx_ins_of mi32 dX0_tries_111 rfl
theorem u32_111 : ev d 32 111 lo st h = evS (mx_gf 0 35) d 32 114 lo st h := ev_s n32_111 rfl rfl
theorem n32_114 : mx_ins 32 114 = some ((.getfield 189), 3) := mx_ins_of mi32 dX0_tries_114 rfl
theorem u32_114 : ev d 32 114 lo st h = evS (mx_gf 0 189) d 32 117 lo st h := ev_s n32_114 rfl rfl
theorem n32_117 : mx_ins 32 117 = some ((.aload_n 0), 1) := mx_ins_of mi32 dX0_tries_117 rfl
theorem u32_117 : ev d 32 117 lo st h = evS (mx_ldA 0) d 32 118 lo st h := ev_s n32_117 rfl rfl
theorem n32_118 : mx_ins 32 118 = some ((.getfield 295), 3) := mx_ins_of mi32 dX0_tries_118 rfl
theorem u32_118 : ev d 32 118 lo st h = evS (mx_gf 0 295) d 32 121 lo st h := ev_s n32_118 rfl rfl
theorem n32_121 : mx_ins 32 121 = some ((.if_icmp .ne 16), 3) := mx_ins_of mi32 dX0_tries_121 rfl
theorem u32_121 : ev d 32 121 lo st h = evK .ne d 32 137 124 lo st h := ev_ic n32_121 rfl rfl
theorem n32_124 : mx_ins 32 124 = some ((.iload 4), 2) := mx_ins_of mi32 dX0_tries_124 rfl
theorem u32_124 : ev d 32 124 lo st h = evS (mx_ldI 4) d 32 126 lo st h := ev_s n32_124 rfl rfl
theorem n32_126 : mx_ins 32 126 = some ((.aload_n 0), 1) := mx_ins_of mi32 dX0_tries_126 rfl
theorem u32_126 : ev d 32 126 lo st h = evS (mx_ldA 0) d 32 127 lo st h := ev_s n32_126 rfl rfl
theorem n32_127 : mx_ins 32 127 = some ((.getfield 298), 3) := mx_ins_of mi32 dX0_tries_127 rfl
theorem u32_127 : ev d 32 127 lo st h = evS (mx_gf 0 298) d 32 130 lo st h := ev_s n32_127 rfl rfl
theorem n32_130 : mx_ins 32 130 = some ((.if_icmp .le 7), 3) := mx_ins_of mi32 dX0_tries_130 rfl
theorem u32_130 : ev d 32 130 lo st h = evK .le d 32 137 133 lo st h := ev_ic n32_130 rfl rfl
theorem n32_133 : mx_ins 32 133 = some ((.iconst 1), 1) := mx_ins_of mi32 dX0_tries_133 rfl
theorem u32_133 : ev d 32 133 lo st h = ev d 32 134 lo (.int 1 :: st) h := (ev_s (f := mx_push (.int 1)) n32_133 rfl rfl).trans es_push
theorem n32_134 : mx_ins 32 134 = some ((.goto 4), 3) := mx_ins_of mi32 dX0_tries_134 rfl
theorem u32_134 : ev d 32 134 lo st h = ev d 32 138 lo st h := ev_goto n32_134 rfl
theorem n32_137 : mx_ins 32 137 = some ((.iconst 0), 1) := mx_ins_of mi32 dX0_tries_137 rfl
theorem u32_137 : ev d 32 137 lo st h = ev d 32 138 lo (.int 0 :: st) h := (ev_s (f := mx_push (.int 0)) n32_137 rfl rfl).trans es_push
theorem n32_138 : mx_ins 32 138 = some ((.istore 5), 2) := mx_ins_of mi32 dX0_tries_138 rfl
theorem u32_138 : ev d 32 138 lo st h = evS (mx_stI 5) d 32 140 lo st h := ev_s n32_138 rfl rfl
theorem n32_140 : mx_ins 32 140 = some ((.aload_n 0), 1) := mx_ins_of mi32 dX0_tries_140 rfl
theorem u32_140 : ev d 32 140 lo st h = evS (mx_ldA 0) d 32 141 lo st h := ev_s n32_140 rfl rfl
theorem n32_141 : mx_ins 32 141 = some ((.getfield 35), 3) := mx_ins_of mi32 dX0_tries_141 rfl
theorem u32_141 : ev d 32 141 lo st h = evS (mx_gf 0 35) d 32 144 lo st h := ev_s n32_141 rfl rfl
theorem n32_144 : mx_ins 32 144 = some ((.invokevirtual 151), 3) := mx_ins_of mi32 dX0_tries_144 rfl
theorem u32_144 : ev d 32 144 lo st h = evIn d 32 144 147 0 151 1 false lo st h := ev_inv n32_144 rfl rfl ow32 ia0_151
theorem n32_147 : mx_ins 32 147 = some ((.ifCond .eq 30), 3) := mx_ins_of mi32 dX0_tries_147 rfl
theorem u32_147 : ev d 32 147 lo st h = evJ .eq d 32 177 150 lo st h := ev_if n32_147 rfl rfl
theorem n32_150 : mx_ins 32 150 = some ((.iload 5), 2) := mx_ins_of mi32 dX0_tries_150 rfl
theorem u32_150 : ev d 32 150 lo st h = evS (mx_ldI 5) d 32 152 lo st h := ev_s n32_150 rfl rfl
theorem n32_152 : mx_ins 32 152 = some ((.ifCond .eq 25), 3) := mx_ins_of mi32 dX0_tries_152 rfl
theorem u32_152 : ev d 32 152 lo st h = evJ .eq d 32 177 155 lo st h := ev_if n32_152 rfl rfl
theorem n32_155 : mx_ins 32 155 = some ((.aload_n 0), 1) := mx_ins_of mi32 dX0_tries_155 rfl
theorem u32_155 : ev d 32 155 lo st h = evS (mx_ldA 0) d 32 156 lo st h := ev_s n32_155 rfl rfl
theorem n32_156 : mx_ins 32 156 = some ((.iload 4), 2) := mx_ins_of mi32 dX0_tries_156 rfl
theorem u32_156 : ev d 32 156 lo st h = evS (mx_ldI 4) d 32 158 lo st h := ev_s n32_156 rfl rfl
theorem n32_158 : mx_ins 32 158 = some ((.putfield 298), 3) := mx_ins_of mi32 dX0_tries_158 rfl
theorem u32_158 : ev d 32 158 lo st h = evS (mx_pf 0 298 false) d 32 161 lo st h := ev_s n32_158 rfl rfl
theorem n32_161 : mx_ins 32 161 = some ((.aload_n 0), 1) := mx_ins_of mi32 dX0_tries_161 rfl
theorem u32_161 : ev d 32 161 lo st h = evS (mx_ldA 0) d 32 162 lo st h := ev_s n32_161 rfl rfl
theorem n32_162 : mx_ins 32 162 = some ((.aload_n 0), 1) := mx_ins_of mi32 dX0_tries_162 rfl
theorem u32_162 : ev d 32 162 lo st h = evS (mx_ldA 0) d 32 163 lo st h := ev_s n32_162 rfl rfl
theorem n32_163 : mx_ins 32 163 = some ((.getfield 35), 3) := mx_ins_of mi32 dX0_tries_163 rfl
theorem u32_163 : ev d 32 163 lo st h = evS (mx_gf 0 35) d 32 166 lo st h := ev_s n32_163 rfl rfl
theorem n32_166 : mx_ins 32 166 = some ((.getfield 189), 3) := mx_ins_of mi32 dX0_tries_166 rfl
theorem u32_166 : ev d 32 166 lo st h = evS (mx_gf 0 189) d 32 169 lo st h := ev_s n32_166 rfl rfl
theorem n32_169 : mx_ins 32 169 = some ((.putfield 295), 3) := mx_ins_of mi32 dX0_tries_169 rfl
theorem u32_169 : ev d 32 169 lo st h = evS (mx_pf 0 295 false) d 32 172 lo st h := ev_s n32_169 rfl rfl
theorem n32_172 : mx_ins 32 172 = some ((.aload_n 0), 1) := mx_ins_of mi32 dX0_tries_172 rfl
theorem u32_172 : ev d 32 172 lo st h = evS (mx_ldA 0) d 32 173 lo st h := ev_s n32_172 rfl rfl
theorem n32_173 : mx_ins 32 173 = some ((.iload_n 3), 1) := mx_ins_of mi32 dX0_tries_173 rfl
theorem u32_173 : ev d 32 173 lo st h = evS (mx_ldI 3) d 32 174 lo st h := ev_s n32_173 rfl rfl
theorem n32_174 : mx_ins 32 174 = some ((.putfield 292), 3) := mx_ins_of mi32 dX0_tries_174 rfl
theorem u32_174 : ev d 32 174 lo st h = evS (mx_pf 0 292 false) d 32 177 lo st h := ev_s n32_174 rfl rfl
theorem n32_177 : mx_ins 32 177 = some (.return_, 1) := mx_ins_of mi32 dX0_tries_177 rfl
theorem u32_177 : ev d 32 177 lo st h = evI d 32 177 178 lo st h .return_ := ev_u n32_177 rfl
theorem mi33 : mx_mi 33 = some (yX0_later, cX0_later, 4, (Option.some Jvm.ClassFile.FieldType.int), 0, 3, []) := rfl
theorem ow33 : mx_own 33 = 0 := mx_mi_own mi33
theorem mm33 : mx_max 33 = 4 := mx_mi_max mi33
theorem rt33 : mx_ret 33 = (Option.some Jvm.ClassFile.FieldType.int) := mx_mi_ret mi33
theorem hn33 : mx_hnd 33 = [] := mx_mi_hnd mi33
theorem n33_0 : mx_ins 33 0 = some ((.iload_n 1), 1) := mx_ins_of mi33 dX0_later_0 rfl
theorem u33_0 : ev d 33 0 lo st h = evS (mx_ldI 1) d 33 1 lo st h := ev_s n33_0 rfl rfl
theorem n33_1 : mx_ins 33 1 = some ((.invokestatic 223), 3) := mx_ins_of mi33 dX0_later_1 rfl
theorem u33_1 : ev d 33 1 lo st h = evIn d 33 1 4 0 223 1 true lo st h := ev_inv n33_1 rfl rfl ow33 ia0_223
theorem n33_4 : mx_ins 33 4 = some ((.ifCond .eq 14), 3) := mx_ins_of mi33 dX0_later_4 rfl
theorem u33_4 : ev d 33 4 lo st h = evJ .eq d 33 18 7 lo st h := ev_if n33_4 rfl rfl
theorem n33_7 : mx_ins 33 7 = some ((.iload_n 2), 1) := mx_ins_of mi33 dX0_later_7 rfl
theorem u33_7 : ev d 33 7 lo st h = evS (mx_ldI 2) d 33 8 lo st h := ev_s n33_7 rfl rfl
theorem n33_8 : mx_ins 33 8 = some ((.iconst 0), 1) := mx_ins_of mi33 dX0_later_8 rfl
theorem u33_8 : ev d 33 8 lo st h = ev d 33 9 lo (.int 0 :: st) h := (ev_s (f := mx_push (.int 0)) n33_8 rfl rfl).trans es_push
theorem n33_9 : mx_ins 33 9 = some ((.sipush 1000), 3) := mx_ins_of mi33 dX0_later_9 rfl
theorem u33_9 : ev d 33 9 lo st h = ev d 33 12 lo (.int 1000 :: st) h := (ev_s (f := mx_push (.int 1000)) n33_9 rfl rfl).trans es_push
theorem n33_12 : mx_ins 33 12 = some ((.invokestatic 143), 3) := mx_ins_of mi33 dX0_later_12 rfl
theorem u33_12 : ev d 33 12 lo st h = evIn d 33 12 15 0 143 3 true lo st h := ev_inv n33_12 rfl rfl ow33 ia0_143
theorem n33_15 : mx_ins 33 15 = some ((.ifCond .ne 5), 3) := mx_ins_of mi33 dX0_later_15 rfl
theorem u33_15 : ev d 33 15 lo st h = evJ .ne d 33 20 18 lo st h := ev_if n33_15 rfl rfl
theorem n33_18 : mx_ins 33 18 = some ((.iconst (-1)), 1) := mx_ins_of mi33 dX0_later_18 rfl
theorem u33_18 : ev d 33 18 lo st h = ev d 33 19 lo (.int (-1) :: st) h := (ev_s (f := mx_push (.int (-1))) n33_18 rfl rfl).trans es_push
theorem n33_19 : mx_ins 33 19 = some (.ireturn, 1) := mx_ins_of mi33 dX0_later_19 rfl
theorem u33_19 : ev d 33 19 lo st h = evI d 33 19 20 lo st h .ireturn := ev_u n33_19 rfl
theorem n33_20 : mx_ins 33 20 = some ((.aload_n 0), 1) := mx_ins_of mi33 dX0_later_20 rfl
theorem u33_20 : ev d 33 20 lo st h = evS (mx_ldA 0) d 33 21 lo st h := ev_s n33_20 rfl rfl
theorem n33_21 : mx_ins 33 21 = some ((.getfield 22), 3) := mx_ins_of mi33 dX0_later_21 rfl
theorem u33_21 : ev d 33 21 lo st h = evS (mx_gf 0 22) d 33 24 lo st h := ev_s n33_21 rfl rfl
theorem n33_24 : mx_ins 33 24 = some ((.getfield 238), 3) := mx_ins_of mi33 dX0_later_24 rfl
theorem u33_24 : ev d 33 24 lo st h = evS (mx_gf 0 238) d 33 27 lo st h := ev_s n33_24 rfl rfl
theorem n33_27 : mx_ins 33 27 = some ((.getfield 155), 3) := mx_ins_of mi33 dX0_later_27 rfl
theorem u33_27 : ev d 33 27 lo st h = evS (mx_gf 0 155) d 33 30 lo st h := ev_s n33_27 rfl rfl
theorem n33_30 : mx_ins 33 30 = some ((.istore_n 3), 1) := mx_ins_of mi33 dX0_later_30 rfl
theorem u33_30 : ev d 33 30 lo st h = evS (mx_stI 3) d 33 31 lo st h := ev_s n33_30 rfl rfl
theorem n33_31 : mx_ins 33 31 = some ((.iload_n 3), 1) := mx_ins_of mi33 dX0_later_31 rfl
theorem u33_31 : ev d 33 31 lo st h = evS (mx_ldI 3) d 33 32 lo st h := ev_s n33_31 rfl rfl
theorem n33_32 : mx_ins 33 32 = some ((.bipush 24), 2) := mx_ins_of mi33 dX0_later_32 rfl
theorem u33_32 : ev d 33 32 lo st h = ev d 33 34 lo (.int 24 :: st) h := (ev_s (f := mx_push (.int 24)) n33_32 rfl rfl).trans es_push
theorem n33_34 : mx_ins 33 34 = some ((.if_icmp .ge 88), 3) := mx_ins_of mi33 dX0_later_34 rfl
theorem u33_34 : ev d 33 34 lo st h = evK .ge d 33 122 37 lo st h := ev_ic n33_34 rfl rfl
theorem n33_37 : mx_ins 33 37 = some ((.aload_n 0), 1) := mx_ins_of mi33 dX0_later_37 rfl
theorem u33_37 : ev d 33 37 lo st h = evS (mx_ldA 0) d 33 38 lo st h := ev_s n33_37 rfl rfl
theorem n33_38 : mx_ins 33 38 = some ((.getfield 35), 3) := mx_ins_of mi33 dX0_later_38 rfl
theorem u33_38 : ev d 33 38 lo st h = evS (mx_gf 0 35) d 33 41 lo st h := ev_s n33_38 rfl rfl
theorem n33_41 : mx_ins 33 41 = some ((.aload_n 0), 1) := mx_ins_of mi33 dX0_later_41 rfl
theorem u33_41 : ev d 33 41 lo st h = evS (mx_ldA 0) d 33 42 lo st h := ev_s n33_41 rfl rfl
theorem n33_42 : mx_ins 33 42 = some ((.getfield 22), 3) := mx_ins_of mi33 dX0_later_42 rfl
theorem u33_42 : ev d 33 42 lo st h = evS (mx_gf 0 22) d 33 45 lo st h := ev_s n33_42 rfl rfl
theorem n33_45 : mx_ins 33 45 = some ((.getfield 238), 3) := mx_ins_of mi33 dX0_later_45 rfl
theorem u33_45 : ev d 33 45 lo st h = evS (mx_gf 0 238) d 33 48 lo st h := ev_s n33_45 rfl rfl
theorem n33_48 : mx_ins 33 48 = some ((.invokevirtual 289), 3) := mx_ins_of mi33 dX0_later_48 rfl
theorem u33_48 : ev d 33 48 lo st h = evIn d 33 48 51 0 289 2 false lo st h := ev_inv n33_48 rfl rfl ow33 ia0_289
theorem n33_51 : mx_ins 33 51 = some ((.aload_n 0), 1) := mx_ins_of mi33 dX0_later_51 rfl
theorem u33_51 : ev d 33 51 lo st h = evS (mx_ldA 0) d 33 52 lo st h := ev_s n33_51 rfl rfl
theorem n33_52 : mx_ins 33 52 = some ((.getfield 35), 3) := mx_ins_of mi33 dX0_later_52 rfl
theorem u33_52 : ev d 33 52 lo st h = evS (mx_gf 0 35) d 33 55 lo st h := ev_s n33_52 rfl rfl
theorem n33_55 : mx_ins 33 55 = some ((.iload_n 1), 1) := mx_ins_of mi33 dX0_later_55 rfl
theorem u33_55 : ev d 33 55 lo st h = evS (mx_ldI 1) d 33 56 lo st h := ev_s n33_55 rfl rfl
theorem n33_56 : mx_ins 33 56 = some ((.putfield 159), 3) := mx_ins_of mi33 dX0_later_56 rfl
theorem u33_56 : ev d 33 56 lo st h = evS (mx_pf 0 159 false) d 33 59 lo st h := ev_s n33_56 rfl rfl
theorem n33_59 : mx_ins 33 59 = some ((.aload_n 0), 1) := mx_ins_of mi33 dX0_later_59 rfl
theorem u33_59 : ev d 33 59 lo st h = evS (mx_ldA 0) d 33 60 lo st h := ev_s n33_59 rfl rfl
theorem n33_60 : mx_ins 33 60 = some ((.getfield 35), 3) := mx_ins_of mi33 dX0_later_60 rfl
theorem u33_60 : ev d 33 60 lo st h = evS (mx_gf 0 35) d 33 63 lo st h := ev_s n33_60 rfl rfl
theorem n33_63 : mx_ins 33 63 = some ((.iload_n 3), 1) := mx_ins_of mi33 dX0_later_63 rfl
theorem u33_63 : ev d 33 63 lo st h = evS (mx_ldI 3) d 33 64 lo st h := ev_s n33_63 rfl rfl
theorem n33_64 : mx_ins 33 64 = some ((.putfield 155), 3) := mx_ins_of mi33 dX0_later_64 rfl
theorem u33_64 : ev d 33 64 lo st h = evS (mx_pf 0 155 false) d 33 67 lo st h := ev_s n33_64 rfl rfl
theorem n33_67 : mx_ins 33 67 = some ((.aload_n 0), 1) := mx_ins_of mi33 dX0_later_67 rfl
theorem u33_67 : ev d 33 67 lo st h = evS (mx_ldA 0) d 33 68 lo st h := ev_s n33_67 rfl rfl
theorem n33_68 : mx_ins 33 68 = some ((.getfield 35), 3) := mx_ins_of mi33 dX0_later_68 rfl
theorem u33_68 : ev d 33 68 lo st h = evS (mx_gf 0 35) d 33 71 lo st h := ev_s n33_68 rfl rfl
theorem n33_71 : mx_ins 33 71 = some ((.getfield 155), 3) := mx_ins_of mi33 dX0_later_71 rfl
theorem u33_71 : ev d 33 71 lo st h = evS (mx_gf 0 155) d 33 74 lo st h := ev_s n33_71 rfl rfl
theorem n33_74 : mx_ins 33 74 = some ((.bipush 24), 2) := mx_ins_of mi33 dX0_later_74 rfl
theorem u33_74 : ev d 33 74 lo st h = ev d 33 76 lo (.int 24 :: st) h := (ev_s (f := mx_push (.int 24)) n33_74 rfl rfl).trans es_push
theorem n33_76 : mx_ins 33 76 = some ((.if_icmp .ge 14), 3) := mx_ins_of mi33 dX0_later_76 rfl
theorem u33_76 : ev d 33 76 lo st h = evK .ge d 33 90 79 lo st h := ev_ic n33_76 rfl rfl
theorem n33_79 : mx_ins 33 79 = some ((.aload_n 0), 1) := mx_ins_of mi33 dX0_later_79 rfl
theorem u33_79 : ev d 33 79 lo st h = evS (mx_ldA 0) d 33 80 lo st h := ev_s n33_79 rfl rfl
theorem n33_80 : mx_ins 33 80 = some ((.aload_n 0), 1) := mx_ins_of mi33 dX0_later_80 rfl
theorem u33_80 : ev d 33 80 lo st h = evS (mx_ldA 0) d 33 81 lo st h := ev_s n33_80 rfl rfl
theorem n33_81 : mx_ins 33 81 = some ((.getfield 35), 3) := mx_ins_of mi33 dX0_later_81 rfl
theorem u33_81 : ev d 33 81 lo st h = evS (mx_gf 0 35) d 33 84 lo st h := ev_s n33_81 rfl rfl
theorem n33_84 : mx_ins 33 84 = some ((.invokevirtual 262), 3) := mx_ins_of mi33 dX0_later_84 rfl
theorem u33_84 : ev d 33 84 lo st h = evIn d 33 84 87 0 262 2 false lo st h := ev_inv n33_84 rfl rfl ow33 ia0_262
theorem n33_87 : mx_ins 33 87 = some ((.goto (-20)), 3) := mx_ins_of mi33 dX0_later_87 rfl
theorem u33_87 : ev d 33 87 lo st h = ev d 33 67 lo st h := ev_goto n33_87 rfl
theorem n33_90 : mx_ins 33 90 = some ((.aload_n 0), 1) := mx_ins_of mi33 dX0_later_90 rfl
theorem u33_90 : ev d 33 90 lo st h = evS (mx_ldA 0) d 33 91 lo st h := ev_s n33_90 rfl rfl
theorem n33_91 : mx_ins 33 91 = some ((.getfield 22), 3) := mx_ins_of mi33 dX0_later_91 rfl
theorem u33_91 : ev d 33 91 lo st h = evS (mx_gf 0 22) d 33 94 lo st h := ev_s n33_91 rfl rfl
theorem n33_94 : mx_ins 33 94 = some ((.getfield 238), 3) := mx_ins_of mi33 dX0_later_94 rfl
theorem u33_94 : ev d 33 94 lo st h = evS (mx_gf 0 238) d 33 97 lo st h := ev_s n33_94 rfl rfl
theorem n33_97 : mx_ins 33 97 = some ((.invokevirtual 256), 3) := mx_ins_of mi33 dX0_later_97 rfl
theorem u33_97 : ev d 33 97 lo st h = evIn d 33 97 100 0 256 1 false lo st h := ev_inv n33_97 rfl rfl ow33 ia0_256
theorem n33_100 : mx_ins 33 100 = some ((.aload_n 0), 1) := mx_ins_of mi33 dX0_later_100 rfl
theorem u33_100 : ev d 33 100 lo st h = evS (mx_ldA 0) d 33 101 lo st h := ev_s n33_100 rfl rfl
theorem n33_101 : mx_ins 33 101 = some ((.getfield 35), 3) := mx_ins_of mi33 dX0_later_101 rfl
theorem u33_101 : ev d 33 101 lo st h = evS (mx_gf 0 35) d 33 104 lo st h := ev_s n33_101 rfl rfl
theorem n33_104 : mx_ins 33 104 = some ((.invokevirtual 256), 3) := mx_ins_of mi33 dX0_later_104 rfl
theorem u33_104 : ev d 33 104 lo st h = evIn d 33 104 107 0 256 1 false lo st h := ev_inv n33_104 rfl rfl ow33 ia0_256
theorem n33_107 : mx_ins 33 107 = some ((.invokestatic 266), 3) := mx_ins_of mi33 dX0_later_107 rfl
theorem u33_107 : ev d 33 107 lo st h = evIn d 33 107 110 0 266 2 true lo st h := ev_inv n33_107 rfl rfl ow33 ia0_266
theorem n33_110 : mx_ins 33 110 = some ((.iload_n 2), 1) := mx_ins_of mi33 dX0_later_110 rfl
theorem u33_110 : ev d 33 110 lo st h = evS (mx_ldI 2) d 33 111 lo st h := ev_s n33_110 rfl rfl
theorem n33_111 : mx_ins 33 111 = some ((.if_icmp .gt 5), 3) := mx_ins_of mi33 dX0_later_111 rfl
theorem u33_111 : ev d 33 111 lo st h = evK .gt d 33 116 114 lo st h := ev_ic n33_111 rfl rfl
theorem n33_114 : mx_ins 33 114 = some ((.iload_n 3), 1) := mx_ins_of mi33 dX0_later_114 rfl
theorem u33_114 : ev d 33 114 lo st h = evS (mx_ldI 3) d 33 115 lo st h := ev_s n33_114 rfl rfl
theorem n33_115 : mx_ins 33 115 = some (.ireturn, 1) := mx_ins_of mi33 dX0_later_115 rfl
theorem u33_115 : ev d 33 115 lo st h = evI d 33 115 116 lo st h .ireturn := ev_u n33_115 rfl
theorem n33_116 : mx_ins 33 116 = some ((.iinc 3 1), 3) := mx_ins_of mi33 dX0_later_116 rfl
theorem u33_116 : ev d 33 116 lo st h = evS (mx_inc 3 (1)) d 33 119 lo st h := ev_s n33_116 rfl rfl
theorem n33_119 : mx_ins 33 119 = some ((.goto (-88)), 3) := mx_ins_of mi33 dX0_later_119 rfl
theorem u33_119 : ev d 33 119 lo st h = ev d 33 31 lo st h := ev_goto n33_119 rfl
theorem n33_122 : mx_ins 33 122 = some ((.bipush (-3)), 2) := mx_ins_of mi33 dX0_later_122 rfl
theorem u33_122 : ev d 33 122 lo st h = ev d 33 124 lo (.int (-3) :: st) h := (ev_s (f := mx_push (.int (-3))) n33_122 rfl rfl).trans es_push
theorem n33_124 : mx_ins 33 124 = some (.ireturn, 1) := mx_ins_of mi33 dX0_later_124 rfl
theorem u33_124 : ev d 33 124 lo st h = evI d 33 124 125 lo st h .ireturn := ev_u n33_124 rfl
theorem mi34 : mx_mi 34 = some (yX0_scale, cX0_scale, 2, (Option.some Jvm.ClassFile.FieldType.int), 0, 2, []) := rfl
theorem ow34 : mx_own 34 = 0 := mx_mi_own mi34
theorem mm34 : mx_max 34 = 2 := mx_mi_max mi34
theorem rt34 : mx_ret 34 = (Option.some Jvm.ClassFile.FieldType.int) := mx_mi_ret mi34
theorem hn34 : mx_hnd 34 = [] := mx_mi_hnd mi34
theorem n34_0 : mx_ins 34 0 = some ((.iload_n 1), 1) := mx_ins_of mi34 dX0_scale_0 rfl
theorem u34_0 : ev d 34 0 lo st h = evS (mx_ldI 1) d 34 1 lo st h := ev_s n34_0 rfl rfl
theorem n34_1 : mx_ins 34 1 = some ((.iconst 0), 1) := mx_ins_of mi34 dX0_scale_1 rfl
theorem u34_1 : ev d 34 1 lo st h = ev d 34 2 lo (.int 0 :: st) h := (ev_s (f := mx_push (.int 0)) n34_1 rfl rfl).trans es_push
theorem n34_2 : mx_ins 34 2 = some ((.bipush 99), 2) := mx_ins_of mi34 dX0_scale_2 rfl
theorem u34_2 : ev d 34 2 lo st h = ev d 34 4 lo (.int 99 :: st) h := (ev_s (f := mx_push (.int 99)) n34_2 rfl rfl).trans es_push
theorem n34_4 : mx_ins 34 4 = some ((.invokestatic 143), 3) := mx_ins_of mi34 dX0_scale_4 rfl
theorem u34_4 : ev d 34 4 lo st h = evIn d 34 4 7 0 143 3 true lo st h := ev_inv n34_4 rfl rfl ow34 ia0_143
theorem n34_7 : mx_ins 34 7 = some ((.ifCond .ne 6), 3) := mx_ins_of mi34 dX0_scale_7 rfl
theorem u34_7 : ev d 34 7 lo st h = evJ .ne d 34 13 10 lo st h := ev_if n34_7 rfl rfl
theorem n34_10 : mx_ins 34 10 = some ((.ldc 219), 2) := mx_ins_of mi34 dX0_scale_10 rfl
theorem u34_10 : ev d 34 10 lo st h = ev d 34 12 lo (.int (-2147483648) :: st) h := (ev_s (f := mx_push (.int (-2147483648))) n34_10 rfl rfl).trans es_push
theorem n34_12 : mx_ins 34 12 = some (.ireturn, 1) := mx_ins_of mi34 dX0_scale_12 rfl
theorem u34_12 : ev d 34 12 lo st h = evI d 34 12 13 lo st h .ireturn := ev_u n34_12 rfl
theorem n34_13 : mx_ins 34 13 = some ((.aload_n 0), 1) := mx_ins_of mi34 dX0_scale_13 rfl
theorem u34_13 : ev d 34 13 lo st h = evS (mx_ldA 0) d 34 14 lo st h := ev_s n34_13 rfl rfl
theorem n34_14 : mx_ins 34 14 = some ((.getfield 22), 3) := mx_ins_of mi34 dX0_scale_14 rfl
theorem u34_14 : ev d 34 14 lo st h = evS (mx_gf 0 22) d 34 17 lo st h := ev_s n34_14 rfl rfl
theorem n34_17 : mx_ins 34 17 = some ((.aload_n 0), 1) := mx_ins_of mi34 dX0_scale_17 rfl
theorem u34_17 : ev d 34 17 lo st h = evS (mx_ldA 0) d 34 18 lo st h := ev_s n34_17 rfl rfl
theorem n34_18 : mx_ins 34 18 = some ((.getfield 22), 3) := mx_ins_of mi34 dX0_scale_18 rfl
theorem u34_18 : ev d 34 18 lo st h = evS (mx_gf 0 22) d 34 21 lo st h := ev_s n34_18 rfl rfl
theorem n34_21 : mx_ins 34 21 = some ((.getfield 305), 3) := mx_ins_of mi34 dX0_scale_21 rfl
theorem u34_21 : ev d 34 21 lo st h = evS (mx_gf 0 305) d 34 24 lo st h := ev_s n34_21 rfl rfl
theorem n34_24 : mx_ins 34 24 = some ((.ldc_w 308), 3) := mx_ins_of mi34 dX0_scale_24 rfl
theorem u34_24 : ev d 34 24 lo st h = ev d 34 27 lo (.int 1103515245 :: st) h := (ev_s (f := mx_push (.int 1103515245)) n34_24 rfl rfl).trans es_push
theorem n34_27 : mx_ins 34 27 = some (.imul, 1) := mx_ins_of mi34 dX0_scale_27 rfl
theorem u34_27 : ev d 34 27 lo st h = evI d 34 27 28 lo st h .imul := ev_u n34_27 rfl
theorem n34_28 : mx_ins 34 28 = some ((.sipush 12345), 3) := mx_ins_of mi34 dX0_scale_28 rfl
theorem u34_28 : ev d 34 28 lo st h = ev d 34 31 lo (.int 12345 :: st) h := (ev_s (f := mx_push (.int 12345)) n34_28 rfl rfl).trans es_push
theorem n34_31 : mx_ins 34 31 = some (.iadd, 1) := mx_ins_of mi34 dX0_scale_31 rfl
theorem u34_31 : ev d 34 31 lo st h = evI d 34 31 32 lo st h .iadd := ev_u n34_31 rfl
theorem n34_32 : mx_ins 34 32 = some ((.putfield 305), 3) := mx_ins_of mi34 dX0_scale_32 rfl
theorem u34_32 : ev d 34 32 lo st h = evS (mx_pf 0 305 false) d 34 35 lo st h := ev_s n34_32 rfl rfl
theorem n34_35 : mx_ins 34 35 = some ((.aload_n 0), 1) := mx_ins_of mi34 dX0_scale_35 rfl
theorem u34_35 : ev d 34 35 lo st h = evS (mx_ldA 0) d 34 36 lo st h := ev_s n34_35 rfl rfl
theorem n34_36 : mx_ins 34 36 = some ((.getfield 22), 3) := mx_ins_of mi34 dX0_scale_36 rfl
theorem u34_36 : ev d 34 36 lo st h = evS (mx_gf 0 22) d 34 39 lo st h := ev_s n34_36 rfl rfl
theorem n34_39 : mx_ins 34 39 = some ((.getfield 238), 3) := mx_ins_of mi34 dX0_scale_39 rfl
theorem u34_39 : ev d 34 39 lo st h = evS (mx_gf 0 238) d 34 42 lo st h := ev_s n34_39 rfl rfl
theorem n34_42 : mx_ins 34 42 = some ((.invokevirtual 256), 3) := mx_ins_of mi34 dX0_scale_42 rfl
theorem u34_42 : ev d 34 42 lo st h = evIn d 34 42 45 0 256 1 false lo st h := ev_inv n34_42 rfl rfl ow34 ia0_256
theorem n34_45 : mx_ins 34 45 = some ((.iload_n 1), 1) := mx_ins_of mi34 dX0_scale_45 rfl
theorem u34_45 : ev d 34 45 lo st h = evS (mx_ldI 1) d 34 46 lo st h := ev_s n34_45 rfl rfl
theorem n34_46 : mx_ins 34 46 = some ((.aload_n 0), 1) := mx_ins_of mi34 dX0_scale_46 rfl
theorem u34_46 : ev d 34 46 lo st h = evS (mx_ldA 0) d 34 47 lo st h := ev_s n34_46 rfl rfl
theorem n34_47 : mx_ins 34 47 = some ((.getfield 22), 3) := mx_ins_of mi34 dX0_scale_47 rfl
theorem u34_47 : ev d 34 47 lo st h = evS (mx_gf 0 22) d 34 50 lo st h := ev_s n34_47 rfl rfl
theorem n34_50 : mx_ins 34 50 = some ((.getfield 305), 3) := mx_ins_of mi34 dX0_scale_50 rfl
theorem u34_50 : ev d 34 50 lo st h = evS (mx_gf 0 305) d 34 53 lo st h := ev_s n34_50 rfl rfl
theorem n34_53 : mx_ins 34 53 = some ((.bipush 16), 2) := mx_ins_of mi34 dX0_scale_53 rfl
theorem u34_53 : ev d 34 53 lo st h = ev d 34 55 lo (.int 16 :: st) h := (ev_s (f := mx_push (.int 16)) n34_53 rfl rfl).trans es_push
theorem n34_55 : mx_ins 34 55 = some (.iushr, 1) := mx_ins_of mi34 dX0_scale_55 rfl
theorem u34_55 : ev d 34 55 lo st h = evI d 34 55 56 lo st h .iushr := ev_u n34_55 rfl
theorem n34_56 : mx_ins 34 56 = some ((.iconst 3), 1) := mx_ins_of mi34 dX0_scale_56 rfl
theorem u34_56 : ev d 34 56 lo st h = ev d 34 57 lo (.int 3 :: st) h := (ev_s (f := mx_push (.int 3)) n34_56 rfl rfl).trans es_push
theorem n34_57 : mx_ins 34 57 = some (.irem, 1) := mx_ins_of mi34 dX0_scale_57 rfl
theorem u34_57 : ev d 34 57 lo st h = evI d 34 57 58 lo st h .irem := ev_u n34_57 rfl
theorem n34_58 : mx_ins 34 58 = some ((.iconst 1), 1) := mx_ins_of mi34 dX0_scale_58 rfl
theorem u34_58 : ev d 34 58 lo st h = ev d 34 59 lo (.int 1 :: st) h := (ev_s (f := mx_push (.int 1)) n34_58 rfl rfl).trans es_push
theorem n34_59 : mx_ins 34 59 = some (.isub, 1) := mx_ins_of mi34 dX0_scale_59 rfl
theorem u34_59 : ev d 34 59 lo st h = evI d 34 59 60 lo st h .isub := ev_u n34_59 rfl
theorem n34_60 : mx_ins 34 60 = some (.imul, 1) := mx_ins_of mi34 dX0_scale_60 rfl
theorem u34_60 : ev d 34 60 lo st h = evI d 34 60 61 lo st h .imul := ev_u n34_60 rfl
theorem n34_61 : mx_ins 34 61 = some (.iadd, 1) := mx_ins_of mi34 dX0_scale_61 rfl
theorem u34_61 : ev d 34 61 lo st h = evI d 34 61 62 lo st h .iadd := ev_u n34_61 rfl
theorem n34_62 : mx_ins 34 62 = some (.ireturn, 1) := mx_ins_of mi34 dX0_scale_62 rfl
theorem u34_62 : ev d 34 62 lo st h = evI d 34 62 63 lo st h .ireturn := ev_u n34_62 rfl
theorem mi35 : mx_mi 35 = some (yX0_seed, cX0_seed, 3, (Option.some Jvm.ClassFile.FieldType.int), 0, 2, []) := rfl
theorem ow35 : mx_own 35 = 0 := mx_mi_own mi35
theorem mm35 : mx_max 35 = 3 := mx_mi_max mi35
theorem rt35 : mx_ret 35 = (Option.some Jvm.ClassFile.FieldType.int) := mx_mi_ret mi35
theorem hn35 : mx_hnd 35 = [] := mx_mi_hnd mi35
theorem n35_0 : mx_ins 35 0 = some ((.aload_n 0), 1) := mx_ins_of mi35 dX0_seed_0 rfl
theorem u35_0 : ev d 35 0 lo st h = evS (mx_ldA 0) d 35 1 lo st h := ev_s n35_0 rfl rfl
theorem n35_1 : mx_ins 35 1 = some ((.getfield 22), 3) := mx_ins_of mi35 dX0_seed_1 rfl
theorem u35_1 : ev d 35 1 lo st h = evS (mx_gf 0 22) d 35 4 lo st h := ev_s n35_1 rfl rfl
theorem n35_4 : mx_ins 35 4 = some ((.getfield 305), 3) := mx_ins_of mi35 dX0_seed_4 rfl
theorem u35_4 : ev d 35 4 lo st h = evS (mx_gf 0 305) d 35 7 lo st h := ev_s n35_4 rfl rfl
theorem n35_7 : mx_ins 35 7 = some ((.istore_n 2), 1) := mx_ins_of mi35 dX0_seed_7 rfl
theorem u35_7 : ev d 35 7 lo st h = evS (mx_stI 2) d 35 8 lo st h := ev_s n35_7 rfl rfl
theorem n35_8 : mx_ins 35 8 = some ((.aload_n 0), 1) := mx_ins_of mi35 dX0_seed_8 rfl
theorem u35_8 : ev d 35 8 lo st h = evS (mx_ldA 0) d 35 9 lo st h := ev_s n35_8 rfl rfl
theorem n35_9 : mx_ins 35 9 = some ((.getfield 22), 3) := mx_ins_of mi35 dX0_seed_9 rfl
theorem u35_9 : ev d 35 9 lo st h = evS (mx_gf 0 22) d 35 12 lo st h := ev_s n35_9 rfl rfl
theorem n35_12 : mx_ins 35 12 = some ((.iload_n 1), 1) := mx_ins_of mi35 dX0_seed_12 rfl
theorem u35_12 : ev d 35 12 lo st h = evS (mx_ldI 1) d 35 13 lo st h := ev_s n35_12 rfl rfl
theorem n35_13 : mx_ins 35 13 = some ((.putfield 305), 3) := mx_ins_of mi35 dX0_seed_13 rfl
theorem u35_13 : ev d 35 13 lo st h = evS (mx_pf 0 305 false) d 35 16 lo st h := ev_s n35_13 rfl rfl
theorem n35_16 : mx_ins 35 16 = some ((.iload_n 2), 1) := mx_ins_of mi35 dX0_seed_16 rfl
theorem u35_16 : ev d 35 16 lo st h = evS (mx_ldI 2) d 35 17 lo st h := ev_s n35_16 rfl rfl
theorem n35_17 : mx_ins 35 17 = some (.ireturn, 1) := mx_ins_of mi35 dX0_seed_17 rfl
theorem u35_17 : ev d 35 17 lo st h = evI d 35 17 18 lo st h .ireturn := ev_u n35_17 rfl
theorem mi36 : mx_mi 36 = some (yX0_other, cX0_other, 3, (Option.some Jvm.ClassFile.FieldType.int), 0, 3, []) := rfl
theorem ow36 : mx_own 36 = 0 := mx_mi_own mi36
theorem mm36 : mx_max 36 = 3 := mx_mi_max mi36
theorem rt36 : mx_ret 36 = (Option.some Jvm.ClassFile.FieldType.int) := mx_mi_ret mi36
theorem hn36 : mx_hnd 36 = [] := mx_mi_hnd mi36
theorem n36_0 : mx_ins 36 0 = some ((.iload_n 1), 1) := mx_ins_of mi36 dX0_other_0 rfl
theorem u36_0 : ev d 36 0 lo st h = evS (mx_ldI 1) d 36 1 lo st h := ev_s n36_0 rfl rfl
theorem n36_1 : mx_ins 36 1 = some ((.bipush 50), 2) := mx_ins_of mi36 dX0_other_1 rfl
theorem u36_1 : ev d 36 1 lo st h = ev d 36 3 lo (.int 50 :: st) h := (ev_s (f := mx_push (.int 50)) n36_1 rfl rfl).trans es_push
theorem n36_3 : mx_ins 36 3 = some ((.sipush 400), 3) := mx_ins_of mi36 dX0_other_3 rfl
theorem u36_3 : ev d 36 3 lo st h = ev d 36 6 lo (.int 400 :: st) h := (ev_s (f := mx_push (.int 400)) n36_3 rfl rfl).trans es_push
theorem n36_6 : mx_ins 36 6 = some ((.invokestatic 143), 3) := mx_ins_of mi36 dX0_other_6 rfl
theorem u36_6 : ev d 36 6 lo st h = evIn d 36 6 9 0 143 3 true lo st h := ev_inv n36_6 rfl rfl ow36 ia0_143
theorem n36_9 : mx_ins 36 9 = some ((.ifCond .eq 14), 3) := mx_ins_of mi36 dX0_other_9 rfl
theorem u36_9 : ev d 36 9 lo st h = evJ .eq d 36 23 12 lo st h := ev_if n36_9 rfl rfl
theorem n36_12 : mx_ins 36 12 = some ((.iload_n 2), 1) := mx_ins_of mi36 dX0_other_12 rfl
theorem u36_12 : ev d 36 12 lo st h = evS (mx_ldI 2) d 36 13 lo st h := ev_s n36_12 rfl rfl
theorem n36_13 : mx_ins 36 13 = some ((.iconst 1), 1) := mx_ins_of mi36 dX0_other_13 rfl
theorem u36_13 : ev d 36 13 lo st h = ev d 36 14 lo (.int 1 :: st) h := (ev_s (f := mx_push (.int 1)) n36_13 rfl rfl).trans es_push
theorem n36_14 : mx_ins 36 14 = some ((.sipush 9999), 3) := mx_ins_of mi36 dX0_other_14 rfl
theorem u36_14 : ev d 36 14 lo st h = ev d 36 17 lo (.int 9999 :: st) h := (ev_s (f := mx_push (.int 9999)) n36_14 rfl rfl).trans es_push
theorem n36_17 : mx_ins 36 17 = some ((.invokestatic 143), 3) := mx_ins_of mi36 dX0_other_17 rfl
theorem u36_17 : ev d 36 17 lo st h = evIn d 36 17 20 0 143 3 true lo st h := ev_inv n36_17 rfl rfl ow36 ia0_143
theorem n36_20 : mx_ins 36 20 = some ((.ifCond .ne 5), 3) := mx_ins_of mi36 dX0_other_20 rfl
theorem u36_20 : ev d 36 20 lo st h = evJ .ne d 36 25 23 lo st h := ev_if n36_20 rfl rfl
theorem n36_23 : mx_ins 36 23 = some ((.iconst (-1)), 1) := mx_ins_of mi36 dX0_other_23 rfl
theorem u36_23 : ev d 36 23 lo st h = ev d 36 24 lo (.int (-1) :: st) h := (ev_s (f := mx_push (.int (-1))) n36_23 rfl rfl).trans es_push
theorem n36_24 : mx_ins 36 24 = some (.ireturn, 1) := mx_ins_of mi36 dX0_other_24 rfl
theorem u36_24 : ev d 36 24 lo st h = evI d 36 24 25 lo st h .ireturn := ev_u n36_24 rfl
theorem n36_25 : mx_ins 36 25 = some ((.aload_n 0), 1) := mx_ins_of mi36 dX0_other_25 rfl
theorem u36_25 : ev d 36 25 lo st h = evS (mx_ldA 0) d 36 26 lo st h := ev_s n36_25 rfl rfl
theorem n36_26 : mx_ins 36 26 = some ((.getfield 22), 3) := mx_ins_of mi36 dX0_other_26 rfl
theorem u36_26 : ev d 36 26 lo st h = evS (mx_gf 0 22) d 36 29 lo st h := ev_s n36_26 rfl rfl
theorem n36_29 : mx_ins 36 29 = some ((.getfield 309), 3) := mx_ins_of mi36 dX0_other_29 rfl
theorem u36_29 : ev d 36 29 lo st h = evS (mx_gf 0 309) d 36 32 lo st h := ev_s n36_29 rfl rfl
theorem n36_32 : mx_ins 36 32 = some ((.bipush 10), 2) := mx_ins_of mi36 dX0_other_32 rfl
theorem u36_32 : ev d 36 32 lo st h = ev d 36 34 lo (.int 10 :: st) h := (ev_s (f := mx_push (.int 10)) n36_32 rfl rfl).trans es_push
theorem n36_34 : mx_ins 36 34 = some ((.if_icmp .ne 6), 3) := mx_ins_of mi36 dX0_other_34 rfl
theorem u36_34 : ev d 36 34 lo st h = evK .ne d 36 40 37 lo st h := ev_ic n36_34 rfl rfl
theorem n36_37 : mx_ins 36 37 = some ((.bipush (-2)), 2) := mx_ins_of mi36 dX0_other_37 rfl
theorem u36_37 : ev d 36 37 lo st h = ev d 36 39 lo (.int (-2) :: st) h := (ev_s (f := mx_push (.int (-2))) n36_37 rfl rfl).trans es_push
theorem n36_39 : mx_ins 36 39 = some (.ireturn, 1) := mx_ins_of mi36 dX0_other_39 rfl
theorem u36_39 : ev d 36 39 lo st h = evI d 36 39 40 lo st h .ireturn := ev_u n36_39 rfl
theorem n36_40 : mx_ins 36 40 = some ((.aload_n 0), 1) := mx_ins_of mi36 dX0_other_40 rfl
theorem u36_40 : ev d 36 40 lo st h = evS (mx_ldA 0) d 36 41 lo st h := ev_s n36_40 rfl rfl
theorem n36_41 : mx_ins 36 41 = some ((.getfield 22), 3) := mx_ins_of mi36 dX0_other_41 rfl
theorem u36_41 : ev d 36 41 lo st h = evS (mx_gf 0 22) d 36 44 lo st h := ev_s n36_41 rfl rfl
theorem n36_44 : mx_ins 36 44 = some ((.getfield 310), 3) := mx_ins_of mi36 dX0_other_44 rfl
theorem u36_44 : ev d 36 44 lo st h = evS (mx_gf 0 310) d 36 47 lo st h := ev_s n36_44 rfl rfl
theorem n36_47 : mx_ins 36 47 = some ((.aload_n 0), 1) := mx_ins_of mi36 dX0_other_47 rfl
theorem u36_47 : ev d 36 47 lo st h = evS (mx_ldA 0) d 36 48 lo st h := ev_s n36_47 rfl rfl
theorem n36_48 : mx_ins 36 48 = some ((.getfield 22), 3) := mx_ins_of mi36 dX0_other_48 rfl
theorem u36_48 : ev d 36 48 lo st h = evS (mx_gf 0 22) d 36 51 lo st h := ev_s n36_48 rfl rfl
theorem n36_51 : mx_ins 36 51 = some ((.getfield 309), 3) := mx_ins_of mi36 dX0_other_51 rfl
theorem u36_51 : ev d 36 51 lo st h = evS (mx_gf 0 309) d 36 54 lo st h := ev_s n36_51 rfl rfl
theorem n36_54 : mx_ins 36 54 = some ((.iload_n 1), 1) := mx_ins_of mi36 dX0_other_54 rfl
theorem u36_54 : ev d 36 54 lo st h = evS (mx_ldI 1) d 36 55 lo st h := ev_s n36_54 rfl rfl
theorem n36_55 : mx_ins 36 55 = some (.iastore, 1) := mx_ins_of mi36 dX0_other_55 rfl
theorem u36_55 : ev d 36 55 lo st h = evI d 36 55 56 lo st h .iastore := ev_u n36_55 rfl
theorem n36_56 : mx_ins 36 56 = some ((.aload_n 0), 1) := mx_ins_of mi36 dX0_other_56 rfl
theorem u36_56 : ev d 36 56 lo st h = evS (mx_ldA 0) d 36 57 lo st h := ev_s n36_56 rfl rfl
theorem n36_57 : mx_ins 36 57 = some ((.getfield 22), 3) := mx_ins_of mi36 dX0_other_57 rfl
theorem u36_57 : ev d 36 57 lo st h = evS (mx_gf 0 22) d 36 60 lo st h := ev_s n36_57 rfl rfl
theorem n36_60 : mx_ins 36 60 = some ((.getfield 312), 3) := mx_ins_of mi36 dX0_other_60 rfl
theorem u36_60 : ev d 36 60 lo st h = evS (mx_gf 0 312) d 36 63 lo st h := ev_s n36_60 rfl rfl
theorem n36_63 : mx_ins 36 63 = some ((.aload_n 0), 1) := mx_ins_of mi36 dX0_other_63 rfl
theorem u36_63 : ev d 36 63 lo st h = evS (mx_ldA 0) d 36 64 lo st h := ev_s n36_63 rfl rfl
theorem n36_64 : mx_ins 36 64 = some ((.getfield 22), 3) := mx_ins_of mi36 dX0_other_64 rfl
theorem u36_64 : ev d 36 64 lo st h = evS (mx_gf 0 22) d 36 67 lo st h := ev_s n36_64 rfl rfl
theorem n36_67 : mx_ins 36 67 = some ((.getfield 309), 3) := mx_ins_of mi36 dX0_other_67 rfl
theorem u36_67 : ev d 36 67 lo st h = evS (mx_gf 0 309) d 36 70 lo st h := ev_s n36_67 rfl rfl
theorem n36_70 : mx_ins 36 70 = some ((.iload_n 2), 1) := mx_ins_of mi36 dX0_other_70 rfl
theorem u36_70 : ev d 36 70 lo st h = evS (mx_ldI 2) d 36 71 lo st h := ev_s n36_70 rfl rfl
theorem n36_71 : mx_ins 36 71 = some (.iastore, 1) := mx_ins_of mi36 dX0_other_71 rfl
theorem u36_71 : ev d 36 71 lo st h = evI d 36 71 72 lo st h .iastore := ev_u n36_71 rfl
theorem n36_72 : mx_ins 36 72 = some ((.aload_n 0), 1) := mx_ins_of mi36 dX0_other_72 rfl
theorem u36_72 : ev d 36 72 lo st h = evS (mx_ldA 0) d 36 73 lo st h := ev_s n36_72 rfl rfl
theorem n36_73 : mx_ins 36 73 = some ((.getfield 22), 3) := mx_ins_of mi36 dX0_other_73 rfl
theorem u36_73 : ev d 36 73 lo st h = evS (mx_gf 0 22) d 36 76 lo st h := ev_s n36_73 rfl rfl
theorem n36_76 : mx_ins 36 76 = some (.dup, 1) := mx_ins_of mi36 dX0_other_76 rfl
theorem u36_76 : ev d 36 76 lo st h = evI d 36 76 77 lo st h .dup := ev_u n36_76 rfl
theorem n36_77 : mx_ins 36 77 = some ((.getfield 309), 3) := mx_ins_of mi36 dX0_other_77 rfl
theorem u36_77 : ev d 36 77 lo st h = evS (mx_gf 0 309) d 36 80 lo st h := ev_s n36_77 rfl rfl
theorem n36_80 : mx_ins 36 80 = some ((.iconst 1), 1) := mx_ins_of mi36 dX0_other_80 rfl
theorem u36_80 : ev d 36 80 lo st h = ev d 36 81 lo (.int 1 :: st) h := (ev_s (f := mx_push (.int 1)) n36_80 rfl rfl).trans es_push
theorem n36_81 : mx_ins 36 81 = some (.iadd, 1) := mx_ins_of mi36 dX0_other_81 rfl
theorem u36_81 : ev d 36 81 lo st h = evI d 36 81 82 lo st h .iadd := ev_u n36_81 rfl
theorem n36_82 : mx_ins 36 82 = some ((.putfield 309), 3) := mx_ins_of mi36 dX0_other_82 rfl
theorem u36_82 : ev d 36 82 lo st h = evS (mx_pf 0 309 false) d 36 85 lo st h := ev_s n36_82 rfl rfl
theorem n36_85 : mx_ins 36 85 = some ((.aload_n 0), 1) := mx_ins_of mi36 dX0_other_85 rfl
theorem u36_85 : ev d 36 85 lo st h = evS (mx_ldA 0) d 36 86 lo st h := ev_s n36_85 rfl rfl
theorem n36_86 : mx_ins 36 86 = some ((.getfield 22), 3) := mx_ins_of mi36 dX0_other_86 rfl
theorem u36_86 : ev d 36 86 lo st h = evS (mx_gf 0 22) d 36 89 lo st h := ev_s n36_86 rfl rfl
theorem n36_89 : mx_ins 36 89 = some ((.getfield 309), 3) := mx_ins_of mi36 dX0_other_89 rfl
theorem u36_89 : ev d 36 89 lo st h = evS (mx_gf 0 309) d 36 92 lo st h := ev_s n36_89 rfl rfl
theorem n36_92 : mx_ins 36 92 = some (.ireturn, 1) := mx_ins_of mi36 dX0_other_92 rfl
theorem u36_92 : ev d 36 92 lo st h = evI d 36 92 93 lo st h .ireturn := ev_u n36_92 rfl
theorem mi37 : mx_mi 37 = some (yX0_lighter, cX0_lighter, 1, (Option.some Jvm.ClassFile.FieldType.int), 0, 1, []) := rfl
theorem ow37 : mx_own 37 = 0 := mx_mi_own mi37
theorem mm37 : mx_max 37 = 1 := mx_mi_max mi37
theorem rt37 : mx_ret 37 = (Option.some Jvm.ClassFile.FieldType.int) := mx_mi_ret mi37
theorem hn37 : mx_hnd 37 = [] := mx_mi_hnd mi37
theorem n37_0 : mx_ins 37 0 = some ((.aload_n 0), 1) := mx_ins_of mi37 dX0_lighter_0 rfl
theorem u37_0 : ev d 37 0 lo st h = evS (mx_ldA 0) d 37 1 lo st h := ev_s n37_0 rfl rfl
theorem n37_1 : mx_ins 37 1 = some ((.aload_n 0), 1) := mx_ins_of mi37 dX0_lighter_1 rfl
theorem u37_1 : ev d 37 1 lo st h = evS (mx_ldA 0) d 37 2 lo st h := ev_s n37_1 rfl rfl
theorem n37_2 : mx_ins 37 2 = some ((.getfield 22), 3) := mx_ins_of mi37 dX0_lighter_2 rfl
theorem u37_2 : ev d 37 2 lo st h = evS (mx_gf 0 22) d 37 5 lo st h := ev_s n37_2 rfl rfl
theorem n37_5 : mx_ins 37 5 = some ((.getfield 238), 3) := mx_ins_of mi37 dX0_lighter_5 rfl
theorem u37_5 : ev d 37 5 lo st h = evS (mx_gf 0 238) d 37 8 lo st h := ev_s n37_5 rfl rfl
theorem n37_8 : mx_ins 37 8 = some ((.invokevirtual 256), 3) := mx_ins_of mi37 dX0_lighter_8 rfl
theorem u37_8 : ev d 37 8 lo st h = evIn d 37 8 11 0 256 1 false lo st h := ev_inv n37_8 rfl rfl ow37 ia0_256
theorem n37_11 : mx_ins 37 11 = some ((.invokevirtual 314), 3) := mx_ins_of mi37 dX0_lighter_11 rfl
theorem u37_11 : ev d 37 11 lo st h = evIn d 37 11 14 0 314 2 false lo st h := ev_inv n37_11 rfl rfl ow37 ia0_314
theorem n37_14 : mx_ins 37 14 = some (.ireturn, 1) := mx_ins_of mi37 dX0_lighter_14 rfl
theorem u37_14 : ev d 37 14 lo st h = evI d 37 14 15 lo st h .ireturn := ev_u n37_14 rfl
theorem mi38 : mx_mi 38 = some (yX0_lighterThan, cX0_lighterThan, 5, (Option.some Jvm.ClassFile.FieldType.int), 0, 2, []) := rfl
theorem ow38 : mx_own 38 = 0 := mx_mi_own mi38
theorem mm38 : mx_max 38 = 5 := mx_mi_max mi38
theorem rt38 : mx_ret 38 = (Option.some Jvm.ClassFile.FieldType.int) := mx_mi_ret mi38
theorem hn38 : mx_hnd 38 = [] := mx_mi_hnd mi38
theorem n38_0 : mx_ins 38 0 = some ((.aload_n 0), 1) := mx_ins_of mi38 dX0_lighterThan_0 rfl
theorem u38_0 : ev d 38 0 lo st h = evS (mx_ldA 0) d 38 1 lo st h := ev_s n38_0 rfl rfl
theorem n38_1 : mx_ins 38 1 = some ((.getfield 22), 3) := mx_ins_of mi38 dX0_lighterThan_1 rfl
theorem u38_1 : ev d 38 1 lo st h = evS (mx_gf 0 22) d 38 4 lo st h := ev_s n38_1 rfl rfl
theorem n38_4 : mx_ins 38 4 = some ((.getfield 238), 3) := mx_ins_of mi38 dX0_lighterThan_4 rfl
theorem u38_4 : ev d 38 4 lo st h = evS (mx_gf 0 238) d 38 7 lo st h := ev_s n38_4 rfl rfl
theorem n38_7 : mx_ins 38 7 = some ((.getfield 241), 3) := mx_ins_of mi38 dX0_lighterThan_7 rfl
theorem u38_7 : ev d 38 7 lo st h = evS (mx_gf 0 241) d 38 10 lo st h := ev_s n38_7 rfl rfl
theorem n38_10 : mx_ins 38 10 = some ((.iload_n 1), 1) := mx_ins_of mi38 dX0_lighterThan_10 rfl
theorem u38_10 : ev d 38 10 lo st h = evS (mx_ldI 1) d 38 11 lo st h := ev_s n38_10 rfl rfl
theorem n38_11 : mx_ins 38 11 = some ((.invokestatic 259), 3) := mx_ins_of mi38 dX0_lighterThan_11 rfl
theorem u38_11 : ev d 38 11 lo st h = evIn d 38 11 14 0 259 2 true lo st h := ev_inv n38_11 rfl rfl ow38 ia0_259
theorem n38_14 : mx_ins 38 14 = some ((.istore_n 2), 1) := mx_ins_of mi38 dX0_lighterThan_14 rfl
theorem u38_14 : ev d 38 14 lo st h = evS (mx_stI 2) d 38 15 lo st h := ev_s n38_14 rfl rfl
theorem n38_15 : mx_ins 38 15 = some ((.iconst 0), 1) := mx_ins_of mi38 dX0_lighterThan_15 rfl
theorem u38_15 : ev d 38 15 lo st h = ev d 38 16 lo (.int 0 :: st) h := (ev_s (f := mx_push (.int 0)) n38_15 rfl rfl).trans es_push
theorem n38_16 : mx_ins 38 16 = some ((.istore_n 3), 1) := mx_ins_of mi38 dX0_lighterThan_16 rfl
theorem u38_16 : ev d 38 16 lo st h = evS (mx_stI 3) d 38 17 lo st h := ev_s n38_16 rfl rfl
theorem n38_17 : mx_ins 38 17 = some ((.iconst 0), 1) := mx_ins_of mi38 dX0_lighterThan_17 rfl
theorem u38_17 : ev d 38 17 lo st h = ev d 38 18 lo (.int 0 :: st) h := (ev_s (f := mx_push (.int 0)) n38_17 rfl rfl).trans es_push
theorem n38_18 : mx_ins 38 18 = some ((.istore 4), 2) := mx_ins_of mi38 dX0_lighterThan_18 rfl
theorem u38_18 : ev d 38 18 lo st h = evS (mx_stI 4) d 38 20 lo st h := ev_s n38_18 rfl rfl
theorem n38_20 : mx_ins 38 20 = some ((.iload 4), 2) := mx_ins_of mi38 dX0_lighterThan_20 rfl
theorem u38_20 : ev d 38 20 lo st h = evS (mx_ldI 4) d 38 22 lo st h := ev_s n38_20 rfl rfl
theorem n38_22 : mx_ins 38 22 = some ((.aload_n 0), 1) := mx_ins_of mi38 dX0_lighterThan_22 rfl
theorem u38_22 : ev d 38 22 lo st h = evS (mx_ldA 0) d 38 23 lo st h := ev_s n38_22 rfl rfl
theorem n38_23 : mx_ins 38 23 = some ((.getfield 22), 3) := mx_ins_of mi38 dX0_lighterThan_23 rfl
theorem u38_23 : ev d 38 23 lo st h = evS (mx_gf 0 22) d 38 26 lo st h := ev_s n38_23 rfl rfl
theorem n38_26 : mx_ins 38 26 = some ((.getfield 309), 3) := mx_ins_of mi38 dX0_lighterThan_26 rfl
theorem u38_26 : ev d 38 26 lo st h = evS (mx_gf 0 309) d 38 29 lo st h := ev_s n38_26 rfl rfl
theorem n38_29 : mx_ins 38 29 = some ((.if_icmp .ge 44), 3) := mx_ins_of mi38 dX0_lighterThan_29 rfl
theorem u38_29 : ev d 38 29 lo st h = evK .ge d 38 73 32 lo st h := ev_ic n38_29 rfl rfl
theorem n38_32 : mx_ins 38 32 = some ((.iload_n 3), 1) := mx_ins_of mi38 dX0_lighterThan_32 rfl
theorem u38_32 : ev d 38 32 lo st h = evS (mx_ldI 3) d 38 33 lo st h := ev_s n38_32 rfl rfl
theorem n38_33 : mx_ins 38 33 = some ((.aload_n 0), 1) := mx_ins_of mi38 dX0_lighterThan_33 rfl
theorem u38_33 : ev d 38 33 lo st h = evS (mx_ldA 0) d 38 34 lo st h := ev_s n38_33 rfl rfl
theorem n38_34 : mx_ins 38 34 = some ((.getfield 22), 3) := mx_ins_of mi38 dX0_lighterThan_34 rfl
theorem u38_34 : ev d 38 34 lo st h = evS (mx_gf 0 22) d 38 37 lo st h := ev_s n38_34 rfl rfl
theorem n38_37 : mx_ins 38 37 = some ((.getfield 310), 3) := mx_ins_of mi38 dX0_lighterThan_37 rfl
theorem u38_37 : ev d 38 37 lo st h = evS (mx_gf 0 310) d 38 40 lo st h := ev_s n38_37 rfl rfl
theorem n38_40 : mx_ins 38 40 = some ((.iload 4), 2) := mx_ins_of mi38 dX0_lighterThan_40 rfl
theorem u38_40 : ev d 38 40 lo st h = evS (mx_ldI 4) d 38 42 lo st h := ev_s n38_40 rfl rfl
theorem n38_42 : mx_ins 38 42 = some (.iaload, 1) := mx_ins_of mi38 dX0_lighterThan_42 rfl
theorem u38_42 : ev d 38 42 lo st h = evI d 38 42 43 lo st h .iaload := ev_u n38_42 rfl
theorem n38_43 : mx_ins 38 43 = some ((.aload_n 0), 1) := mx_ins_of mi38 dX0_lighterThan_43 rfl
theorem u38_43 : ev d 38 43 lo st h = evS (mx_ldA 0) d 38 44 lo st h := ev_s n38_43 rfl rfl
theorem n38_44 : mx_ins 38 44 = some ((.getfield 22), 3) := mx_ins_of mi38 dX0_lighterThan_44 rfl
theorem u38_44 : ev d 38 44 lo st h = evS (mx_gf 0 22) d 38 47 lo st h := ev_s n38_44 rfl rfl
theorem n38_47 : mx_ins 38 47 = some ((.getfield 312), 3) := mx_ins_of mi38 dX0_lighterThan_47 rfl
theorem u38_47 : ev d 38 47 lo st h = evS (mx_gf 0 312) d 38 50 lo st h := ev_s n38_47 rfl rfl
theorem n38_50 : mx_ins 38 50 = some ((.iload 4), 2) := mx_ins_of mi38 dX0_lighterThan_50 rfl
theorem u38_50 : ev d 38 50 lo st h = evS (mx_ldI 4) d 38 52 lo st h := ev_s n38_50 rfl rfl
theorem n38_52 : mx_ins 38 52 = some (.iaload, 1) := mx_ins_of mi38 dX0_lighterThan_52 rfl
theorem u38_52 : ev d 38 52 lo st h = evI d 38 52 53 lo st h .iaload := ev_u n38_52 rfl
theorem n38_53 : mx_ins 38 53 = some ((.invokestatic 259), 3) := mx_ins_of mi38 dX0_lighterThan_53 rfl
theorem u38_53 : ev d 38 53 lo st h = evIn d 38 53 56 0 259 2 true lo st h := ev_inv n38_53 rfl rfl ow38 ia0_259
theorem n38_56 : mx_ins 38 56 = some ((.iload_n 2), 1) := mx_ins_of mi38 dX0_lighterThan_56 rfl
theorem u38_56 : ev d 38 56 lo st h = evS (mx_ldI 2) d 38 57 lo st h := ev_s n38_56 rfl rfl
theorem n38_57 : mx_ins 38 57 = some ((.if_icmp .ge 7), 3) := mx_ins_of mi38 dX0_lighterThan_57 rfl
theorem u38_57 : ev d 38 57 lo st h = evK .ge d 38 64 60 lo st h := ev_ic n38_57 rfl rfl
theorem n38_60 : mx_ins 38 60 = some ((.iconst 1), 1) := mx_ins_of mi38 dX0_lighterThan_60 rfl
theorem u38_60 : ev d 38 60 lo st h = ev d 38 61 lo (.int 1 :: st) h := (ev_s (f := mx_push (.int 1)) n38_60 rfl rfl).trans es_push
theorem n38_61 : mx_ins 38 61 = some ((.goto 4), 3) := mx_ins_of mi38 dX0_lighterThan_61 rfl
theorem u38_61 : ev d 38 61 lo st h = ev d 38 65 lo st h := ev_goto n38_61 rfl
theorem n38_64 : mx_ins 38 64 = some ((.iconst 0), 1) := mx_ins_of mi38 dX0_lighterThan_64 rfl
theorem u38_64 : ev d 38 64 lo st h = ev d 38 65 lo (.int 0 :: st) h := (ev_s (f := mx_push (.int 0)) n38_64 rfl rfl).trans es_push
theorem n38_65 : mx_ins 38 65 = some (.iadd, 1) := mx_ins_of mi38 dX0_lighterThan_65 rfl
theorem u38_65 : ev d 38 65 lo st h = evI d 38 65 66 lo st h .iadd := ev_u n38_65 rfl
theorem n38_66 : mx_ins 38 66 = some ((.istore_n 3), 1) := mx_ins_of mi38 dX0_lighterThan_66 rfl
theorem u38_66 : ev d 38 66 lo st h = evS (mx_stI 3) d 38 67 lo st h := ev_s n38_66 rfl rfl
theorem n38_67 : mx_ins 38 67 = some ((.iinc 4 1), 3) := mx_ins_of mi38 dX0_lighterThan_67 rfl
theorem u38_67 : ev d 38 67 lo st h = evS (mx_inc 4 (1)) d 38 70 lo st h := ev_s n38_67 rfl rfl
theorem n38_70 : mx_ins 38 70 = some ((.goto (-50)), 3) := mx_ins_of mi38 dX0_lighterThan_70 rfl
theorem u38_70 : ev d 38 70 lo st h = ev d 38 20 lo st h := ev_goto n38_70 rfl
theorem n38_73 : mx_ins 38 73 = some ((.iload_n 3), 1) := mx_ins_of mi38 dX0_lighterThan_73 rfl
theorem u38_73 : ev d 38 73 lo st h = evS (mx_ldI 3) d 38 74 lo st h := ev_s n38_73 rfl rfl
theorem n38_74 : mx_ins 38 74 = some (.ireturn, 1) := mx_ins_of mi38 dX0_lighterThan_74 rfl
theorem u38_74 : ev d 38 74 lo st h = evI d 38 74 75 lo st h .ireturn := ev_u n38_74 rfl
theorem mi39 : mx_mi 39 = some (yX0_least, cX0_least, 3, (Option.some Jvm.ClassFile.FieldType.int), 0, 2, []) := rfl
theorem ow39 : mx_own 39 = 0 := mx_mi_own mi39
theorem mm39 : mx_max 39 = 3 := mx_mi_max mi39
theorem rt39 : mx_ret 39 = (Option.some Jvm.ClassFile.FieldType.int) := mx_mi_ret mi39
theorem hn39 : mx_hnd 39 = [] := mx_mi_hnd mi39
theorem n39_0 : mx_ins 39 0 = some ((.iload_n 1), 1) := mx_ins_of mi39 dX0_least_0 rfl
theorem u39_0 : ev d 39 0 lo st h = evS (mx_ldI 1) d 39 1 lo st h := ev_s n39_0 rfl rfl
theorem n39_1 : mx_ins 39 1 = some ((.iconst 0), 1) := mx_ins_of mi39 dX0_least_1 rfl
theorem u39_1 : ev d 39 1 lo st h = ev d 39 2 lo (.int 0 :: st) h := (ev_s (f := mx_push (.int 0)) n39_1 rfl rfl).trans es_push
theorem n39_2 : mx_ins 39 2 = some ((.bipush 10), 2) := mx_ins_of mi39 dX0_least_2 rfl
theorem u39_2 : ev d 39 2 lo st h = ev d 39 4 lo (.int 10 :: st) h := (ev_s (f := mx_push (.int 10)) n39_2 rfl rfl).trans es_push
theorem n39_4 : mx_ins 39 4 = some ((.invokestatic 143), 3) := mx_ins_of mi39 dX0_least_4 rfl
theorem u39_4 : ev d 39 4 lo st h = evIn d 39 4 7 0 143 3 true lo st h := ev_inv n39_4 rfl rfl ow39 ia0_143
theorem n39_7 : mx_ins 39 7 = some ((.ifCond .ne 5), 3) := mx_ins_of mi39 dX0_least_7 rfl
theorem u39_7 : ev d 39 7 lo st h = evJ .ne d 39 12 10 lo st h := ev_if n39_7 rfl rfl
theorem n39_10 : mx_ins 39 10 = some ((.iconst (-1)), 1) := mx_ins_of mi39 dX0_least_10 rfl
theorem u39_10 : ev d 39 10 lo st h = ev d 39 11 lo (.int (-1) :: st) h := (ev_s (f := mx_push (.int (-1))) n39_10 rfl rfl).trans es_push
theorem n39_11 : mx_ins 39 11 = some (.ireturn, 1) := mx_ins_of mi39 dX0_least_11 rfl
theorem u39_11 : ev d 39 11 lo st h = evI d 39 11 12 lo st h .ireturn := ev_u n39_11 rfl
theorem n39_12 : mx_ins 39 12 = some ((.iconst 1), 1) := mx_ins_of mi39 dX0_least_12 rfl
theorem u39_12 : ev d 39 12 lo st h = ev d 39 13 lo (.int 1 :: st) h := (ev_s (f := mx_push (.int 1)) n39_12 rfl rfl).trans es_push
theorem n39_13 : mx_ins 39 13 = some ((.istore_n 2), 1) := mx_ins_of mi39 dX0_least_13 rfl
theorem u39_13 : ev d 39 13 lo st h = evS (mx_stI 2) d 39 14 lo st h := ev_s n39_13 rfl rfl
theorem n39_14 : mx_ins 39 14 = some ((.iload_n 2), 1) := mx_ins_of mi39 dX0_least_14 rfl
theorem u39_14 : ev d 39 14 lo st h = evS (mx_ldI 2) d 39 15 lo st h := ev_s n39_14 rfl rfl
theorem n39_15 : mx_ins 39 15 = some ((.sipush 9999), 3) := mx_ins_of mi39 dX0_least_15 rfl
theorem u39_15 : ev d 39 15 lo st h = ev d 39 18 lo (.int 9999 :: st) h := (ev_s (f := mx_push (.int 9999)) n39_15 rfl rfl).trans es_push
theorem n39_18 : mx_ins 39 18 = some ((.if_icmp .gt 18), 3) := mx_ins_of mi39 dX0_least_18 rfl
theorem u39_18 : ev d 39 18 lo st h = evK .gt d 39 36 21 lo st h := ev_ic n39_18 rfl rfl
theorem n39_21 : mx_ins 39 21 = some ((.aload_n 0), 1) := mx_ins_of mi39 dX0_least_21 rfl
theorem u39_21 : ev d 39 21 lo st h = evS (mx_ldA 0) d 39 22 lo st h := ev_s n39_21 rfl rfl
theorem n39_22 : mx_ins 39 22 = some ((.iload_n 2), 1) := mx_ins_of mi39 dX0_least_22 rfl
theorem u39_22 : ev d 39 22 lo st h = evS (mx_ldI 2) d 39 23 lo st h := ev_s n39_22 rfl rfl
theorem n39_23 : mx_ins 39 23 = some ((.invokevirtual 314), 3) := mx_ins_of mi39 dX0_least_23 rfl
theorem u39_23 : ev d 39 23 lo st h = evIn d 39 23 26 0 314 2 false lo st h := ev_inv n39_23 rfl rfl ow39 ia0_314
theorem n39_26 : mx_ins 39 26 = some ((.iload_n 1), 1) := mx_ins_of mi39 dX0_least_26 rfl
theorem u39_26 : ev d 39 26 lo st h = evS (mx_ldI 1) d 39 27 lo st h := ev_s n39_26 rfl rfl
theorem n39_27 : mx_ins 39 27 = some ((.if_icmp .ge 9), 3) := mx_ins_of mi39 dX0_least_27 rfl
theorem u39_27 : ev d 39 27 lo st h = evK .ge d 39 36 30 lo st h := ev_ic n39_27 rfl rfl
theorem n39_30 : mx_ins 39 30 = some ((.iinc 2 1), 3) := mx_ins_of mi39 dX0_least_30 rfl
theorem u39_30 : ev d 39 30 lo st h = evS (mx_inc 2 (1)) d 39 33 lo st h := ev_s n39_30 rfl rfl
theorem n39_33 : mx_ins 39 33 = some ((.goto (-19)), 3) := mx_ins_of mi39 dX0_least_33 rfl
theorem u39_33 : ev d 39 33 lo st h = ev d 39 14 lo st h := ev_goto n39_33 rfl
theorem n39_36 : mx_ins 39 36 = some ((.iload_n 2), 1) := mx_ins_of mi39 dX0_least_36 rfl
theorem u39_36 : ev d 39 36 lo st h = evS (mx_ldI 2) d 39 37 lo st h := ev_s n39_36 rfl rfl
theorem n39_37 : mx_ins 39 37 = some ((.sipush 9999), 3) := mx_ins_of mi39 dX0_least_37 rfl
theorem u39_37 : ev d 39 37 lo st h = ev d 39 40 lo (.int 9999 :: st) h := (ev_s (f := mx_push (.int 9999)) n39_37 rfl rfl).trans es_push
theorem n39_40 : mx_ins 39 40 = some ((.if_icmp .le 8), 3) := mx_ins_of mi39 dX0_least_40 rfl
theorem u39_40 : ev d 39 40 lo st h = evK .le d 39 48 43 lo st h := ev_ic n39_40 rfl rfl
theorem n39_43 : mx_ins 39 43 = some ((.bipush (-3)), 2) := mx_ins_of mi39 dX0_least_43 rfl
theorem u39_43 : ev d 39 43 lo st h = ev d 39 45 lo (.int (-3) :: st) h := (ev_s (f := mx_push (.int (-3))) n39_43 rfl rfl).trans es_push
theorem n39_45 : mx_ins 39 45 = some ((.goto 4), 3) := mx_ins_of mi39 dX0_least_45 rfl
theorem u39_45 : ev d 39 45 lo st h = ev d 39 49 lo st h := ev_goto n39_45 rfl
theorem n39_48 : mx_ins 39 48 = some ((.iload_n 2), 1) := mx_ins_of mi39 dX0_least_48 rfl
theorem u39_48 : ev d 39 48 lo st h = evS (mx_ldI 2) d 39 49 lo st h := ev_s n39_48 rfl rfl
theorem n39_49 : mx_ins 39 49 = some (.ireturn, 1) := mx_ins_of mi39 dX0_least_49 rfl
theorem u39_49 : ev d 39 49 lo st h = evI d 39 49 50 lo st h .ireturn := ev_u n39_49 rfl
theorem mi40 : mx_mi 40 = some (yX0_row, cX0_row, 3, (Option.some Jvm.ClassFile.FieldType.int), 0, 3, []) := rfl
theorem ow40 : mx_own 40 = 0 := mx_mi_own mi40
theorem mm40 : mx_max 40 = 3 := mx_mi_max mi40
theorem rt40 : mx_ret 40 = (Option.some Jvm.ClassFile.FieldType.int) := mx_mi_ret mi40
theorem hn40 : mx_hnd 40 = [] := mx_mi_hnd mi40
theorem n40_0 : mx_ins 40 0 = some ((.aload_n 0), 1) := mx_ins_of mi40 dX0_row_0 rfl
theorem u40_0 : ev d 40 0 lo st h = evS (mx_ldA 0) d 40 1 lo st h := ev_s n40_0 rfl rfl
theorem n40_1 : mx_ins 40 1 = some ((.iload_n 1), 1) := mx_ins_of mi40 dX0_row_1 rfl
theorem u40_1 : ev d 40 1 lo st h = evS (mx_ldI 1) d 40 2 lo st h := ev_s n40_1 rfl rfl
theorem n40_2 : mx_ins 40 2 = some ((.iload_n 2), 1) := mx_ins_of mi40 dX0_row_2 rfl
theorem u40_2 : ev d 40 2 lo st h = evS (mx_ldI 2) d 40 3 lo st h := ev_s n40_2 rfl rfl
theorem n40_3 : mx_ins 40 3 = some ((.invokevirtual 321), 3) := mx_ins_of mi40 dX0_row_3 rfl
theorem u40_3 : ev d 40 3 lo st h = evIn d 40 3 6 0 321 3 false lo st h := ev_inv n40_3 rfl rfl ow40 ia0_321
theorem n40_6 : mx_ins 40 6 = some ((.ifCond .eq 17), 3) := mx_ins_of mi40 dX0_row_6 rfl
theorem u40_6 : ev d 40 6 lo st h = evJ .eq d 40 23 9 lo st h := ev_if n40_6 rfl rfl
theorem n40_9 : mx_ins 40 9 = some ((.aload_n 0), 1) := mx_ins_of mi40 dX0_row_9 rfl
theorem u40_9 : ev d 40 9 lo st h = evS (mx_ldA 0) d 40 10 lo st h := ev_s n40_9 rfl rfl
theorem n40_10 : mx_ins 40 10 = some ((.getfield 94), 3) := mx_ins_of mi40 dX0_row_10 rfl
theorem u40_10 : ev d 40 10 lo st h = evS (mx_gf 0 94) d 40 13 lo st h := ev_s n40_10 rfl rfl
theorem n40_13 : mx_ins 40 13 = some ((.iload_n 1), 1) := mx_ins_of mi40 dX0_row_13 rfl
theorem u40_13 : ev d 40 13 lo st h = evS (mx_ldI 1) d 40 14 lo st h := ev_s n40_13 rfl rfl
theorem n40_14 : mx_ins 40 14 = some (.aaload, 1) := mx_ins_of mi40 dX0_row_14 rfl
theorem u40_14 : ev d 40 14 lo st h = evI d 40 14 15 lo st h .aaload := ev_u n40_14 rfl
theorem n40_15 : mx_ins 40 15 = some ((.getfield 324), 3) := mx_ins_of mi40 dX0_row_15 rfl
theorem u40_15 : ev d 40 15 lo st h = evS (mx_gf 0 324) d 40 18 lo st h := ev_s n40_15 rfl rfl
theorem n40_18 : mx_ins 40 18 = some ((.iload_n 2), 1) := mx_ins_of mi40 dX0_row_18 rfl
theorem u40_18 : ev d 40 18 lo st h = evS (mx_ldI 2) d 40 19 lo st h := ev_s n40_18 rfl rfl
theorem n40_19 : mx_ins 40 19 = some (.iaload, 1) := mx_ins_of mi40 dX0_row_19 rfl
theorem u40_19 : ev d 40 19 lo st h = evI d 40 19 20 lo st h .iaload := ev_u n40_19 rfl
theorem n40_20 : mx_ins 40 20 = some ((.goto 5), 3) := mx_ins_of mi40 dX0_row_20 rfl
theorem u40_20 : ev d 40 20 lo st h = ev d 40 25 lo st h := ev_goto n40_20 rfl
theorem n40_23 : mx_ins 40 23 = some ((.bipush (-9)), 2) := mx_ins_of mi40 dX0_row_23 rfl
theorem u40_23 : ev d 40 23 lo st h = ev d 40 25 lo (.int (-9) :: st) h := (ev_s (f := mx_push (.int (-9))) n40_23 rfl rfl).trans es_push
theorem n40_25 : mx_ins 40 25 = some (.ireturn, 1) := mx_ins_of mi40 dX0_row_25 rfl
theorem u40_25 : ev d 40 25 lo st h = evI d 40 25 26 lo st h .ireturn := ev_u n40_25 rfl
theorem mi41 : mx_mi 41 = some (yX0_isCell, cX0_isCell, 3, (Option.some Jvm.ClassFile.FieldType.boolean), 0, 3, []) := rfl
theorem ow41 : mx_own 41 = 0 := mx_mi_own mi41
theorem mm41 : mx_max 41 = 3 := mx_mi_max mi41
theorem rt41 : mx_ret 41 = (Option.some Jvm.ClassFile.FieldType.boolean) := mx_mi_ret mi41
theorem hn41 : mx_hnd 41 = [] := mx_mi_hnd mi41
theorem n41_0 : mx_ins 41 0 = some ((.iload_n 1), 1) := mx_ins_of mi41 dX0_isCell_0 rfl
theorem u41_0 : ev d 41 0 lo st h = evS (mx_ldI 1) d 41 1 lo st h := ev_s n41_0 rfl rfl
theorem n41_1 : mx_ins 41 1 = some ((.iconst 0), 1) := mx_ins_of mi41 dX0_isCell_1 rfl
theorem u41_1 : ev d 41 1 lo st h = ev d 41 2 lo (.int 0 :: st) h := (ev_s (f := mx_push (.int 0)) n41_1 rfl rfl).trans es_push
theorem n41_2 : mx_ins 41 2 = some ((.aload_n 0), 1) := mx_ins_of mi41 dX0_isCell_2 rfl
theorem u41_2 : ev d 41 2 lo st h = evS (mx_ldA 0) d 41 3 lo st h := ev_s n41_2 rfl rfl
theorem n41_3 : mx_ins 41 3 = some ((.getfield 318), 3) := mx_ins_of mi41 dX0_isCell_3 rfl
theorem u41_3 : ev d 41 3 lo st h = evS (mx_gf 0 318) d 41 6 lo st h := ev_s n41_3 rfl rfl
theorem n41_6 : mx_ins 41 6 = some ((.iconst 1), 1) := mx_ins_of mi41 dX0_isCell_6 rfl
theorem u41_6 : ev d 41 6 lo st h = ev d 41 7 lo (.int 1 :: st) h := (ev_s (f := mx_push (.int 1)) n41_6 rfl rfl).trans es_push
theorem n41_7 : mx_ins 41 7 = some (.isub, 1) := mx_ins_of mi41 dX0_isCell_7 rfl
theorem u41_7 : ev d 41 7 lo st h = evI d 41 7 8 lo st h .isub := ev_u n41_7 rfl
theorem n41_8 : mx_ins 41 8 = some ((.invokestatic 143), 3) := mx_ins_of mi41 dX0_isCell_8 rfl
theorem u41_8 : ev d 41 8 lo st h = evIn d 41 8 11 0 143 3 true lo st h := ev_inv n41_8 rfl rfl ow41 ia0_143
theorem n41_11 : mx_ins 41 11 = some ((.ifCond .eq 16), 3) := mx_ins_of mi41 dX0_isCell_11 rfl
theorem u41_11 : ev d 41 11 lo st h = evJ .eq d 41 27 14 lo st h := ev_if n41_11 rfl rfl
theorem n41_14 : mx_ins 41 14 = some ((.iload_n 2), 1) := mx_ins_of mi41 dX0_isCell_14 rfl
theorem u41_14 : ev d 41 14 lo st h = evS (mx_ldI 2) d 41 15 lo st h := ev_s n41_14 rfl rfl
theorem n41_15 : mx_ins 41 15 = some ((.iconst 0), 1) := mx_ins_of mi41 dX0_isCell_15 rfl
theorem u41_15 : ev d 41 15 lo st h = ev d 41 16 lo (.int 0 :: st) h := (ev_s (f := mx_push (.int 0)) n41_15 rfl rfl).trans es_push
theorem n41_16 : mx_ins 41 16 = some ((.iconst 2), 1) := mx_ins_of mi41 dX0_isCell_16 rfl
theorem u41_16 : ev d 41 16 lo st h = ev d 41 17 lo (.int 2 :: st) h := (ev_s (f := mx_push (.int 2)) n41_16 rfl rfl).trans es_push
theorem n41_17 : mx_ins 41 17 = some ((.invokestatic 143), 3) := mx_ins_of mi41 dX0_isCell_17 rfl
theorem u41_17 : ev d 41 17 lo st h = evIn d 41 17 20 0 143 3 true lo st h := ev_inv n41_17 rfl rfl ow41 ia0_143
theorem n41_20 : mx_ins 41 20 = some ((.ifCond .eq 7), 3) := mx_ins_of mi41 dX0_isCell_20 rfl
theorem u41_20 : ev d 41 20 lo st h = evJ .eq d 41 27 23 lo st h := ev_if n41_20 rfl rfl
theorem n41_23 : mx_ins 41 23 = some ((.iconst 1), 1) := mx_ins_of mi41 dX0_isCell_23 rfl
theorem u41_23 : ev d 41 23 lo st h = ev d 41 24 lo (.int 1 :: st) h := (ev_s (f := mx_push (.int 1)) n41_23 rfl rfl).trans es_push
theorem n41_24 : mx_ins 41 24 = some ((.goto 4), 3) := mx_ins_of mi41 dX0_isCell_24 rfl
theorem u41_24 : ev d 41 24 lo st h = ev d 41 28 lo st h := ev_goto n41_24 rfl
theorem n41_27 : mx_ins 41 27 = some ((.iconst 0), 1) := mx_ins_of mi41 dX0_isCell_27 rfl
theorem u41_27 : ev d 41 27 lo st h = ev d 41 28 lo (.int 0 :: st) h := (ev_s (f := mx_push (.int 0)) n41_27 rfl rfl).trans es_push
theorem n41_28 : mx_ins 41 28 = some (.ireturn, 1) := mx_ins_of mi41 dX0_isCell_28 rfl
theorem u41_28 : ev d 41 28 lo st h = evI d 41 28 29 lo st h .ireturn := ev_u n41_28 rfl
theorem mi42 : mx_mi 42 = some (yX0_alterRow, cX0_alterRow, 5, (Option.some Jvm.ClassFile.FieldType.int), 0, 4, []) := rfl
theorem ow42 : mx_own 42 = 0 := mx_mi_own mi42
theorem mm42 : mx_max 42 = 5 := mx_mi_max mi42
theorem rt42 : mx_ret 42 = (Option.some Jvm.ClassFile.FieldType.int) := mx_mi_ret mi42
theorem hn42 : mx_hnd 42 = [] := mx_mi_hnd mi42
theorem n42_0 : mx_ins 42 0 = some ((.aload_n 0), 1) := mx_ins_of mi42 dX0_alterRow_0 rfl
theorem u42_0 : ev d 42 0 lo st h = evS (mx_ldA 0) d 42 1 lo st h := ev_s n42_0 rfl rfl
theorem n42_1 : mx_ins 42 1 = some ((.iload_n 1), 1) := mx_ins_of mi42 dX0_alterRow_1 rfl
theorem u42_1 : ev d 42 1 lo st h = evS (mx_ldI 1) d 42 2 lo st h := ev_s n42_1 rfl rfl
theorem n42_2 : mx_ins 42 2 = some ((.iload_n 2), 1) := mx_ins_of mi42 dX0_alterRow_2 rfl
theorem u42_2 : ev d 42 2 lo st h = evS (mx_ldI 2) d 42 3 lo st h := ev_s n42_2 rfl rfl
theorem n42_3 : mx_ins 42 3 = some ((.invokevirtual 321), 3) := mx_ins_of mi42 dX0_alterRow_3 rfl
theorem u42_3 : ev d 42 3 lo st h = evIn d 42 3 6 0 321 3 false lo st h := ev_inv n42_3 rfl rfl ow42 ia0_321
theorem n42_6 : mx_ins 42 6 = some ((.ifCond .ne 6), 3) := mx_ins_of mi42 dX0_alterRow_6 rfl
theorem u42_6 : ev d 42 6 lo st h = evJ .ne d 42 12 9 lo st h := ev_if n42_6 rfl rfl
theorem n42_9 : mx_ins 42 9 = some ((.bipush (-9)), 2) := mx_ins_of mi42 dX0_alterRow_9 rfl
theorem u42_9 : ev d 42 9 lo st h = ev d 42 11 lo (.int (-9) :: st) h := (ev_s (f := mx_push (.int (-9))) n42_9 rfl rfl).trans es_push
theorem n42_11 : mx_ins 42 11 = some (.ireturn, 1) := mx_ins_of mi42 dX0_alterRow_11 rfl
theorem u42_11 : ev d 42 11 lo st h = evI d 42 11 12 lo st h .ireturn := ev_u n42_11 rfl
theorem n42_12 : mx_ins 42 12 = some ((.aload_n 0), 1) := mx_ins_of mi42 dX0_alterRow_12 rfl
theorem u42_12 : ev d 42 12 lo st h = evS (mx_ldA 0) d 42 13 lo st h := ev_s n42_12 rfl rfl
theorem n42_13 : mx_ins 42 13 = some ((.getfield 94), 3) := mx_ins_of mi42 dX0_alterRow_13 rfl
theorem u42_13 : ev d 42 13 lo st h = evS (mx_gf 0 94) d 42 16 lo st h := ev_s n42_13 rfl rfl
theorem n42_16 : mx_ins 42 16 = some ((.iload_n 1), 1) := mx_ins_of mi42 dX0_alterRow_16 rfl
theorem u42_16 : ev d 42 16 lo st h = evS (mx_ldI 1) d 42 17 lo st h := ev_s n42_16 rfl rfl
theorem n42_17 : mx_ins 42 17 = some (.aaload, 1) := mx_ins_of mi42 dX0_alterRow_17 rfl
theorem u42_17 : ev d 42 17 lo st h = evI d 42 17 18 lo st h .aaload := ev_u n42_17 rfl
theorem n42_18 : mx_ins 42 18 = some ((.getfield 324), 3) := mx_ins_of mi42 dX0_alterRow_18 rfl
theorem u42_18 : ev d 42 18 lo st h = evS (mx_gf 0 324) d 42 21 lo st h := ev_s n42_18 rfl rfl
theorem n42_21 : mx_ins 42 21 = some ((.iload_n 2), 1) := mx_ins_of mi42 dX0_alterRow_21 rfl
theorem u42_21 : ev d 42 21 lo st h = evS (mx_ldI 2) d 42 22 lo st h := ev_s n42_21 rfl rfl
theorem n42_22 : mx_ins 42 22 = some (.iaload, 1) := mx_ins_of mi42 dX0_alterRow_22 rfl
theorem u42_22 : ev d 42 22 lo st h = evI d 42 22 23 lo st h .iaload := ev_u n42_22 rfl
theorem n42_23 : mx_ins 42 23 = some ((.istore 4), 2) := mx_ins_of mi42 dX0_alterRow_23 rfl
theorem u42_23 : ev d 42 23 lo st h = evS (mx_stI 4) d 42 25 lo st h := ev_s n42_23 rfl rfl
theorem n42_25 : mx_ins 42 25 = some ((.aload_n 0), 1) := mx_ins_of mi42 dX0_alterRow_25 rfl
theorem u42_25 : ev d 42 25 lo st h = evS (mx_ldA 0) d 42 26 lo st h := ev_s n42_25 rfl rfl
theorem n42_26 : mx_ins 42 26 = some ((.getfield 94), 3) := mx_ins_of mi42 dX0_alterRow_26 rfl
theorem u42_26 : ev d 42 26 lo st h = evS (mx_gf 0 94) d 42 29 lo st h := ev_s n42_26 rfl rfl
theorem n42_29 : mx_ins 42 29 = some ((.iload_n 1), 1) := mx_ins_of mi42 dX0_alterRow_29 rfl
theorem u42_29 : ev d 42 29 lo st h = evS (mx_ldI 1) d 42 30 lo st h := ev_s n42_29 rfl rfl
theorem n42_30 : mx_ins 42 30 = some (.aaload, 1) := mx_ins_of mi42 dX0_alterRow_30 rfl
theorem u42_30 : ev d 42 30 lo st h = evI d 42 30 31 lo st h .aaload := ev_u n42_30 rfl
theorem n42_31 : mx_ins 42 31 = some ((.getfield 324), 3) := mx_ins_of mi42 dX0_alterRow_31 rfl
theorem u42_31 : ev d 42 31 lo st h = evS (mx_gf 0 324) d 42 34 lo st h := ev_s n42_31 rfl rfl
theorem n42_34 : mx_ins 42 34 = some ((.iload_n 2), 1) := mx_ins_of mi42 dX0_alterRow_34 rfl
theorem u42_34 : ev d 42 34 lo st h = evS (mx_ldI 2) d 42 35 lo st h := ev_s n42_34 rfl rfl
theorem n42_35 : mx_ins 42 35 = some ((.iload_n 3), 1) := mx_ins_of mi42 dX0_alterRow_35 rfl
theorem u42_35 : ev d 42 35 lo st h = evS (mx_ldI 3) d 42 36 lo st h := ev_s n42_35 rfl rfl
theorem n42_36 : mx_ins 42 36 = some (.iastore, 1) := mx_ins_of mi42 dX0_alterRow_36 rfl
theorem u42_36 : ev d 42 36 lo st h = evI d 42 36 37 lo st h .iastore := ev_u n42_36 rfl
theorem n42_37 : mx_ins 42 37 = some ((.iload 4), 2) := mx_ins_of mi42 dX0_alterRow_37 rfl
theorem u42_37 : ev d 42 37 lo st h = evS (mx_ldI 4) d 42 39 lo st h := ev_s n42_37 rfl rfl
theorem n42_39 : mx_ins 42 39 = some (.ireturn, 1) := mx_ins_of mi42 dX0_alterRow_39 rfl
theorem u42_39 : ev d 42 39 lo st h = evI d 42 39 40 lo st h .ireturn := ev_u n42_39 rfl
theorem mi43 : mx_mi 43 = some (yX0_prove, cX0_prove, 1, (Option.some Jvm.ClassFile.FieldType.int), 0, 1, []) := rfl
theorem ow43 : mx_own 43 = 0 := mx_mi_own mi43
theorem mm43 : mx_max 43 = 1 := mx_mi_max mi43
theorem rt43 : mx_ret 43 = (Option.some Jvm.ClassFile.FieldType.int) := mx_mi_ret mi43
theorem hn43 : mx_hnd 43 = [] := mx_mi_hnd mi43
theorem n43_0 : mx_ins 43 0 = some ((.aload_n 0), 1) := mx_ins_of mi43 dX0_prove_0 rfl
theorem u43_0 : ev d 43 0 lo st h = evS (mx_ldA 0) d 43 1 lo st h := ev_s n43_0 rfl rfl
theorem n43_1 : mx_ins 43 1 = some ((.getfield 39), 3) := mx_ins_of mi43 dX0_prove_1 rfl
theorem u43_1 : ev d 43 1 lo st h = evS (mx_gf 0 39) d 43 4 lo st h := ev_s n43_1 rfl rfl
theorem n43_4 : mx_ins 43 4 = some ((.aload_n 0), 1) := mx_ins_of mi43 dX0_prove_4 rfl
theorem u43_4 : ev d 43 4 lo st h = evS (mx_ldA 0) d 43 5 lo st h := ev_s n43_4 rfl rfl
theorem n43_5 : mx_ins 43 5 = some ((.getfield 22), 3) := mx_ins_of mi43 dX0_prove_5 rfl
theorem u43_5 : ev d 43 5 lo st h = evS (mx_gf 0 22) d 43 8 lo st h := ev_s n43_5 rfl rfl
theorem n43_8 : mx_ins 43 8 = some ((.getfield 238), 3) := mx_ins_of mi43 dX0_prove_8 rfl
theorem u43_8 : ev d 43 8 lo st h = evS (mx_gf 0 238) d 43 11 lo st h := ev_s n43_8 rfl rfl
theorem n43_11 : mx_ins 43 11 = some ((.invokevirtual 289), 3) := mx_ins_of mi43 dX0_prove_11 rfl
theorem u43_11 : ev d 43 11 lo st h = evIn d 43 11 14 0 289 2 false lo st h := ev_inv n43_11 rfl rfl ow43 ia0_289
theorem n43_14 : mx_ins 43 14 = some ((.aload_n 0), 1) := mx_ins_of mi43 dX0_prove_14 rfl
theorem u43_14 : ev d 43 14 lo st h = evS (mx_ldA 0) d 43 15 lo st h := ev_s n43_14 rfl rfl
theorem n43_15 : mx_ins 43 15 = some ((.aload_n 0), 1) := mx_ins_of mi43 dX0_prove_15 rfl
theorem u43_15 : ev d 43 15 lo st h = evS (mx_ldA 0) d 43 16 lo st h := ev_s n43_15 rfl rfl
theorem n43_16 : mx_ins 43 16 = some ((.getfield 101), 3) := mx_ins_of mi43 dX0_prove_16 rfl
theorem u43_16 : ev d 43 16 lo st h = evS (mx_gf 0 101) d 43 19 lo st h := ev_s n43_16 rfl rfl
theorem n43_19 : mx_ins 43 19 = some ((.aload_n 0), 1) := mx_ins_of mi43 dX0_prove_19 rfl
theorem u43_19 : ev d 43 19 lo st h = evS (mx_ldA 0) d 43 20 lo st h := ev_s n43_19 rfl rfl
theorem n43_20 : mx_ins 43 20 = some ((.getfield 39), 3) := mx_ins_of mi43 dX0_prove_20 rfl
theorem u43_20 : ev d 43 20 lo st h = evS (mx_gf 0 39) d 43 23 lo st h := ev_s n43_20 rfl rfl
theorem n43_23 : mx_ins 43 23 = some ((.invokevirtual 327), 3) := mx_ins_of mi43 dX0_prove_23 rfl
theorem u43_23 : ev d 43 23 lo st h = evIn d 43 23 26 0 327 2 false lo st h := ev_inv n43_23 rfl rfl ow43 ia0_327
theorem n43_26 : mx_ins 43 26 = some ((.ifCond .eq 13), 3) := mx_ins_of mi43 dX0_prove_26 rfl
theorem u43_26 : ev d 43 26 lo st h = evJ .eq d 43 39 29 lo st h := ev_if n43_26 rfl rfl
theorem n43_29 : mx_ins 43 29 = some ((.aload_n 0), 1) := mx_ins_of mi43 dX0_prove_29 rfl
theorem u43_29 : ev d 43 29 lo st h = evS (mx_ldA 0) d 43 30 lo st h := ev_s n43_29 rfl rfl
theorem n43_30 : mx_ins 43 30 = some ((.getfield 101), 3) := mx_ins_of mi43 dX0_prove_30 rfl
theorem u43_30 : ev d 43 30 lo st h = evS (mx_gf 0 101) d 43 33 lo st h := ev_s n43_30 rfl rfl
theorem n43_33 : mx_ins 43 33 = some ((.getfield 328), 3) := mx_ins_of mi43 dX0_prove_33 rfl
theorem u43_33 : ev d 43 33 lo st h = evS (mx_gf 0 328) d 43 36 lo st h := ev_s n43_33 rfl rfl
theorem n43_36 : mx_ins 43 36 = some ((.goto 4), 3) := mx_ins_of mi43 dX0_prove_36 rfl
theorem u43_36 : ev d 43 36 lo st h = ev d 43 40 lo st h := ev_goto n43_36 rfl
theorem n43_39 : mx_ins 43 39 = some ((.iconst 0), 1) := mx_ins_of mi43 dX0_prove_39 rfl
theorem u43_39 : ev d 43 39 lo st h = ev d 43 40 lo (.int 0 :: st) h := (ev_s (f := mx_push (.int 0)) n43_39 rfl rfl).trans es_push
theorem n43_40 : mx_ins 43 40 = some ((.putfield 318), 3) := mx_ins_of mi43 dX0_prove_40 rfl
theorem u43_40 : ev d 43 40 lo st h = evS (mx_pf 0 318 false) d 43 43 lo st h := ev_s n43_40 rfl rfl
theorem n43_43 : mx_ins 43 43 = some ((.aload_n 0), 1) := mx_ins_of mi43 dX0_prove_43 rfl
theorem u43_43 : ev d 43 43 lo st h = evS (mx_ldA 0) d 43 44 lo st h := ev_s n43_43 rfl rfl
theorem n43_44 : mx_ins 43 44 = some ((.getfield 318), 3) := mx_ins_of mi43 dX0_prove_44 rfl
theorem u43_44 : ev d 43 44 lo st h = evS (mx_gf 0 318) d 43 47 lo st h := ev_s n43_44 rfl rfl
theorem n43_47 : mx_ins 43 47 = some (.ireturn, 1) := mx_ins_of mi43 dX0_prove_47 rfl
theorem u43_47 : ev d 43 47 lo st h = evI d 43 47 48 lo st h .ireturn := ev_u n43_47 rfl
theorem mi44 : mx_mi 44 = some (yX0_judge, cX0_judge, 2, (Option.some Jvm.ClassFile.FieldType.int), 0, 1, []) := rfl
theorem ow44 : mx_own 44 = 0 := mx_mi_own mi44
theorem mm44 : mx_max 44 = 2 := mx_mi_max mi44
theorem rt44 : mx_ret 44 = (Option.some Jvm.ClassFile.FieldType.int) := mx_mi_ret mi44
theorem hn44 : mx_hnd 44 = [] := mx_mi_hnd mi44
theorem n44_0 : mx_ins 44 0 = some ((.aload_n 0), 1) := mx_ins_of mi44 dX0_judge_0 rfl
theorem u44_0 : ev d 44 0 lo st h = evS (mx_ldA 0) d 44 1 lo st h := ev_s n44_0 rfl rfl
theorem n44_1 : mx_ins 44 1 = some ((.getfield 39), 3) := mx_ins_of mi44 dX0_judge_1 rfl
theorem u44_1 : ev d 44 1 lo st h = evS (mx_gf 0 39) d 44 4 lo st h := ev_s n44_1 rfl rfl
theorem n44_4 : mx_ins 44 4 = some ((.aload_n 0), 1) := mx_ins_of mi44 dX0_judge_4 rfl
theorem u44_4 : ev d 44 4 lo st h = evS (mx_ldA 0) d 44 5 lo st h := ev_s n44_4 rfl rfl
theorem n44_5 : mx_ins 44 5 = some ((.getfield 22), 3) := mx_ins_of mi44 dX0_judge_5 rfl
theorem u44_5 : ev d 44 5 lo st h = evS (mx_gf 0 22) d 44 8 lo st h := ev_s n44_5 rfl rfl
theorem n44_8 : mx_ins 44 8 = some ((.getfield 238), 3) := mx_ins_of mi44 dX0_judge_8 rfl
theorem u44_8 : ev d 44 8 lo st h = evS (mx_gf 0 238) d 44 11 lo st h := ev_s n44_8 rfl rfl
theorem n44_11 : mx_ins 44 11 = some ((.invokevirtual 289), 3) := mx_ins_of mi44 dX0_judge_11 rfl
theorem u44_11 : ev d 44 11 lo st h = evIn d 44 11 14 0 289 2 false lo st h := ev_inv n44_11 rfl rfl ow44 ia0_289
theorem n44_14 : mx_ins 44 14 = some ((.aload_n 0), 1) := mx_ins_of mi44 dX0_judge_14 rfl
theorem u44_14 : ev d 44 14 lo st h = evS (mx_ldA 0) d 44 15 lo st h := ev_s n44_14 rfl rfl
theorem n44_15 : mx_ins 44 15 = some ((.getfield 108), 3) := mx_ins_of mi44 dX0_judge_15 rfl
theorem u44_15 : ev d 44 15 lo st h = evS (mx_gf 0 108) d 44 18 lo st h := ev_s n44_15 rfl rfl
theorem n44_18 : mx_ins 44 18 = some ((.iconst 0), 1) := mx_ins_of mi44 dX0_judge_18 rfl
theorem u44_18 : ev d 44 18 lo st h = ev d 44 19 lo (.int 0 :: st) h := (ev_s (f := mx_push (.int 0)) n44_18 rfl rfl).trans es_push
theorem n44_19 : mx_ins 44 19 = some ((.putfield 329), 3) := mx_ins_of mi44 dX0_judge_19 rfl
theorem u44_19 : ev d 44 19 lo st h = evS (mx_pf 0 329 false) d 44 22 lo st h := ev_s n44_19 rfl rfl
theorem n44_22 : mx_ins 44 22 = some ((.aload_n 0), 1) := mx_ins_of mi44 dX0_judge_22 rfl
theorem u44_22 : ev d 44 22 lo st h = evS (mx_ldA 0) d 44 23 lo st h := ev_s n44_22 rfl rfl
theorem n44_23 : mx_ins 44 23 = some ((.getfield 108), 3) := mx_ins_of mi44 dX0_judge_23 rfl
theorem u44_23 : ev d 44 23 lo st h = evS (mx_gf 0 108) d 44 26 lo st h := ev_s n44_23 rfl rfl
theorem n44_26 : mx_ins 44 26 = some ((.aload_n 0), 1) := mx_ins_of mi44 dX0_judge_26 rfl
theorem u44_26 : ev d 44 26 lo st h = evS (mx_ldA 0) d 44 27 lo st h := ev_s n44_26 rfl rfl
theorem n44_27 : mx_ins 44 27 = some ((.getfield 39), 3) := mx_ins_of mi44 dX0_judge_27 rfl
theorem u44_27 : ev d 44 27 lo st h = evS (mx_gf 0 39) d 44 30 lo st h := ev_s n44_27 rfl rfl
theorem n44_30 : mx_ins 44 30 = some ((.invokevirtual 332), 3) := mx_ins_of mi44 dX0_judge_30 rfl
theorem u44_30 : ev d 44 30 lo st h = evIn d 44 30 33 0 332 2 false lo st h := ev_inv n44_30 rfl rfl ow44 ia0_332
theorem n44_33 : mx_ins 44 33 = some ((.istore_n 1), 1) := mx_ins_of mi44 dX0_judge_33 rfl
theorem u44_33 : ev d 44 33 lo st h = evS (mx_stI 1) d 44 34 lo st h := ev_s n44_33 rfl rfl
theorem n44_34 : mx_ins 44 34 = some ((.iload_n 1), 1) := mx_ins_of mi44 dX0_judge_34 rfl
theorem u44_34 : ev d 44 34 lo st h = evS (mx_ldI 1) d 44 35 lo st h := ev_s n44_34 rfl rfl
theorem n44_35 : mx_ins 44 35 = some ((.ifCond .ne 13), 3) := mx_ins_of mi44 dX0_judge_35 rfl
theorem u44_35 : ev d 44 35 lo st h = evJ .ne d 44 48 38 lo st h := ev_if n44_35 rfl rfl
theorem n44_38 : mx_ins 44 38 = some ((.aload_n 0), 1) := mx_ins_of mi44 dX0_judge_38 rfl
theorem u44_38 : ev d 44 38 lo st h = evS (mx_ldA 0) d 44 39 lo st h := ev_s n44_38 rfl rfl
theorem n44_39 : mx_ins 44 39 = some ((.getfield 108), 3) := mx_ins_of mi44 dX0_judge_39 rfl
theorem u44_39 : ev d 44 39 lo st h = evS (mx_gf 0 108) d 44 42 lo st h := ev_s n44_39 rfl rfl
theorem n44_42 : mx_ins 44 42 = some ((.getfield 329), 3) := mx_ins_of mi44 dX0_judge_42 rfl
theorem u44_42 : ev d 44 42 lo st h = evS (mx_gf 0 329) d 44 45 lo st h := ev_s n44_42 rfl rfl
theorem n44_45 : mx_ins 44 45 = some ((.goto 30), 3) := mx_ins_of mi44 dX0_judge_45 rfl
theorem u44_45 : ev d 44 45 lo st h = ev d 44 75 lo st h := ev_goto n44_45 rfl
theorem n44_48 : mx_ins 44 48 = some ((.aload_n 0), 1) := mx_ins_of mi44 dX0_judge_48 rfl
theorem u44_48 : ev d 44 48 lo st h = evS (mx_ldA 0) d 44 49 lo st h := ev_s n44_48 rfl rfl
theorem n44_49 : mx_ins 44 49 = some ((.getfield 108), 3) := mx_ins_of mi44 dX0_judge_49 rfl
theorem u44_49 : ev d 44 49 lo st h = evS (mx_gf 0 108) d 44 52 lo st h := ev_s n44_49 rfl rfl
theorem n44_52 : mx_ins 44 52 = some ((.getfield 333), 3) := mx_ins_of mi44 dX0_judge_52 rfl
theorem u44_52 : ev d 44 52 lo st h = evS (mx_gf 0 333) d 44 55 lo st h := ev_s n44_52 rfl rfl
theorem n44_55 : mx_ins 44 55 = some ((.aload_n 0), 1) := mx_ins_of mi44 dX0_judge_55 rfl
theorem u44_55 : ev d 44 55 lo st h = evS (mx_ldA 0) d 44 56 lo st h := ev_s n44_55 rfl rfl
theorem n44_56 : mx_ins 44 56 = some ((.getfield 318), 3) := mx_ins_of mi44 dX0_judge_56 rfl
theorem u44_56 : ev d 44 56 lo st h = evS (mx_gf 0 318) d 44 59 lo st h := ev_s n44_56 rfl rfl
theorem n44_59 : mx_ins 44 59 = some ((.if_icmp .ge 15), 3) := mx_ins_of mi44 dX0_judge_59 rfl
theorem u44_59 : ev d 44 59 lo st h = evK .ge d 44 74 62 lo st h := ev_ic n44_59 rfl rfl
theorem n44_62 : mx_ins 44 62 = some ((.aload_n 0), 1) := mx_ins_of mi44 dX0_judge_62 rfl
theorem u44_62 : ev d 44 62 lo st h = evS (mx_ldA 0) d 44 63 lo st h := ev_s n44_62 rfl rfl
theorem n44_63 : mx_ins 44 63 = some ((.getfield 108), 3) := mx_ins_of mi44 dX0_judge_63 rfl
theorem u44_63 : ev d 44 63 lo st h = evS (mx_gf 0 108) d 44 66 lo st h := ev_s n44_63 rfl rfl
theorem n44_66 : mx_ins 44 66 = some ((.getfield 333), 3) := mx_ins_of mi44 dX0_judge_66 rfl
theorem u44_66 : ev d 44 66 lo st h = evS (mx_gf 0 333) d 44 69 lo st h := ev_s n44_66 rfl rfl
theorem n44_69 : mx_ins 44 69 = some ((.iconst 1), 1) := mx_ins_of mi44 dX0_judge_69 rfl
theorem u44_69 : ev d 44 69 lo st h = ev d 44 70 lo (.int 1 :: st) h := (ev_s (f := mx_push (.int 1)) n44_69 rfl rfl).trans es_push
theorem n44_70 : mx_ins 44 70 = some (.iadd, 1) := mx_ins_of mi44 dX0_judge_70 rfl
theorem u44_70 : ev d 44 70 lo st h = evI d 44 70 71 lo st h .iadd := ev_u n44_70 rfl
theorem n44_71 : mx_ins 44 71 = some ((.goto 4), 3) := mx_ins_of mi44 dX0_judge_71 rfl
theorem u44_71 : ev d 44 71 lo st h = ev d 44 75 lo st h := ev_goto n44_71 rfl
theorem n44_74 : mx_ins 44 74 = some ((.iconst 0), 1) := mx_ins_of mi44 dX0_judge_74 rfl
theorem u44_74 : ev d 44 74 lo st h = ev d 44 75 lo (.int 0 :: st) h := (ev_s (f := mx_push (.int 0)) n44_74 rfl rfl).trans es_push
theorem n44_75 : mx_ins 44 75 = some (.ireturn, 1) := mx_ins_of mi44 dX0_judge_75 rfl
theorem u44_75 : ev d 44 75 lo st h = evI d 44 75 76 lo st h .ireturn := ev_u n44_75 rfl
theorem mi45 : mx_mi 45 = some (yX0_outs, cX0_outs, 6, (Option.some Jvm.ClassFile.FieldType.int), 0, 5, [(29, 55, 56, 126), (29, 55, 61, 358), (29, 55, 66, 119)]) := rfl
theorem ow45 : mx_own 45 = 0 := mx_mi_own mi45
theorem mm45 : mx_max 45 = 6 := mx_mi_max mi45
theorem rt45 : mx_ret 45 = (Option.some Jvm.ClassFile.FieldType.int) := mx_mi_ret mi45
theorem hn45 : mx_hnd 45 = [(29, 55, 56, 126), (29, 55, 61, 358), (29, 55, 66, 119)] := mx_mi_hnd mi45
theorem n45_0 : mx_ins 45 0 = some ((.iload_n 1), 1) := mx_ins_of mi45 dX0_outs_0 rfl
theorem u45_0 : ev d 45 0 lo st h = evS (mx_ldI 1) d 45 1 lo st h := ev_s n45_0 rfl rfl
theorem n45_1 : mx_ins 45 1 = some ((.invokestatic 339), 3) := mx_ins_of mi45 dX0_outs_1 rfl
theorem u45_1 : ev d 45 1 lo st h = evIn d 45 1 4 0 339 1 true lo st h := ev_inv n45_1 rfl rfl ow45 ia0_339
theorem n45_4 : mx_ins 45 4 = some ((.ifCond .eq 23), 3) := mx_ins_of mi45 dX0_outs_4 rfl
theorem u45_4 : ev d 45 4 lo st h = evJ .eq d 45 27 7 lo st h := ev_if n45_4 rfl rfl
theorem n45_7 : mx_ins 45 7 = some ((.iload_n 3), 1) := mx_ins_of mi45 dX0_outs_7 rfl
theorem u45_7 : ev d 45 7 lo st h = evS (mx_ldI 3) d 45 8 lo st h := ev_s n45_7 rfl rfl
theorem n45_8 : mx_ins 45 8 = some ((.invokestatic 215), 3) := mx_ins_of mi45 dX0_outs_8 rfl
theorem u45_8 : ev d 45 8 lo st h = evIn d 45 8 11 0 215 1 true lo st h := ev_inv n45_8 rfl rfl ow45 ia0_215
theorem n45_11 : mx_ins 45 11 = some ((.ifCond .eq 16), 3) := mx_ins_of mi45 dX0_outs_11 rfl
theorem u45_11 : ev d 45 11 lo st h = evJ .eq d 45 27 14 lo st h := ev_if n45_11 rfl rfl
theorem n45_14 : mx_ins 45 14 = some ((.iload 4), 2) := mx_ins_of mi45 dX0_outs_14 rfl
theorem u45_14 : ev d 45 14 lo st h = evS (mx_ldI 4) d 45 16 lo st h := ev_s n45_14 rfl rfl
theorem n45_16 : mx_ins 45 16 = some ((.iconst 0), 1) := mx_ins_of mi45 dX0_outs_16 rfl
theorem u45_16 : ev d 45 16 lo st h = ev d 45 17 lo (.int 0 :: st) h := (ev_s (f := mx_push (.int 0)) n45_16 rfl rfl).trans es_push
theorem n45_17 : mx_ins 45 17 = some ((.bipush 24), 2) := mx_ins_of mi45 dX0_outs_17 rfl
theorem u45_17 : ev d 45 17 lo st h = ev d 45 19 lo (.int 24 :: st) h := (ev_s (f := mx_push (.int 24)) n45_17 rfl rfl).trans es_push
theorem n45_19 : mx_ins 45 19 = some ((.iload_n 3), 1) := mx_ins_of mi45 dX0_outs_19 rfl
theorem u45_19 : ev d 45 19 lo st h = evS (mx_ldI 3) d 45 20 lo st h := ev_s n45_19 rfl rfl
theorem n45_20 : mx_ins 45 20 = some (.isub, 1) := mx_ins_of mi45 dX0_outs_20 rfl
theorem u45_20 : ev d 45 20 lo st h = evI d 45 20 21 lo st h .isub := ev_u n45_20 rfl
theorem n45_21 : mx_ins 45 21 = some ((.invokestatic 143), 3) := mx_ins_of mi45 dX0_outs_21 rfl
theorem u45_21 : ev d 45 21 lo st h = evIn d 45 21 24 0 143 3 true lo st h := ev_inv n45_21 rfl rfl ow45 ia0_143
theorem n45_24 : mx_ins 45 24 = some ((.ifCond .ne 5), 3) := mx_ins_of mi45 dX0_outs_24 rfl
theorem u45_24 : ev d 45 24 lo st h = evJ .ne d 45 29 27 lo st h := ev_if n45_24 rfl rfl
theorem n45_27 : mx_ins 45 27 = some ((.iconst (-1)), 1) := mx_ins_of mi45 dX0_outs_27 rfl
theorem u45_27 : ev d 45 27 lo st h = ev d 45 28 lo (.int (-1) :: st) h := (ev_s (f := mx_push (.int (-1))) n45_27 rfl rfl).trans es_push
theorem n45_28 : mx_ins 45 28 = some (.ireturn, 1) := mx_ins_of mi45 dX0_outs_28 rfl
theorem u45_28 : ev d 45 28 lo st h = evI d 45 28 29 lo st h .ireturn := ev_u n45_28 rfl
theorem n45_29 : mx_ins 45 29 = some ((.aload_n 0), 1) := mx_ins_of mi45 dX0_outs_29 rfl
theorem u45_29 : ev d 45 29 lo st h = evS (mx_ldA 0) d 45 30 lo st h := ev_s n45_29 rfl rfl
theorem n45_30 : mx_ins 45 30 = some ((.aload_n 0), 1) := mx_ins_of mi45 dX0_outs_30 rfl
theorem u45_30 : ev d 45 30 lo st h = evS (mx_ldA 0) d 45 31 lo st h := ev_s n45_30 rfl rfl
theorem n45_31 : mx_ins 45 31 = some ((.aload_n 0), 1) := mx_ins_of mi45 dX0_outs_31 rfl
theorem u45_31 : ev d 45 31 lo st h = evS (mx_ldA 0) d 45 32 lo st h := ev_s n45_31 rfl rfl
theorem n45_32 : mx_ins 45 32 = some ((.getfield 115), 3) := mx_ins_of mi45 dX0_outs_32 rfl
theorem u45_32 : ev d 45 32 lo st h = evS (mx_gf 0 115) d 45 35 lo st h := ev_s n45_32 rfl rfl
theorem n45_35 : mx_ins 45 35 = some ((.iload_n 1), 1) := mx_ins_of mi45 dX0_outs_35 rfl
theorem u45_35 : ev d 45 35 lo st h = evS (mx_ldI 1) d 45 36 lo st h := ev_s n45_35 rfl rfl
theorem n45_36 : mx_ins 45 36 = some (.aaload, 1) := mx_ins_of mi45 dX0_outs_36 rfl
theorem u45_36 : ev d 45 36 lo st h = evI d 45 36 37 lo st h .aaload := ev_u n45_36 rfl
theorem n45_37 : mx_ins 45 37 = some ((.invokevirtual 342), 3) := mx_ins_of mi45 dX0_outs_37 rfl
theorem u45_37 : ev d 45 37 lo st h = evIn d 45 37 40 0 342 1 false lo st h := ev_inv n45_37 rfl rfl ow45 ia0_342
theorem n45_40 : mx_ins 45 40 = some ((.invokevirtual 346), 3) := mx_ins_of mi45 dX0_outs_40 rfl
theorem u45_40 : ev d 45 40 lo st h = evIn d 45 40 43 0 346 2 false lo st h := ev_inv n45_40 rfl rfl ow45 ia0_346
theorem n45_43 : mx_ins 45 43 = some ((.invokestatic 350), 3) := mx_ins_of mi45 dX0_outs_43 rfl
theorem u45_43 : ev d 45 43 lo st h = evIn d 45 43 46 0 350 1 true lo st h := ev_inv n45_43 rfl rfl ow45 ia0_350
theorem n45_46 : mx_ins 45 46 = some ((.iload_n 2), 1) := mx_ins_of mi45 dX0_outs_46 rfl
theorem u45_46 : ev d 45 46 lo st h = evS (mx_ldI 2) d 45 47 lo st h := ev_s n45_46 rfl rfl
theorem n45_47 : mx_ins 45 47 = some ((.iload_n 3), 1) := mx_ins_of mi45 dX0_outs_47 rfl
theorem u45_47 : ev d 45 47 lo st h = evS (mx_ldI 3) d 45 48 lo st h := ev_s n45_47 rfl rfl
theorem n45_48 : mx_ins 45 48 = some ((.iload 4), 2) := mx_ins_of mi45 dX0_outs_48 rfl
theorem u45_48 : ev d 45 48 lo st h = evS (mx_ldI 4) d 45 50 lo st h := ev_s n45_48 rfl rfl
theorem n45_50 : mx_ins 45 50 = some ((.invokevirtual 354), 3) := mx_ins_of mi45 dX0_outs_50 rfl
theorem u45_50 : ev d 45 50 lo st h = evIn d 45 50 53 0 354 5 false lo st h := ev_inv n45_50 rfl rfl ow45 ia0_354
theorem n45_53 : mx_ins 45 53 = some ((.iload 4), 2) := mx_ins_of mi45 dX0_outs_53 rfl
theorem u45_53 : ev d 45 53 lo st h = evS (mx_ldI 4) d 45 55 lo st h := ev_s n45_53 rfl rfl
theorem n45_55 : mx_ins 45 55 = some (.ireturn, 1) := mx_ins_of mi45 dX0_outs_55 rfl
theorem u45_55 : ev d 45 55 lo st h = evI d 45 55 56 lo st h .ireturn := ev_u n45_55 rfl
theorem n45_56 : mx_ins 45 56 = some ((.astore 5), 2) := mx_ins_of mi45 dX0_outs_56 rfl
theorem u45_56 : ev d 45 56 lo st h = evS (mx_stA 5) d 45 58 lo st h := ev_s n45_56 rfl rfl
theorem n45_58 : mx_ins 45 58 = some ((.bipush (-11)), 2) := mx_ins_of mi45 dX0_outs_58 rfl
theorem u45_58 : ev d 45 58 lo st h = ev d 45 60 lo (.int (-11) :: st) h := (ev_s (f := mx_push (.int (-11))) n45_58 rfl rfl).trans es_push
theorem n45_60 : mx_ins 45 60 = some (.ireturn, 1) := mx_ins_of mi45 dX0_outs_60 rfl
theorem u45_60 : ev d 45 60 lo st h = evI d 45 60 61 lo st h .ireturn := ev_u n45_60 rfl
theorem n45_61 : mx_ins 45 61 = some ((.astore 5), 2) := mx_ins_of mi45 dX0_outs_61 rfl
theorem u45_61 : ev d 45 61 lo st h = evS (mx_stA 5) d 45 63 lo st h := ev_s n45_61 rfl rfl
theorem n45_63 : mx_ins 45 63 = some ((.bipush (-13)), 2) := mx_ins_of mi45 dX0_outs_63 rfl
theorem u45_63 : ev d 45 63 lo st h = ev d 45 65 lo (.int (-13) :: st) h := (ev_s (f := mx_push (.int (-13))) n45_63 rfl rfl).trans es_push
theorem n45_65 : mx_ins 45 65 = some (.ireturn, 1) := mx_ins_of mi45 dX0_outs_65 rfl
theorem u45_65 : ev d 45 65 lo st h = evI d 45 65 66 lo st h .ireturn := ev_u n45_65 rfl
theorem n45_66 : mx_ins 45 66 = some ((.astore 5), 2) := mx_ins_of mi45 dX0_outs_66 rfl
theorem u45_66 : ev d 45 66 lo st h = evS (mx_stA 5) d 45 68 lo st h := ev_s n45_66 rfl rfl
theorem n45_68 : mx_ins 45 68 = some ((.bipush (-12)), 2) := mx_ins_of mi45 dX0_outs_68 rfl
theorem u45_68 : ev d 45 68 lo st h = ev d 45 70 lo (.int (-12) :: st) h := (ev_s (f := mx_push (.int (-12))) n45_68 rfl rfl).trans es_push
theorem n45_70 : mx_ins 45 70 = some (.ireturn, 1) := mx_ins_of mi45 dX0_outs_70 rfl
theorem u45_70 : ev d 45 70 lo st h = evI d 45 70 71 lo st h .ireturn := ev_u n45_70 rfl
theorem mi46 : mx_mi 46 = some (yX0_isSheet, cX0_isSheet, 1, (Option.some Jvm.ClassFile.FieldType.boolean), 0, 1, []) := rfl
theorem ow46 : mx_own 46 = 0 := mx_mi_own mi46
theorem mm46 : mx_max 46 = 1 := mx_mi_max mi46
theorem rt46 : mx_ret 46 = (Option.some Jvm.ClassFile.FieldType.boolean) := mx_mi_ret mi46
theorem hn46 : mx_hnd 46 = [] := mx_mi_hnd mi46
theorem n46_0 : mx_ins 46 0 = some ((.iload_n 0), 1) := mx_ins_of mi46 dX0_isSheet_0 rfl
theorem u46_0 : ev d 46 0 lo st h = evS (mx_ldI 0) d 46 1 lo st h := ev_s n46_0 rfl rfl
theorem n46_1 : mx_ins 46 1 = some ((.iconst 0), 1) := mx_ins_of mi46 dX0_isSheet_1 rfl
theorem u46_1 : ev d 46 1 lo st h = ev d 46 2 lo (.int 0 :: st) h := (ev_s (f := mx_push (.int 0)) n46_1 rfl rfl).trans es_push
theorem n46_2 : mx_ins 46 2 = some ((.iconst 3), 1) := mx_ins_of mi46 dX0_isSheet_2 rfl
theorem u46_2 : ev d 46 2 lo st h = ev d 46 3 lo (.int 3 :: st) h := (ev_s (f := mx_push (.int 3)) n46_2 rfl rfl).trans es_push
theorem n46_3 : mx_ins 46 3 = some ((.invokestatic 143), 3) := mx_ins_of mi46 dX0_isSheet_3 rfl
theorem u46_3 : ev d 46 3 lo st h = evIn d 46 3 6 0 143 3 true lo st h := ev_inv n46_3 rfl rfl ow46 ia0_143
theorem n46_6 : mx_ins 46 6 = some (.ireturn, 1) := mx_ins_of mi46 dX0_isSheet_6 rfl
theorem u46_6 : ev d 46 6 lo st h = evI d 46 6 7 lo st h .ireturn := ev_u n46_6 rfl
theorem mi47 : mx_mi 47 = some (yX0_there, cX0_there, 2, (Option.some (Jvm.ClassFile.FieldType.object "java/lang/Object")), 0, 2, []) := rfl
theorem ow47 : mx_own 47 = 0 := mx_mi_own mi47
theorem mm47 : mx_max 47 = 2 := mx_mi_max mi47
theorem rt47 : mx_ret 47 = (Option.some (Jvm.ClassFile.FieldType.object "java/lang/Object")) := mx_mi_ret mi47
theorem hn47 : mx_hnd 47 = [] := mx_mi_hnd mi47
theorem rr47 : mx_rr 47 = true := by unfold mx_rr; rw [rt47]
theorem n47_0 : mx_ins 47 0 = some ((.aload_n 1), 1) := mx_ins_of mi47 dX0_there_0 rfl
theorem u47_0 : ev d 47 0 lo st h = evS (mx_ldA 1) d 47 1 lo st h := ev_s n47_0 rfl rfl
theorem n47_1 : mx_ins 47 1 = some ((.ifnonnull 8), 3) := mx_ins_of mi47 dX0_there_1 rfl
theorem u47_1 : ev d 47 1 lo st h = evNN d 47 9 4 lo st h := ev_nn n47_1 rfl rfl
theorem n47_4 : mx_ins 47 4 = some ((.aload_n 0), 1) := mx_ins_of mi47 dX0_there_4 rfl
theorem u47_4 : ev d 47 4 lo st h = evS (mx_ldA 0) d 47 5 lo st h := ev_s n47_4 rfl rfl
theorem n47_5 : mx_ins 47 5 = some ((.getfield 129), 3) := mx_ins_of mi47 dX0_there_5 rfl
theorem u47_5 : ev d 47 5 lo st h = evS (mx_gf 0 129) d 47 8 lo st h := ev_s n47_5 rfl rfl
theorem n47_8 : mx_ins 47 8 = some (.athrow, 1) := mx_ins_of mi47 dX0_there_8 rfl
theorem u47_8 : ev d 47 8 lo st h = evI d 47 8 9 lo st h .athrow := ev_u n47_8 rfl
theorem n47_9 : mx_ins 47 9 = some ((.aload_n 1), 1) := mx_ins_of mi47 dX0_there_9 rfl
theorem u47_9 : ev d 47 9 lo st h = evS (mx_ldA 1) d 47 10 lo st h := ev_s n47_9 rfl rfl
theorem n47_10 : mx_ins 47 10 = some (.areturn, 1) := mx_ins_of mi47 dX0_there_10 rfl
theorem u47_10 : ev d 47 10 lo st h = evI d 47 10 11 lo st h .areturn := ev_u n47_10 rfl
theorem mi48 : mx_mi 48 = some (yX0_shorts, cX0_shorts, 1, (Option.some (Jvm.ClassFile.FieldType.array Jvm.ClassFile.FieldType.short)), 0, 1, []) := rfl
theorem ow48 : mx_own 48 = 0 := mx_mi_own mi48
theorem mm48 : mx_max 48 = 1 := mx_mi_max mi48
theorem rt48 : mx_ret 48 = (Option.some (Jvm.ClassFile.FieldType.array Jvm.ClassFile.FieldType.short)) := mx_mi_ret mi48
theorem hn48 : mx_hnd 48 = [] := mx_mi_hnd mi48
theorem rr48 : mx_rr 48 = true := by unfold mx_rr; rw [rt48]
theorem n48_0 : mx_ins 48 0 = some ((.aload_n 0), 1) := mx_ins_of mi48 dX0_shorts_0 rfl
theorem u48_0 : ev d 48 0 lo st h = evS (mx_ldA 0) d 48 1 lo st h := ev_s n48_0 rfl rfl
theorem n48_1 : mx_ins 48 1 = some ((.checkcast 334), 3) := mx_ins_of mi48 dX0_shorts_1 rfl
theorem u48_1 : ev d 48 1 lo st h = evI d 48 1 4 lo st h (.checkcast 334) := ev_u n48_1 rfl
theorem n48_4 : mx_ins 48 4 = some (.areturn, 1) := mx_ins_of mi48 dX0_shorts_4 rfl
theorem u48_4 : ev d 48 4 lo st h = evI d 48 4 5 lo st h .areturn := ev_u n48_4 rfl
theorem mi49 : mx_mi 49 = some (yX0_outsOf, cX0_outsOf, 6, (none : Option FieldType), 0, 5, []) := rfl
theorem ow49 : mx_own 49 = 0 := mx_mi_own mi49
theorem mm49 : mx_max 49 = 6 := mx_mi_max mi49
theorem rt49 : mx_ret 49 = (none : Option FieldType) := mx_mi_ret mi49
theorem hn49 : mx_hnd 49 = [] := mx_mi_hnd mi49
theorem n49_0 : mx_ins 49 0 = some ((.aload_n 0), 1) := mx_ins_of mi49 dX0_outsOf_0 rfl
theorem u49_0 : ev d 49 0 lo st h = evS (mx_ldA 0) d 49 1 lo st h := ev_s n49_0 rfl rfl
theorem n49_1 : mx_ins 49 1 = some ((.iload_n 2), 1) := mx_ins_of mi49 dX0_outsOf_1 rfl
theorem u49_1 : ev d 49 1 lo st h = evS (mx_ldI 2) d 49 2 lo st h := ev_s n49_1 rfl rfl
theorem n49_2 : mx_ins 49 2 = some ((.aload_n 1), 1) := mx_ins_of mi49 dX0_outsOf_2 rfl
theorem u49_2 : ev d 49 2 lo st h = evS (mx_ldA 1) d 49 3 lo st h := ev_s n49_2 rfl rfl
theorem n49_3 : mx_ins 49 3 = some (.arraylength, 1) := mx_ins_of mi49 dX0_outsOf_3 rfl
theorem u49_3 : ev d 49 3 lo st h = evI d 49 3 4 lo st h .arraylength := ev_u n49_3 rfl
theorem n49_4 : mx_ins 49 4 = some ((.iconst 1), 1) := mx_ins_of mi49 dX0_outsOf_4 rfl
theorem u49_4 : ev d 49 4 lo st h = ev d 49 5 lo (.int 1 :: st) h := (ev_s (f := mx_push (.int 1)) n49_4 rfl rfl).trans es_push
theorem n49_5 : mx_ins 49 5 = some (.iadd, 1) := mx_ins_of mi49 dX0_outsOf_5 rfl
theorem u49_5 : ev d 49 5 lo st h = evI d 49 5 6 lo st h .iadd := ev_u n49_5 rfl
theorem n49_6 : mx_ins 49 6 = some ((.invokevirtual 336), 3) := mx_ins_of mi49 dX0_outsOf_6 rfl
theorem u49_6 : ev d 49 6 lo st h = evIn d 49 6 9 0 336 3 false lo st h := ev_inv n49_6 rfl rfl ow49 ia0_336
theorem n49_9 : mx_ins 49 9 = some ((.aload_n 0), 1) := mx_ins_of mi49 dX0_outsOf_9 rfl
theorem u49_9 : ev d 49 9 lo st h = evS (mx_ldA 0) d 49 10 lo st h := ev_s n49_9 rfl rfl
theorem n49_10 : mx_ins 49 10 = some ((.iload 4), 2) := mx_ins_of mi49 dX0_outsOf_10 rfl
theorem u49_10 : ev d 49 10 lo st h = evS (mx_ldI 4) d 49 12 lo st h := ev_s n49_10 rfl rfl
theorem n49_12 : mx_ins 49 12 = some ((.aload_n 1), 1) := mx_ins_of mi49 dX0_outsOf_12 rfl
theorem u49_12 : ev d 49 12 lo st h = evS (mx_ldA 1) d 49 13 lo st h := ev_s n49_12 rfl rfl
theorem n49_13 : mx_ins 49 13 = some (.arraylength, 1) := mx_ins_of mi49 dX0_outsOf_13 rfl
theorem u49_13 : ev d 49 13 lo st h = evI d 49 13 14 lo st h .arraylength := ev_u n49_13 rfl
theorem n49_14 : mx_ins 49 14 = some ((.iload_n 2), 1) := mx_ins_of mi49 dX0_outsOf_14 rfl
theorem u49_14 : ev d 49 14 lo st h = evS (mx_ldI 2) d 49 15 lo st h := ev_s n49_14 rfl rfl
theorem n49_15 : mx_ins 49 15 = some (.isub, 1) := mx_ins_of mi49 dX0_outsOf_15 rfl
theorem u49_15 : ev d 49 15 lo st h = evI d 49 15 16 lo st h .isub := ev_u n49_15 rfl
theorem n49_16 : mx_ins 49 16 = some ((.iconst 1), 1) := mx_ins_of mi49 dX0_outsOf_16 rfl
theorem u49_16 : ev d 49 16 lo st h = ev d 49 17 lo (.int 1 :: st) h := (ev_s (f := mx_push (.int 1)) n49_16 rfl rfl).trans es_push
theorem n49_17 : mx_ins 49 17 = some (.iadd, 1) := mx_ins_of mi49 dX0_outsOf_17 rfl
theorem u49_17 : ev d 49 17 lo st h = evI d 49 17 18 lo st h .iadd := ev_u n49_17 rfl
theorem n49_18 : mx_ins 49 18 = some ((.invokevirtual 336), 3) := mx_ins_of mi49 dX0_outsOf_18 rfl
theorem u49_18 : ev d 49 18 lo st h = evIn d 49 18 21 0 336 3 false lo st h := ev_inv n49_18 rfl rfl ow49 ia0_336
theorem n49_21 : mx_ins 49 21 = some ((.iconst 0), 1) := mx_ins_of mi49 dX0_outsOf_21 rfl
theorem u49_21 : ev d 49 21 lo st h = ev d 49 22 lo (.int 0 :: st) h := (ev_s (f := mx_push (.int 0)) n49_21 rfl rfl).trans es_push
theorem n49_22 : mx_ins 49 22 = some ((.istore 5), 2) := mx_ins_of mi49 dX0_outsOf_22 rfl
theorem u49_22 : ev d 49 22 lo st h = evS (mx_stI 5) d 49 24 lo st h := ev_s n49_22 rfl rfl
theorem n49_24 : mx_ins 49 24 = some ((.iload 5), 2) := mx_ins_of mi49 dX0_outsOf_24 rfl
theorem u49_24 : ev d 49 24 lo st h = evS (mx_ldI 5) d 49 26 lo st h := ev_s n49_24 rfl rfl
theorem n49_26 : mx_ins 49 26 = some ((.iload 4), 2) := mx_ins_of mi49 dX0_outsOf_26 rfl
theorem u49_26 : ev d 49 26 lo st h = evS (mx_ldI 4) d 49 28 lo st h := ev_s n49_26 rfl rfl
theorem n49_28 : mx_ins 49 28 = some ((.if_icmp .ge 37), 3) := mx_ins_of mi49 dX0_outsOf_28 rfl
theorem u49_28 : ev d 49 28 lo st h = evK .ge d 49 65 31 lo st h := ev_ic n49_28 rfl rfl
theorem n49_31 : mx_ins 49 31 = some ((.aload_n 0), 1) := mx_ins_of mi49 dX0_outsOf_31 rfl
theorem u49_31 : ev d 49 31 lo st h = evS (mx_ldA 0) d 49 32 lo st h := ev_s n49_31 rfl rfl
theorem n49_32 : mx_ins 49 32 = some ((.getfield 22), 3) := mx_ins_of mi49 dX0_outsOf_32 rfl
theorem u49_32 : ev d 49 32 lo st h = evS (mx_gf 0 22) d 49 35 lo st h := ev_s n49_32 rfl rfl
theorem n49_35 : mx_ins 49 35 = some ((.getfield 220), 3) := mx_ins_of mi49 dX0_outsOf_35 rfl
theorem u49_35 : ev d 49 35 lo st h = evS (mx_gf 0 220) d 49 38 lo st h := ev_s n49_35 rfl rfl
theorem n49_38 : mx_ins 49 38 = some ((.iload_n 3), 1) := mx_ins_of mi49 dX0_outsOf_38 rfl
theorem u49_38 : ev d 49 38 lo st h = evS (mx_ldI 3) d 49 39 lo st h := ev_s n49_38 rfl rfl
theorem n49_39 : mx_ins 49 39 = some ((.iload 5), 2) := mx_ins_of mi49 dX0_outsOf_39 rfl
theorem u49_39 : ev d 49 39 lo st h = evS (mx_ldI 5) d 49 41 lo st h := ev_s n49_39 rfl rfl
theorem n49_41 : mx_ins 49 41 = some (.iadd, 1) := mx_ins_of mi49 dX0_outsOf_41 rfl
theorem u49_41 : ev d 49 41 lo st h = evI d 49 41 42 lo st h .iadd := ev_u n49_41 rfl
theorem n49_42 : mx_ins 49 42 = some ((.bipush (-20)), 2) := mx_ins_of mi49 dX0_outsOf_42 rfl
theorem u49_42 : ev d 49 42 lo st h = ev d 49 44 lo (.int (-20) :: st) h := (ev_s (f := mx_push (.int (-20))) n49_42 rfl rfl).trans es_push
theorem n49_44 : mx_ins 49 44 = some ((.bipush 30), 2) := mx_ins_of mi49 dX0_outsOf_44 rfl
theorem u49_44 : ev d 49 44 lo st h = ev d 49 46 lo (.int 30 :: st) h := (ev_s (f := mx_push (.int 30)) n49_44 rfl rfl).trans es_push
theorem n49_46 : mx_ins 49 46 = some ((.aload_n 1), 1) := mx_ins_of mi49 dX0_outsOf_46 rfl
theorem u49_46 : ev d 49 46 lo st h = evS (mx_ldA 1) d 49 47 lo st h := ev_s n49_46 rfl rfl
theorem n49_47 : mx_ins 49 47 = some ((.iload_n 2), 1) := mx_ins_of mi49 dX0_outsOf_47 rfl
theorem u49_47 : ev d 49 47 lo st h = evS (mx_ldI 2) d 49 48 lo st h := ev_s n49_47 rfl rfl
theorem n49_48 : mx_ins 49 48 = some ((.iload 5), 2) := mx_ins_of mi49 dX0_outsOf_48 rfl
theorem u49_48 : ev d 49 48 lo st h = evS (mx_ldI 5) d 49 50 lo st h := ev_s n49_48 rfl rfl
theorem n49_50 : mx_ins 49 50 = some (.iadd, 1) := mx_ins_of mi49 dX0_outsOf_50 rfl
theorem u49_50 : ev d 49 50 lo st h = evI d 49 50 51 lo st h .iadd := ev_u n49_50 rfl
theorem n49_51 : mx_ins 49 51 = some (.saload, 1) := mx_ins_of mi49 dX0_outsOf_51 rfl
theorem u49_51 : ev d 49 51 lo st h = evI d 49 51 52 lo st h .saload := ev_u n49_51 rfl
theorem n49_52 : mx_ins 49 52 = some ((.invokestatic 196), 3) := mx_ins_of mi49 dX0_outsOf_52 rfl
theorem u49_52 : ev d 49 52 lo st h = evIn d 49 52 55 0 196 2 true lo st h := ev_inv n49_52 rfl rfl ow49 ia0_196
theorem n49_55 : mx_ins 49 55 = some ((.invokestatic 186), 3) := mx_ins_of mi49 dX0_outsOf_55 rfl
theorem u49_55 : ev d 49 55 lo st h = evIn d 49 55 58 0 186 2 true lo st h := ev_inv n49_55 rfl rfl ow49 ia0_186
theorem n49_58 : mx_ins 49 58 = some (.iastore, 1) := mx_ins_of mi49 dX0_outsOf_58 rfl
theorem u49_58 : ev d 49 58 lo st h = evI d 49 58 59 lo st h .iastore := ev_u n49_58 rfl
theorem n49_59 : mx_ins 49 59 = some ((.iinc 5 1), 3) := mx_ins_of mi49 dX0_outsOf_59 rfl
theorem u49_59 : ev d 49 59 lo st h = evS (mx_inc 5 (1)) d 49 62 lo st h := ev_s n49_59 rfl rfl
theorem n49_62 : mx_ins 49 62 = some ((.goto (-38)), 3) := mx_ins_of mi49 dX0_outsOf_62 rfl
theorem u49_62 : ev d 49 62 lo st h = ev d 49 24 lo st h := ev_goto n49_62 rfl
theorem n49_65 : mx_ins 49 65 = some (.return_, 1) := mx_ins_of mi49 dX0_outsOf_65 rfl
theorem u49_65 : ev d 49 65 lo st h = evI d 49 65 66 lo st h .return_ := ev_u n49_65 rfl
theorem mi50 : mx_mi 50 = some (yX0_within, cX0_within, 3, (none : Option FieldType), 0, 3, []) := rfl
theorem ow50 : mx_own 50 = 0 := mx_mi_own mi50
theorem mm50 : mx_max 50 = 3 := mx_mi_max mi50
theorem rt50 : mx_ret 50 = (none : Option FieldType) := mx_mi_ret mi50
theorem hn50 : mx_hnd 50 = [] := mx_mi_hnd mi50
theorem n50_0 : mx_ins 50 0 = some ((.iload_n 1), 1) := mx_ins_of mi50 dX0_within_0 rfl
theorem u50_0 : ev d 50 0 lo st h = evS (mx_ldI 1) d 50 1 lo st h := ev_s n50_0 rfl rfl
theorem n50_1 : mx_ins 50 1 = some ((.ifCond .lt 8), 3) := mx_ins_of mi50 dX0_within_1 rfl
theorem u50_1 : ev d 50 1 lo st h = evJ .lt d 50 9 4 lo st h := ev_if n50_1 rfl rfl
theorem n50_4 : mx_ins 50 4 = some ((.iload_n 1), 1) := mx_ins_of mi50 dX0_within_4 rfl
theorem u50_4 : ev d 50 4 lo st h = evS (mx_ldI 1) d 50 5 lo st h := ev_s n50_4 rfl rfl
theorem n50_5 : mx_ins 50 5 = some ((.iload_n 2), 1) := mx_ins_of mi50 dX0_within_5 rfl
theorem u50_5 : ev d 50 5 lo st h = evS (mx_ldI 2) d 50 6 lo st h := ev_s n50_5 rfl rfl
theorem n50_6 : mx_ins 50 6 = some ((.if_icmp .lt 8), 3) := mx_ins_of mi50 dX0_within_6 rfl
theorem u50_6 : ev d 50 6 lo st h = evK .lt d 50 14 9 lo st h := ev_ic n50_6 rfl rfl
theorem n50_9 : mx_ins 50 9 = some ((.aload_n 0), 1) := mx_ins_of mi50 dX0_within_9 rfl
theorem u50_9 : ev d 50 9 lo st h = evS (mx_ldA 0) d 50 10 lo st h := ev_s n50_9 rfl rfl
theorem n50_10 : mx_ins 50 10 = some ((.getfield 122), 3) := mx_ins_of mi50 dX0_within_10 rfl
theorem u50_10 : ev d 50 10 lo st h = evS (mx_gf 0 122) d 50 13 lo st h := ev_s n50_10 rfl rfl
theorem n50_13 : mx_ins 50 13 = some (.athrow, 1) := mx_ins_of mi50 dX0_within_13 rfl
theorem u50_13 : ev d 50 13 lo st h = evI d 50 13 14 lo st h .athrow := ev_u n50_13 rfl
theorem n50_14 : mx_ins 50 14 = some (.return_, 1) := mx_ins_of mi50 dX0_within_14 rfl
theorem u50_14 : ev d 50 14 lo st h = evI d 50 14 15 lo st h .return_ := ev_u n50_14 rfl
theorem mi51 : mx_mi 51 = some (yX0_sheet, cX0_sheet, 5, (Option.some Jvm.ClassFile.FieldType.int), 0, 4, [(28, 40, 41, 367)]) := rfl
theorem ow51 : mx_own 51 = 0 := mx_mi_own mi51
theorem mm51 : mx_max 51 = 5 := mx_mi_max mi51
theorem rt51 : mx_ret 51 = (Option.some Jvm.ClassFile.FieldType.int) := mx_mi_ret mi51
theorem hn51 : mx_hnd 51 = [(28, 40, 41, 367)] := mx_mi_hnd mi51
theorem n51_0 : mx_ins 51 0 = some ((.iload_n 1), 1) := mx_ins_of mi51 dX0_sheet_0 rfl
theorem u51_0 : ev d 51 0 lo st h = evS (mx_ldI 1) d 51 1 lo st h := ev_s n51_0 rfl rfl
theorem n51_1 : mx_ins 51 1 = some ((.invokestatic 339), 3) := mx_ins_of mi51 dX0_sheet_1 rfl
theorem u51_1 : ev d 51 1 lo st h = evIn d 51 1 4 0 339 1 true lo st h := ev_inv n51_1 rfl rfl ow51 ia0_339
theorem n51_4 : mx_ins 51 4 = some ((.ifCond .eq 22), 3) := mx_ins_of mi51 dX0_sheet_4 rfl
theorem u51_4 : ev d 51 4 lo st h = evJ .eq d 51 26 7 lo st h := ev_if n51_4 rfl rfl
theorem n51_7 : mx_ins 51 7 = some ((.iload_n 2), 1) := mx_ins_of mi51 dX0_sheet_7 rfl
theorem u51_7 : ev d 51 7 lo st h = evS (mx_ldI 2) d 51 8 lo st h := ev_s n51_7 rfl rfl
theorem n51_8 : mx_ins 51 8 = some ((.iconst (-1)), 1) := mx_ins_of mi51 dX0_sheet_8 rfl
theorem u51_8 : ev d 51 8 lo st h = ev d 51 9 lo (.int (-1) :: st) h := (ev_s (f := mx_push (.int (-1))) n51_8 rfl rfl).trans es_push
theorem n51_9 : mx_ins 51 9 = some ((.iconst 3), 1) := mx_ins_of mi51 dX0_sheet_9 rfl
theorem u51_9 : ev d 51 9 lo st h = ev d 51 10 lo (.int 3 :: st) h := (ev_s (f := mx_push (.int 3)) n51_9 rfl rfl).trans es_push
theorem n51_10 : mx_ins 51 10 = some ((.invokestatic 143), 3) := mx_ins_of mi51 dX0_sheet_10 rfl
theorem u51_10 : ev d 51 10 lo st h = evIn d 51 10 13 0 143 3 true lo st h := ev_inv n51_10 rfl rfl ow51 ia0_143
theorem n51_13 : mx_ins 51 13 = some ((.ifCond .eq 13), 3) := mx_ins_of mi51 dX0_sheet_13 rfl
theorem u51_13 : ev d 51 13 lo st h = evJ .eq d 51 26 16 lo st h := ev_if n51_13 rfl rfl
theorem n51_16 : mx_ins 51 16 = some ((.iload_n 2), 1) := mx_ins_of mi51 dX0_sheet_16 rfl
theorem u51_16 : ev d 51 16 lo st h = evS (mx_ldI 2) d 51 17 lo st h := ev_s n51_16 rfl rfl
theorem n51_17 : mx_ins 51 17 = some ((.ifCond .lt 11), 3) := mx_ins_of mi51 dX0_sheet_17 rfl
theorem u51_17 : ev d 51 17 lo st h = evJ .lt d 51 28 20 lo st h := ev_if n51_17 rfl rfl
theorem n51_20 : mx_ins 51 20 = some ((.iload_n 3), 1) := mx_ins_of mi51 dX0_sheet_20 rfl
theorem u51_20 : ev d 51 20 lo st h = evS (mx_ldI 3) d 51 21 lo st h := ev_s n51_20 rfl rfl
theorem n51_21 : mx_ins 51 21 = some ((.bipush 40), 2) := mx_ins_of mi51 dX0_sheet_21 rfl
theorem u51_21 : ev d 51 21 lo st h = ev d 51 23 lo (.int 40 :: st) h := (ev_s (f := mx_push (.int 40)) n51_21 rfl rfl).trans es_push
theorem n51_23 : mx_ins 51 23 = some ((.if_icmp .le 5), 3) := mx_ins_of mi51 dX0_sheet_23 rfl
theorem u51_23 : ev d 51 23 lo st h = evK .le d 51 28 26 lo st h := ev_ic n51_23 rfl rfl
theorem n51_26 : mx_ins 51 26 = some ((.iconst (-1)), 1) := mx_ins_of mi51 dX0_sheet_26 rfl
theorem u51_26 : ev d 51 26 lo st h = ev d 51 27 lo (.int (-1) :: st) h := (ev_s (f := mx_push (.int (-1))) n51_26 rfl rfl).trans es_push
theorem n51_27 : mx_ins 51 27 = some (.ireturn, 1) := mx_ins_of mi51 dX0_sheet_27 rfl
theorem u51_27 : ev d 51 27 lo st h = evI d 51 27 28 lo st h .ireturn := ev_u n51_27 rfl
theorem n51_28 : mx_ins 51 28 = some ((.aload_n 0), 1) := mx_ins_of mi51 dX0_sheet_28 rfl
theorem u51_28 : ev d 51 28 lo st h = evS (mx_ldA 0) d 51 29 lo st h := ev_s n51_28 rfl rfl
theorem n51_29 : mx_ins 51 29 = some ((.getfield 115), 3) := mx_ins_of mi51 dX0_sheet_29 rfl
theorem u51_29 : ev d 51 29 lo st h = evS (mx_gf 0 115) d 51 32 lo st h := ev_s n51_29 rfl rfl
theorem n51_32 : mx_ins 51 32 = some ((.iload_n 1), 1) := mx_ins_of mi51 dX0_sheet_32 rfl
theorem u51_32 : ev d 51 32 lo st h = evS (mx_ldI 1) d 51 33 lo st h := ev_s n51_32 rfl rfl
theorem n51_33 : mx_ins 51 33 = some (.aaload, 1) := mx_ins_of mi51 dX0_sheet_33 rfl
theorem u51_33 : ev d 51 33 lo st h = evI d 51 33 34 lo st h .aaload := ev_u n51_33 rfl
theorem n51_34 : mx_ins 51 34 = some ((.iload_n 2), 1) := mx_ins_of mi51 dX0_sheet_34 rfl
theorem u51_34 : ev d 51 34 lo st h = evS (mx_ldI 2) d 51 35 lo st h := ev_s n51_34 rfl rfl
theorem n51_35 : mx_ins 51 35 = some ((.iload_n 3), 1) := mx_ins_of mi51 dX0_sheet_35 rfl
theorem u51_35 : ev d 51 35 lo st h = evS (mx_ldI 3) d 51 36 lo st h := ev_s n51_35 rfl rfl
theorem n51_36 : mx_ins 51 36 = some ((.invokevirtual 364), 3) := mx_ins_of mi51 dX0_sheet_36 rfl
theorem u51_36 : ev d 51 36 lo st h = evIn d 51 36 39 0 364 3 false lo st h := ev_inv n51_36 rfl rfl ow51 ia0_364
theorem n51_39 : mx_ins 51 39 = some ((.iconst 1), 1) := mx_ins_of mi51 dX0_sheet_39 rfl
theorem u51_39 : ev d 51 39 lo st h = ev d 51 40 lo (.int 1 :: st) h := (ev_s (f := mx_push (.int 1)) n51_39 rfl rfl).trans es_push
theorem n51_40 : mx_ins 51 40 = some (.ireturn, 1) := mx_ins_of mi51 dX0_sheet_40 rfl
theorem u51_40 : ev d 51 40 lo st h = evI d 51 40 41 lo st h .ireturn := ev_u n51_40 rfl
theorem n51_41 : mx_ins 51 41 = some ((.astore 4), 2) := mx_ins_of mi51 dX0_sheet_41 rfl
theorem u51_41 : ev d 51 41 lo st h = evS (mx_stA 4) d 51 43 lo st h := ev_s n51_41 rfl rfl
theorem n51_43 : mx_ins 51 43 = some ((.bipush (-14)), 2) := mx_ins_of mi51 dX0_sheet_43 rfl
theorem u51_43 : ev d 51 43 lo st h = ev d 51 45 lo (.int (-14) :: st) h := (ev_s (f := mx_push (.int (-14))) n51_43 rfl rfl).trans es_push
theorem n51_45 : mx_ins 51 45 = some (.ireturn, 1) := mx_ins_of mi51 dX0_sheet_45 rfl
theorem u51_45 : ev d 51 45 lo st h = evI d 51 45 46 lo st h .ireturn := ev_u n51_45 rfl
theorem mi52 : mx_mi 52 = some (yX0_put, cX0_put, 5, (Option.some Jvm.ClassFile.FieldType.int), 0, 4, [(9, 29, 30, 126), (9, 29, 35, 119)]) := rfl
theorem ow52 : mx_own 52 = 0 := mx_mi_own mi52
theorem mm52 : mx_max 52 = 5 := mx_mi_max mi52
theorem rt52 : mx_ret 52 = (Option.some Jvm.ClassFile.FieldType.int) := mx_mi_ret mi52
theorem hn52 : mx_hnd 52 = [(9, 29, 30, 126), (9, 29, 35, 119)] := mx_mi_hnd mi52
theorem n52_0 : mx_ins 52 0 = some ((.iload_n 1), 1) := mx_ins_of mi52 dX0_put_0 rfl
theorem u52_0 : ev d 52 0 lo st h = evS (mx_ldI 1) d 52 1 lo st h := ev_s n52_0 rfl rfl
theorem n52_1 : mx_ins 52 1 = some ((.invokestatic 339), 3) := mx_ins_of mi52 dX0_put_1 rfl
theorem u52_1 : ev d 52 1 lo st h = evIn d 52 1 4 0 339 1 true lo st h := ev_inv n52_1 rfl rfl ow52 ia0_339
theorem n52_4 : mx_ins 52 4 = some ((.ifCond .ne 5), 3) := mx_ins_of mi52 dX0_put_4 rfl
theorem u52_4 : ev d 52 4 lo st h = evJ .ne d 52 9 7 lo st h := ev_if n52_4 rfl rfl
theorem n52_7 : mx_ins 52 7 = some ((.iconst (-1)), 1) := mx_ins_of mi52 dX0_put_7 rfl
theorem u52_7 : ev d 52 7 lo st h = ev d 52 8 lo (.int (-1) :: st) h := (ev_s (f := mx_push (.int (-1))) n52_7 rfl rfl).trans es_push
theorem n52_8 : mx_ins 52 8 = some (.ireturn, 1) := mx_ins_of mi52 dX0_put_8 rfl
theorem u52_8 : ev d 52 8 lo st h = evI d 52 8 9 lo st h .ireturn := ev_u n52_8 rfl
theorem n52_9 : mx_ins 52 9 = some ((.aload_n 0), 1) := mx_ins_of mi52 dX0_put_9 rfl
theorem u52_9 : ev d 52 9 lo st h = evS (mx_ldA 0) d 52 10 lo st h := ev_s n52_9 rfl rfl
theorem n52_10 : mx_ins 52 10 = some ((.aload_n 0), 1) := mx_ins_of mi52 dX0_put_10 rfl
theorem u52_10 : ev d 52 10 lo st h = evS (mx_ldA 0) d 52 11 lo st h := ev_s n52_10 rfl rfl
theorem n52_11 : mx_ins 52 11 = some ((.aload_n 0), 1) := mx_ins_of mi52 dX0_put_11 rfl
theorem u52_11 : ev d 52 11 lo st h = evS (mx_ldA 0) d 52 12 lo st h := ev_s n52_11 rfl rfl
theorem n52_12 : mx_ins 52 12 = some ((.getfield 115), 3) := mx_ins_of mi52 dX0_put_12 rfl
theorem u52_12 : ev d 52 12 lo st h = evS (mx_gf 0 115) d 52 15 lo st h := ev_s n52_12 rfl rfl
theorem n52_15 : mx_ins 52 15 = some ((.iload_n 1), 1) := mx_ins_of mi52 dX0_put_15 rfl
theorem u52_15 : ev d 52 15 lo st h = evS (mx_ldI 1) d 52 16 lo st h := ev_s n52_15 rfl rfl
theorem n52_16 : mx_ins 52 16 = some (.aaload, 1) := mx_ins_of mi52 dX0_put_16 rfl
theorem u52_16 : ev d 52 16 lo st h = evI d 52 16 17 lo st h .aaload := ev_u n52_16 rfl
theorem n52_17 : mx_ins 52 17 = some ((.invokevirtual 342), 3) := mx_ins_of mi52 dX0_put_17 rfl
theorem u52_17 : ev d 52 17 lo st h = evIn d 52 17 20 0 342 1 false lo st h := ev_inv n52_17 rfl rfl ow52 ia0_342
theorem n52_20 : mx_ins 52 20 = some ((.invokevirtual 346), 3) := mx_ins_of mi52 dX0_put_20 rfl
theorem u52_20 : ev d 52 20 lo st h = evIn d 52 20 23 0 346 2 false lo st h := ev_inv n52_20 rfl rfl ow52 ia0_346
theorem n52_23 : mx_ins 52 23 = some ((.iload_n 2), 1) := mx_ins_of mi52 dX0_put_23 rfl
theorem u52_23 : ev d 52 23 lo st h = evS (mx_ldI 2) d 52 24 lo st h := ev_s n52_23 rfl rfl
theorem n52_24 : mx_ins 52 24 = some ((.iload_n 3), 1) := mx_ins_of mi52 dX0_put_24 rfl
theorem u52_24 : ev d 52 24 lo st h = evS (mx_ldI 3) d 52 25 lo st h := ev_s n52_24 rfl rfl
theorem n52_25 : mx_ins 52 25 = some ((.invokevirtual 373), 3) := mx_ins_of mi52 dX0_put_25 rfl
theorem u52_25 : ev d 52 25 lo st h = evIn d 52 25 28 0 373 4 false lo st h := ev_inv n52_25 rfl rfl ow52 ia0_373
theorem n52_28 : mx_ins 52 28 = some ((.iconst 1), 1) := mx_ins_of mi52 dX0_put_28 rfl
theorem u52_28 : ev d 52 28 lo st h = ev d 52 29 lo (.int 1 :: st) h := (ev_s (f := mx_push (.int 1)) n52_28 rfl rfl).trans es_push
theorem n52_29 : mx_ins 52 29 = some (.ireturn, 1) := mx_ins_of mi52 dX0_put_29 rfl
theorem u52_29 : ev d 52 29 lo st h = evI d 52 29 30 lo st h .ireturn := ev_u n52_29 rfl
theorem n52_30 : mx_ins 52 30 = some ((.astore 4), 2) := mx_ins_of mi52 dX0_put_30 rfl
theorem u52_30 : ev d 52 30 lo st h = evS (mx_stA 4) d 52 32 lo st h := ev_s n52_30 rfl rfl
theorem n52_32 : mx_ins 52 32 = some ((.bipush (-11)), 2) := mx_ins_of mi52 dX0_put_32 rfl
theorem u52_32 : ev d 52 32 lo st h = ev d 52 34 lo (.int (-11) :: st) h := (ev_s (f := mx_push (.int (-11))) n52_32 rfl rfl).trans es_push
theorem n52_34 : mx_ins 52 34 = some (.ireturn, 1) := mx_ins_of mi52 dX0_put_34 rfl
theorem u52_34 : ev d 52 34 lo st h = evI d 52 34 35 lo st h .ireturn := ev_u n52_34 rfl
theorem n52_35 : mx_ins 52 35 = some ((.astore 4), 2) := mx_ins_of mi52 dX0_put_35 rfl
theorem u52_35 : ev d 52 35 lo st h = evS (mx_stA 4) d 52 37 lo st h := ev_s n52_35 rfl rfl
theorem n52_37 : mx_ins 52 37 = some ((.bipush (-12)), 2) := mx_ins_of mi52 dX0_put_37 rfl
theorem u52_37 : ev d 52 37 lo st h = ev d 52 39 lo (.int (-12) :: st) h := (ev_s (f := mx_push (.int (-12))) n52_37 rfl rfl).trans es_push
theorem n52_39 : mx_ins 52 39 = some (.ireturn, 1) := mx_ins_of mi52 dX0_put_39 rfl
theorem u52_39 : ev d 52 39 lo st h = evI d 52 39 40 lo st h .ireturn := ev_u n52_39 rfl
theorem mi53 : mx_mi 53 = some (yX0_set, cX0_set, 4, (none : Option FieldType), 0, 4, []) := rfl
theorem ow53 : mx_own 53 = 0 := mx_mi_own mi53
theorem mm53 : mx_max 53 = 4 := mx_mi_max mi53
theorem rt53 : mx_ret 53 = (none : Option FieldType) := mx_mi_ret mi53
theorem hn53 : mx_hnd 53 = [] := mx_mi_hnd mi53
theorem n53_0 : mx_ins 53 0 = some ((.aload_n 0), 1) := mx_ins_of mi53 dX0_set_0 rfl
theorem u53_0 : ev d 53 0 lo st h = evS (mx_ldA 0) d 53 1 lo st h := ev_s n53_0 rfl rfl
theorem n53_1 : mx_ins 53 1 = some ((.iload_n 2), 1) := mx_ins_of mi53 dX0_set_1 rfl
theorem u53_1 : ev d 53 1 lo st h = evS (mx_ldI 2) d 53 2 lo st h := ev_s n53_1 rfl rfl
theorem n53_2 : mx_ins 53 2 = some ((.aload_n 1), 1) := mx_ins_of mi53 dX0_set_2 rfl
theorem u53_2 : ev d 53 2 lo st h = evS (mx_ldA 1) d 53 3 lo st h := ev_s n53_2 rfl rfl
theorem n53_3 : mx_ins 53 3 = some ((.invokestatic 369), 3) := mx_ins_of mi53 dX0_set_3 rfl
theorem u53_3 : ev d 53 3 lo st h = evIn d 53 3 6 0 369 1 true lo st h := ev_inv n53_3 rfl rfl ow53 ia0_369
theorem n53_6 : mx_ins 53 6 = some ((.invokevirtual 336), 3) := mx_ins_of mi53 dX0_set_6 rfl
theorem u53_6 : ev d 53 6 lo st h = evIn d 53 6 9 0 336 3 false lo st h := ev_inv n53_6 rfl rfl ow53 ia0_336
theorem n53_9 : mx_ins 53 9 = some ((.aload_n 1), 1) := mx_ins_of mi53 dX0_set_9 rfl
theorem u53_9 : ev d 53 9 lo st h = evS (mx_ldA 1) d 53 10 lo st h := ev_s n53_9 rfl rfl
theorem n53_10 : mx_ins 53 10 = some ((.instanceof 360), 3) := mx_ins_of mi53 dX0_set_10 rfl
theorem u53_10 : ev d 53 10 lo st h = evS (mx_io 0 360) d 53 13 lo st h := ev_s n53_10 rfl rfl
theorem n53_13 : mx_ins 53 13 = some ((.ifCond .eq 14), 3) := mx_ins_of mi53 dX0_set_13 rfl
theorem u53_13 : ev d 53 13 lo st h = evJ .eq d 53 27 16 lo st h := ev_if n53_13 rfl rfl
theorem n53_16 : mx_ins 53 16 = some ((.aload_n 1), 1) := mx_ins_of mi53 dX0_set_16 rfl
theorem u53_16 : ev d 53 16 lo st h = evS (mx_ldA 1) d 53 17 lo st h := ev_s n53_16 rfl rfl
theorem n53_17 : mx_ins 53 17 = some ((.checkcast 360), 3) := mx_ins_of mi53 dX0_set_17 rfl
theorem u53_17 : ev d 53 17 lo st h = evI d 53 17 20 lo st h (.checkcast 360) := ev_u n53_17 rfl
theorem n53_20 : mx_ins 53 20 = some ((.iload_n 2), 1) := mx_ins_of mi53 dX0_set_20 rfl
theorem u53_20 : ev d 53 20 lo st h = evS (mx_ldI 2) d 53 21 lo st h := ev_s n53_20 rfl rfl
theorem n53_21 : mx_ins 53 21 = some ((.iload_n 3), 1) := mx_ins_of mi53 dX0_set_21 rfl
theorem u53_21 : ev d 53 21 lo st h = evS (mx_ldI 3) d 53 22 lo st h := ev_s n53_21 rfl rfl
theorem n53_22 : mx_ins 53 22 = some (.i2b, 1) := mx_ins_of mi53 dX0_set_22 rfl
theorem u53_22 : ev d 53 22 lo st h = evI d 53 22 23 lo st h .i2b := ev_u n53_22 rfl
theorem n53_23 : mx_ins 53 23 = some (.bastore, 1) := mx_ins_of mi53 dX0_set_23 rfl
theorem u53_23 : ev d 53 23 lo st h = evI d 53 23 24 lo st h .bastore := ev_u n53_23 rfl
theorem n53_24 : mx_ins 53 24 = some ((.goto 46), 3) := mx_ins_of mi53 dX0_set_24 rfl
theorem u53_24 : ev d 53 24 lo st h = ev d 53 70 lo st h := ev_goto n53_24 rfl
theorem n53_27 : mx_ins 53 27 = some ((.aload_n 1), 1) := mx_ins_of mi53 dX0_set_27 rfl
theorem u53_27 : ev d 53 27 lo st h = evS (mx_ldA 1) d 53 28 lo st h := ev_s n53_27 rfl rfl
theorem n53_28 : mx_ins 53 28 = some ((.instanceof 334), 3) := mx_ins_of mi53 dX0_set_28 rfl
theorem u53_28 : ev d 53 28 lo st h = evS (mx_io 0 334) d 53 31 lo st h := ev_s n53_28 rfl rfl
theorem n53_31 : mx_ins 53 31 = some ((.ifCond .eq 14), 3) := mx_ins_of mi53 dX0_set_31 rfl
theorem u53_31 : ev d 53 31 lo st h = evJ .eq d 53 45 34 lo st h := ev_if n53_31 rfl rfl
theorem n53_34 : mx_ins 53 34 = some ((.aload_n 1), 1) := mx_ins_of mi53 dX0_set_34 rfl
theorem u53_34 : ev d 53 34 lo st h = evS (mx_ldA 1) d 53 35 lo st h := ev_s n53_34 rfl rfl
theorem n53_35 : mx_ins 53 35 = some ((.checkcast 334), 3) := mx_ins_of mi53 dX0_set_35 rfl
theorem u53_35 : ev d 53 35 lo st h = evI d 53 35 38 lo st h (.checkcast 334) := ev_u n53_35 rfl
theorem n53_38 : mx_ins 53 38 = some ((.iload_n 2), 1) := mx_ins_of mi53 dX0_set_38 rfl
theorem u53_38 : ev d 53 38 lo st h = evS (mx_ldI 2) d 53 39 lo st h := ev_s n53_38 rfl rfl
theorem n53_39 : mx_ins 53 39 = some ((.iload_n 3), 1) := mx_ins_of mi53 dX0_set_39 rfl
theorem u53_39 : ev d 53 39 lo st h = evS (mx_ldI 3) d 53 40 lo st h := ev_s n53_39 rfl rfl
theorem n53_40 : mx_ins 53 40 = some (.i2s, 1) := mx_ins_of mi53 dX0_set_40 rfl
theorem u53_40 : ev d 53 40 lo st h = evI d 53 40 41 lo st h .i2s := ev_u n53_40 rfl
theorem n53_41 : mx_ins 53 41 = some (.sastore, 1) := mx_ins_of mi53 dX0_set_41 rfl
theorem u53_41 : ev d 53 41 lo st h = evI d 53 41 42 lo st h .sastore := ev_u n53_41 rfl
theorem n53_42 : mx_ins 53 42 = some ((.goto 28), 3) := mx_ins_of mi53 dX0_set_42 rfl
theorem u53_42 : ev d 53 42 lo st h = ev d 53 70 lo st h := ev_goto n53_42 rfl
theorem n53_45 : mx_ins 53 45 = some ((.aload_n 1), 1) := mx_ins_of mi53 dX0_set_45 rfl
theorem u53_45 : ev d 53 45 lo st h = evS (mx_ldA 1) d 53 46 lo st h := ev_s n53_45 rfl rfl
theorem n53_46 : mx_ins 53 46 = some ((.instanceof 361), 3) := mx_ins_of mi53 dX0_set_46 rfl
theorem u53_46 : ev d 53 46 lo st h = evS (mx_io 0 361) d 53 49 lo st h := ev_s n53_46 rfl rfl
theorem n53_49 : mx_ins 53 49 = some ((.ifCond .eq 14), 3) := mx_ins_of mi53 dX0_set_49 rfl
theorem u53_49 : ev d 53 49 lo st h = evJ .eq d 53 63 52 lo st h := ev_if n53_49 rfl rfl
theorem n53_52 : mx_ins 53 52 = some ((.aload_n 1), 1) := mx_ins_of mi53 dX0_set_52 rfl
theorem u53_52 : ev d 53 52 lo st h = evS (mx_ldA 1) d 53 53 lo st h := ev_s n53_52 rfl rfl
theorem n53_53 : mx_ins 53 53 = some ((.checkcast 361), 3) := mx_ins_of mi53 dX0_set_53 rfl
theorem u53_53 : ev d 53 53 lo st h = evI d 53 53 56 lo st h (.checkcast 361) := ev_u n53_53 rfl
theorem n53_56 : mx_ins 53 56 = some ((.iload_n 2), 1) := mx_ins_of mi53 dX0_set_56 rfl
theorem u53_56 : ev d 53 56 lo st h = evS (mx_ldI 2) d 53 57 lo st h := ev_s n53_56 rfl rfl
theorem n53_57 : mx_ins 53 57 = some ((.iload_n 3), 1) := mx_ins_of mi53 dX0_set_57 rfl
theorem u53_57 : ev d 53 57 lo st h = evS (mx_ldI 3) d 53 58 lo st h := ev_s n53_57 rfl rfl
theorem n53_58 : mx_ins 53 58 = some (.i2l, 1) := mx_ins_of mi53 dX0_set_58 rfl
theorem u53_58 : ev d 53 58 lo st h = evI d 53 58 59 lo st h .i2l := ev_u n53_58 rfl
theorem n53_59 : mx_ins 53 59 = some (.lastore, 1) := mx_ins_of mi53 dX0_set_59 rfl
theorem u53_59 : ev d 53 59 lo st h = evI d 53 59 60 lo st h .lastore := ev_u n53_59 rfl
theorem n53_60 : mx_ins 53 60 = some ((.goto 10), 3) := mx_ins_of mi53 dX0_set_60 rfl
theorem u53_60 : ev d 53 60 lo st h = ev d 53 70 lo st h := ev_goto n53_60 rfl
theorem n53_63 : mx_ins 53 63 = some ((.aload_n 1), 1) := mx_ins_of mi53 dX0_set_63 rfl
theorem u53_63 : ev d 53 63 lo st h = evS (mx_ldA 1) d 53 64 lo st h := ev_s n53_63 rfl rfl
theorem n53_64 : mx_ins 53 64 = some ((.checkcast 363), 3) := mx_ins_of mi53 dX0_set_64 rfl
theorem u53_64 : ev d 53 64 lo st h = evI d 53 64 67 lo st h (.checkcast 363) := ev_u n53_64 rfl
theorem n53_67 : mx_ins 53 67 = some ((.iload_n 2), 1) := mx_ins_of mi53 dX0_set_67 rfl
theorem u53_67 : ev d 53 67 lo st h = evS (mx_ldI 2) d 53 68 lo st h := ev_s n53_67 rfl rfl
theorem n53_68 : mx_ins 53 68 = some ((.iload_n 3), 1) := mx_ins_of mi53 dX0_set_68 rfl
theorem u53_68 : ev d 53 68 lo st h = evS (mx_ldI 3) d 53 69 lo st h := ev_s n53_68 rfl rfl
theorem n53_69 : mx_ins 53 69 = some (.iastore, 1) := mx_ins_of mi53 dX0_set_69 rfl
theorem u53_69 : ev d 53 69 lo st h = evI d 53 69 70 lo st h .iastore := ev_u n53_69 rfl
theorem n53_70 : mx_ins 53 70 = some (.return_, 1) := mx_ins_of mi53 dX0_set_70 rfl
theorem u53_70 : ev d 53 70 lo st h = evI d 53 70 71 lo st h .return_ := ev_u n53_70 rfl
theorem mi54 : mx_mi 54 = some (yX0_lengthOf, cX0_lengthOf, 1, (Option.some Jvm.ClassFile.FieldType.int), 0, 1, []) := rfl
theorem ow54 : mx_own 54 = 0 := mx_mi_own mi54
theorem mm54 : mx_max 54 = 1 := mx_mi_max mi54
theorem rt54 : mx_ret 54 = (Option.some Jvm.ClassFile.FieldType.int) := mx_mi_ret mi54
theorem hn54 : mx_hnd 54 = [] := mx_mi_hnd mi54
theorem n54_0 : mx_ins 54 0 = some ((.aload_n 0), 1) := mx_ins_of mi54 dX0_lengthOf_0 rfl
theorem u54_0 : ev d 54 0 lo st h = evS (mx_ldA 0) d 54 1 lo st h := ev_s n54_0 rfl rfl
theorem n54_1 : mx_ins 54 1 = some ((.instanceof 360), 3) := mx_ins_of mi54 dX0_lengthOf_1 rfl
theorem u54_1 : ev d 54 1 lo st h = evS (mx_io 0 360) d 54 4 lo st h := ev_s n54_1 rfl rfl
theorem n54_4 : mx_ins 54 4 = some ((.ifCond .eq 9), 3) := mx_ins_of mi54 dX0_lengthOf_4 rfl
theorem u54_4 : ev d 54 4 lo st h = evJ .eq d 54 13 7 lo st h := ev_if n54_4 rfl rfl
theorem n54_7 : mx_ins 54 7 = some ((.aload_n 0), 1) := mx_ins_of mi54 dX0_lengthOf_7 rfl
theorem u54_7 : ev d 54 7 lo st h = evS (mx_ldA 0) d 54 8 lo st h := ev_s n54_7 rfl rfl
theorem n54_8 : mx_ins 54 8 = some ((.checkcast 360), 3) := mx_ins_of mi54 dX0_lengthOf_8 rfl
theorem u54_8 : ev d 54 8 lo st h = evI d 54 8 11 lo st h (.checkcast 360) := ev_u n54_8 rfl
theorem n54_11 : mx_ins 54 11 = some (.arraylength, 1) := mx_ins_of mi54 dX0_lengthOf_11 rfl
theorem u54_11 : ev d 54 11 lo st h = evI d 54 11 12 lo st h .arraylength := ev_u n54_11 rfl
theorem n54_12 : mx_ins 54 12 = some (.ireturn, 1) := mx_ins_of mi54 dX0_lengthOf_12 rfl
theorem u54_12 : ev d 54 12 lo st h = evI d 54 12 13 lo st h .ireturn := ev_u n54_12 rfl
theorem n54_13 : mx_ins 54 13 = some ((.aload_n 0), 1) := mx_ins_of mi54 dX0_lengthOf_13 rfl
theorem u54_13 : ev d 54 13 lo st h = evS (mx_ldA 0) d 54 14 lo st h := ev_s n54_13 rfl rfl
theorem n54_14 : mx_ins 54 14 = some ((.instanceof 334), 3) := mx_ins_of mi54 dX0_lengthOf_14 rfl
theorem u54_14 : ev d 54 14 lo st h = evS (mx_io 0 334) d 54 17 lo st h := ev_s n54_14 rfl rfl
theorem n54_17 : mx_ins 54 17 = some ((.ifCond .eq 9), 3) := mx_ins_of mi54 dX0_lengthOf_17 rfl
theorem u54_17 : ev d 54 17 lo st h = evJ .eq d 54 26 20 lo st h := ev_if n54_17 rfl rfl
theorem n54_20 : mx_ins 54 20 = some ((.aload_n 0), 1) := mx_ins_of mi54 dX0_lengthOf_20 rfl
theorem u54_20 : ev d 54 20 lo st h = evS (mx_ldA 0) d 54 21 lo st h := ev_s n54_20 rfl rfl
theorem n54_21 : mx_ins 54 21 = some ((.checkcast 334), 3) := mx_ins_of mi54 dX0_lengthOf_21 rfl
theorem u54_21 : ev d 54 21 lo st h = evI d 54 21 24 lo st h (.checkcast 334) := ev_u n54_21 rfl
theorem n54_24 : mx_ins 54 24 = some (.arraylength, 1) := mx_ins_of mi54 dX0_lengthOf_24 rfl
theorem u54_24 : ev d 54 24 lo st h = evI d 54 24 25 lo st h .arraylength := ev_u n54_24 rfl
theorem n54_25 : mx_ins 54 25 = some (.ireturn, 1) := mx_ins_of mi54 dX0_lengthOf_25 rfl
theorem u54_25 : ev d 54 25 lo st h = evI d 54 25 26 lo st h .ireturn := ev_u n54_25 rfl
theorem n54_26 : mx_ins 54 26 = some ((.aload_n 0), 1) := mx_ins_of mi54 dX0_lengthOf_26 rfl
theorem u54_26 : ev d 54 26 lo st h = evS (mx_ldA 0) d 54 27 lo st h := ev_s n54_26 rfl rfl
theorem n54_27 : mx_ins 54 27 = some ((.instanceof 361), 3) := mx_ins_of mi54 dX0_lengthOf_27 rfl
theorem u54_27 : ev d 54 27 lo st h = evS (mx_io 0 361) d 54 30 lo st h := ev_s n54_27 rfl rfl
theorem n54_30 : mx_ins 54 30 = some ((.ifCond .eq 11), 3) := mx_ins_of mi54 dX0_lengthOf_30 rfl
theorem u54_30 : ev d 54 30 lo st h = evJ .eq d 54 41 33 lo st h := ev_if n54_30 rfl rfl
theorem n54_33 : mx_ins 54 33 = some ((.aload_n 0), 1) := mx_ins_of mi54 dX0_lengthOf_33 rfl
theorem u54_33 : ev d 54 33 lo st h = evS (mx_ldA 0) d 54 34 lo st h := ev_s n54_33 rfl rfl
theorem n54_34 : mx_ins 54 34 = some ((.checkcast 361), 3) := mx_ins_of mi54 dX0_lengthOf_34 rfl
theorem u54_34 : ev d 54 34 lo st h = evI d 54 34 37 lo st h (.checkcast 361) := ev_u n54_34 rfl
theorem n54_37 : mx_ins 54 37 = some (.arraylength, 1) := mx_ins_of mi54 dX0_lengthOf_37 rfl
theorem u54_37 : ev d 54 37 lo st h = evI d 54 37 38 lo st h .arraylength := ev_u n54_37 rfl
theorem n54_38 : mx_ins 54 38 = some ((.goto 8), 3) := mx_ins_of mi54 dX0_lengthOf_38 rfl
theorem u54_38 : ev d 54 38 lo st h = ev d 54 46 lo st h := ev_goto n54_38 rfl
theorem n54_41 : mx_ins 54 41 = some ((.aload_n 0), 1) := mx_ins_of mi54 dX0_lengthOf_41 rfl
theorem u54_41 : ev d 54 41 lo st h = evS (mx_ldA 0) d 54 42 lo st h := ev_s n54_41 rfl rfl
theorem n54_42 : mx_ins 54 42 = some ((.checkcast 363), 3) := mx_ins_of mi54 dX0_lengthOf_42 rfl
theorem u54_42 : ev d 54 42 lo st h = evI d 54 42 45 lo st h (.checkcast 363) := ev_u n54_42 rfl
theorem n54_45 : mx_ins 54 45 = some (.arraylength, 1) := mx_ins_of mi54 dX0_lengthOf_45 rfl
theorem u54_45 : ev d 54 45 lo st h = evI d 54 45 46 lo st h .arraylength := ev_u n54_45 rfl
theorem n54_46 : mx_ins 54 46 = some (.ireturn, 1) := mx_ins_of mi54 dX0_lengthOf_46 rfl
theorem u54_46 : ev d 54 46 lo st h = evI d 54 46 47 lo st h .ireturn := ev_u n54_46 rfl
theorem mi55 : mx_mi 55 = some (yX0_item, cX0_item, 5, (Option.some Jvm.ClassFile.FieldType.int), 0, 4, [(18, 37, 38, 126), (18, 37, 43, 358), (18, 37, 48, 119)]) := rfl
theorem ow55 : mx_own 55 = 0 := mx_mi_own mi55
theorem mm55 : mx_max 55 = 5 := mx_mi_max mi55
theorem rt55 : mx_ret 55 = (Option.some Jvm.ClassFile.FieldType.int) := mx_mi_ret mi55
theorem hn55 : mx_hnd 55 = [(18, 37, 38, 126), (18, 37, 43, 358), (18, 37, 48, 119)] := mx_mi_hnd mi55
theorem n55_0 : mx_ins 55 0 = some ((.iload_n 1), 1) := mx_ins_of mi55 dX0_item_0 rfl
theorem u55_0 : ev d 55 0 lo st h = evS (mx_ldI 1) d 55 1 lo st h := ev_s n55_0 rfl rfl
theorem n55_1 : mx_ins 55 1 = some ((.invokestatic 339), 3) := mx_ins_of mi55 dX0_item_1 rfl
theorem u55_1 : ev d 55 1 lo st h = evIn d 55 1 4 0 339 1 true lo st h := ev_inv n55_1 rfl rfl ow55 ia0_339
theorem n55_4 : mx_ins 55 4 = some ((.ifCond .eq 12), 3) := mx_ins_of mi55 dX0_item_4 rfl
theorem u55_4 : ev d 55 4 lo st h = evJ .eq d 55 16 7 lo st h := ev_if n55_4 rfl rfl
theorem n55_7 : mx_ins 55 7 = some ((.iload_n 2), 1) := mx_ins_of mi55 dX0_item_7 rfl
theorem u55_7 : ev d 55 7 lo st h = evS (mx_ldI 2) d 55 8 lo st h := ev_s n55_7 rfl rfl
theorem n55_8 : mx_ins 55 8 = some ((.iconst 0), 1) := mx_ins_of mi55 dX0_item_8 rfl
theorem u55_8 : ev d 55 8 lo st h = ev d 55 9 lo (.int 0 :: st) h := (ev_s (f := mx_push (.int 0)) n55_8 rfl rfl).trans es_push
theorem n55_9 : mx_ins 55 9 = some ((.iconst 3), 1) := mx_ins_of mi55 dX0_item_9 rfl
theorem u55_9 : ev d 55 9 lo st h = ev d 55 10 lo (.int 3 :: st) h := (ev_s (f := mx_push (.int 3)) n55_9 rfl rfl).trans es_push
theorem n55_10 : mx_ins 55 10 = some ((.invokestatic 143), 3) := mx_ins_of mi55 dX0_item_10 rfl
theorem u55_10 : ev d 55 10 lo st h = evIn d 55 10 13 0 143 3 true lo st h := ev_inv n55_10 rfl rfl ow55 ia0_143
theorem n55_13 : mx_ins 55 13 = some ((.ifCond .ne 5), 3) := mx_ins_of mi55 dX0_item_13 rfl
theorem u55_13 : ev d 55 13 lo st h = evJ .ne d 55 18 16 lo st h := ev_if n55_13 rfl rfl
theorem n55_16 : mx_ins 55 16 = some ((.iconst (-1)), 1) := mx_ins_of mi55 dX0_item_16 rfl
theorem u55_16 : ev d 55 16 lo st h = ev d 55 17 lo (.int (-1) :: st) h := (ev_s (f := mx_push (.int (-1))) n55_16 rfl rfl).trans es_push
theorem n55_17 : mx_ins 55 17 = some (.ireturn, 1) := mx_ins_of mi55 dX0_item_17 rfl
theorem u55_17 : ev d 55 17 lo st h = evI d 55 17 18 lo st h .ireturn := ev_u n55_17 rfl
theorem n55_18 : mx_ins 55 18 = some ((.aload_n 0), 1) := mx_ins_of mi55 dX0_item_18 rfl
theorem u55_18 : ev d 55 18 lo st h = evS (mx_ldA 0) d 55 19 lo st h := ev_s n55_18 rfl rfl
theorem n55_19 : mx_ins 55 19 = some ((.aload_n 0), 1) := mx_ins_of mi55 dX0_item_19 rfl
theorem u55_19 : ev d 55 19 lo st h = evS (mx_ldA 0) d 55 20 lo st h := ev_s n55_19 rfl rfl
theorem n55_20 : mx_ins 55 20 = some ((.aload_n 0), 1) := mx_ins_of mi55 dX0_item_20 rfl
theorem u55_20 : ev d 55 20 lo st h = evS (mx_ldA 0) d 55 21 lo st h := ev_s n55_20 rfl rfl
theorem n55_21 : mx_ins 55 21 = some ((.getfield 115), 3) := mx_ins_of mi55 dX0_item_21 rfl
theorem u55_21 : ev d 55 21 lo st h = evS (mx_gf 0 115) d 55 24 lo st h := ev_s n55_21 rfl rfl
theorem n55_24 : mx_ins 55 24 = some ((.iload_n 1), 1) := mx_ins_of mi55 dX0_item_24 rfl
theorem u55_24 : ev d 55 24 lo st h = evS (mx_ldI 1) d 55 25 lo st h := ev_s n55_24 rfl rfl
theorem n55_25 : mx_ins 55 25 = some (.aaload, 1) := mx_ins_of mi55 dX0_item_25 rfl
theorem u55_25 : ev d 55 25 lo st h = evI d 55 25 26 lo st h .aaload := ev_u n55_25 rfl
theorem n55_26 : mx_ins 55 26 = some ((.invokevirtual 342), 3) := mx_ins_of mi55 dX0_item_26 rfl
theorem u55_26 : ev d 55 26 lo st h = evIn d 55 26 29 0 342 1 false lo st h := ev_inv n55_26 rfl rfl ow55 ia0_342
theorem n55_29 : mx_ins 55 29 = some ((.invokevirtual 346), 3) := mx_ins_of mi55 dX0_item_29 rfl
theorem u55_29 : ev d 55 29 lo st h = evIn d 55 29 32 0 346 2 false lo st h := ev_inv n55_29 rfl rfl ow55 ia0_346
theorem n55_32 : mx_ins 55 32 = some ((.iload_n 2), 1) := mx_ins_of mi55 dX0_item_32 rfl
theorem u55_32 : ev d 55 32 lo st h = evS (mx_ldI 2) d 55 33 lo st h := ev_s n55_32 rfl rfl
theorem n55_33 : mx_ins 55 33 = some ((.iload_n 3), 1) := mx_ins_of mi55 dX0_item_33 rfl
theorem u55_33 : ev d 55 33 lo st h = evS (mx_ldI 3) d 55 34 lo st h := ev_s n55_33 rfl rfl
theorem n55_34 : mx_ins 55 34 = some ((.invokevirtual 393), 3) := mx_ins_of mi55 dX0_item_34 rfl
theorem u55_34 : ev d 55 34 lo st h = evIn d 55 34 37 0 393 4 false lo st h := ev_inv n55_34 rfl rfl ow55 ia0_393
theorem n55_37 : mx_ins 55 37 = some (.ireturn, 1) := mx_ins_of mi55 dX0_item_37 rfl
theorem u55_37 : ev d 55 37 lo st h = evI d 55 37 38 lo st h .ireturn := ev_u n55_37 rfl
theorem n55_38 : mx_ins 55 38 = some ((.astore 4), 2) := mx_ins_of mi55 dX0_item_38 rfl
theorem u55_38 : ev d 55 38 lo st h = evS (mx_stA 4) d 55 40 lo st h := ev_s n55_38 rfl rfl
theorem n55_40 : mx_ins 55 40 = some ((.bipush (-11)), 2) := mx_ins_of mi55 dX0_item_40 rfl
theorem u55_40 : ev d 55 40 lo st h = ev d 55 42 lo (.int (-11) :: st) h := (ev_s (f := mx_push (.int (-11))) n55_40 rfl rfl).trans es_push
theorem n55_42 : mx_ins 55 42 = some (.ireturn, 1) := mx_ins_of mi55 dX0_item_42 rfl
theorem u55_42 : ev d 55 42 lo st h = evI d 55 42 43 lo st h .ireturn := ev_u n55_42 rfl
theorem n55_43 : mx_ins 55 43 = some ((.astore 4), 2) := mx_ins_of mi55 dX0_item_43 rfl
theorem u55_43 : ev d 55 43 lo st h = evS (mx_stA 4) d 55 45 lo st h := ev_s n55_43 rfl rfl
theorem n55_45 : mx_ins 55 45 = some ((.bipush (-13)), 2) := mx_ins_of mi55 dX0_item_45 rfl
theorem u55_45 : ev d 55 45 lo st h = ev d 55 47 lo (.int (-13) :: st) h := (ev_s (f := mx_push (.int (-13))) n55_45 rfl rfl).trans es_push
theorem n55_47 : mx_ins 55 47 = some (.ireturn, 1) := mx_ins_of mi55 dX0_item_47 rfl
theorem u55_47 : ev d 55 47 lo st h = evI d 55 47 48 lo st h .ireturn := ev_u n55_47 rfl
theorem n55_48 : mx_ins 55 48 = some ((.astore 4), 2) := mx_ins_of mi55 dX0_item_48 rfl
theorem u55_48 : ev d 55 48 lo st h = evS (mx_stA 4) d 55 50 lo st h := ev_s n55_48 rfl rfl
theorem n55_50 : mx_ins 55 50 = some ((.bipush (-12)), 2) := mx_ins_of mi55 dX0_item_50 rfl
theorem u55_50 : ev d 55 50 lo st h = ev d 55 52 lo (.int (-12) :: st) h := (ev_s (f := mx_push (.int (-12))) n55_50 rfl rfl).trans es_push
theorem n55_52 : mx_ins 55 52 = some (.ireturn, 1) := mx_ins_of mi55 dX0_item_52 rfl
theorem u55_52 : ev d 55 52 lo st h = evI d 55 52 53 lo st h .ireturn := ev_u n55_52 rfl
theorem mi56 : mx_mi 56 = some (yX0_itemOf, cX0_itemOf, 4, (Option.some Jvm.ClassFile.FieldType.int), 0, 4, []) := rfl
theorem ow56 : mx_own 56 = 0 := mx_mi_own mi56
theorem mm56 : mx_max 56 = 4 := mx_mi_max mi56
theorem rt56 : mx_ret 56 = (Option.some Jvm.ClassFile.FieldType.int) := mx_mi_ret mi56
theorem hn56 : mx_hnd 56 = [] := mx_mi_hnd mi56
theorem n56_0 : mx_ins 56 0 = some ((.iload_n 2), 1) := mx_ins_of mi56 dX0_itemOf_0 rfl
theorem u56_0 : ev d 56 0 lo st h = evS (mx_ldI 2) d 56 1 lo st h := ev_s n56_0 rfl rfl
theorem n56_1 : mx_ins 56 1 = some ((.tableswitch 57 0 2 #[27, 37, 47]), 27) := mx_ins_of mi56 dX0_itemOf_1 rfl
theorem u56_1 : ev d 56 1 lo st h = evTS d 56 [(0, 28), (1, 38), (2, 48)] 58 lo st h := ev_ts n56_1 rfl rfl
theorem n56_28 : mx_ins 56 28 = some ((.aload_n 0), 1) := mx_ins_of mi56 dX0_itemOf_28 rfl
theorem u56_28 : ev d 56 28 lo st h = evS (mx_ldA 0) d 56 29 lo st h := ev_s n56_28 rfl rfl
theorem n56_29 : mx_ins 56 29 = some ((.aload_n 1), 1) := mx_ins_of mi56 dX0_itemOf_29 rfl
theorem u56_29 : ev d 56 29 lo st h = evS (mx_ldA 1) d 56 30 lo st h := ev_s n56_29 rfl rfl
theorem n56_30 : mx_ins 56 30 = some ((.checkcast 360), 3) := mx_ins_of mi56 dX0_itemOf_30 rfl
theorem u56_30 : ev d 56 30 lo st h = evI d 56 30 33 lo st h (.checkcast 360) := ev_u n56_30 rfl
theorem n56_33 : mx_ins 56 33 = some ((.iload_n 3), 1) := mx_ins_of mi56 dX0_itemOf_33 rfl
theorem u56_33 : ev d 56 33 lo st h = evS (mx_ldI 3) d 56 34 lo st h := ev_s n56_33 rfl rfl
theorem n56_34 : mx_ins 56 34 = some ((.invokevirtual 377), 3) := mx_ins_of mi56 dX0_itemOf_34 rfl
theorem u56_34 : ev d 56 34 lo st h = evIn d 56 34 37 0 377 3 false lo st h := ev_inv n56_34 rfl rfl ow56 ia0_377
theorem n56_37 : mx_ins 56 37 = some (.ireturn, 1) := mx_ins_of mi56 dX0_itemOf_37 rfl
theorem u56_37 : ev d 56 37 lo st h = evI d 56 37 38 lo st h .ireturn := ev_u n56_37 rfl
theorem n56_38 : mx_ins 56 38 = some ((.aload_n 0), 1) := mx_ins_of mi56 dX0_itemOf_38 rfl
theorem u56_38 : ev d 56 38 lo st h = evS (mx_ldA 0) d 56 39 lo st h := ev_s n56_38 rfl rfl
theorem n56_39 : mx_ins 56 39 = some ((.aload_n 1), 1) := mx_ins_of mi56 dX0_itemOf_39 rfl
theorem u56_39 : ev d 56 39 lo st h = evS (mx_ldA 1) d 56 40 lo st h := ev_s n56_39 rfl rfl
theorem n56_40 : mx_ins 56 40 = some ((.checkcast 334), 3) := mx_ins_of mi56 dX0_itemOf_40 rfl
theorem u56_40 : ev d 56 40 lo st h = evI d 56 40 43 lo st h (.checkcast 334) := ev_u n56_40 rfl
theorem n56_43 : mx_ins 56 43 = some ((.iload_n 3), 1) := mx_ins_of mi56 dX0_itemOf_43 rfl
theorem u56_43 : ev d 56 43 lo st h = evS (mx_ldI 3) d 56 44 lo st h := ev_s n56_43 rfl rfl
theorem n56_44 : mx_ins 56 44 = some ((.invokevirtual 381), 3) := mx_ins_of mi56 dX0_itemOf_44 rfl
theorem u56_44 : ev d 56 44 lo st h = evIn d 56 44 47 0 381 3 false lo st h := ev_inv n56_44 rfl rfl ow56 ia0_381
theorem n56_47 : mx_ins 56 47 = some (.ireturn, 1) := mx_ins_of mi56 dX0_itemOf_47 rfl
theorem u56_47 : ev d 56 47 lo st h = evI d 56 47 48 lo st h .ireturn := ev_u n56_47 rfl
theorem n56_48 : mx_ins 56 48 = some ((.aload_n 0), 1) := mx_ins_of mi56 dX0_itemOf_48 rfl
theorem u56_48 : ev d 56 48 lo st h = evS (mx_ldA 0) d 56 49 lo st h := ev_s n56_48 rfl rfl
theorem n56_49 : mx_ins 56 49 = some ((.aload_n 1), 1) := mx_ins_of mi56 dX0_itemOf_49 rfl
theorem u56_49 : ev d 56 49 lo st h = evS (mx_ldA 1) d 56 50 lo st h := ev_s n56_49 rfl rfl
theorem n56_50 : mx_ins 56 50 = some ((.checkcast 363), 3) := mx_ins_of mi56 dX0_itemOf_50 rfl
theorem u56_50 : ev d 56 50 lo st h = evI d 56 50 53 lo st h (.checkcast 363) := ev_u n56_50 rfl
theorem n56_53 : mx_ins 56 53 = some ((.iload_n 3), 1) := mx_ins_of mi56 dX0_itemOf_53 rfl
theorem u56_53 : ev d 56 53 lo st h = evS (mx_ldI 3) d 56 54 lo st h := ev_s n56_53 rfl rfl
theorem n56_54 : mx_ins 56 54 = some ((.invokevirtual 385), 3) := mx_ins_of mi56 dX0_itemOf_54 rfl
theorem u56_54 : ev d 56 54 lo st h = evIn d 56 54 57 0 385 3 false lo st h := ev_inv n56_54 rfl rfl ow56 ia0_385
theorem n56_57 : mx_ins 56 57 = some (.ireturn, 1) := mx_ins_of mi56 dX0_itemOf_57 rfl
theorem u56_57 : ev d 56 57 lo st h = evI d 56 57 58 lo st h .ireturn := ev_u n56_57 rfl
theorem n56_58 : mx_ins 56 58 = some ((.aload_n 0), 1) := mx_ins_of mi56 dX0_itemOf_58 rfl
theorem u56_58 : ev d 56 58 lo st h = evS (mx_ldA 0) d 56 59 lo st h := ev_s n56_58 rfl rfl
theorem n56_59 : mx_ins 56 59 = some ((.aload_n 1), 1) := mx_ins_of mi56 dX0_itemOf_59 rfl
theorem u56_59 : ev d 56 59 lo st h = evS (mx_ldA 1) d 56 60 lo st h := ev_s n56_59 rfl rfl
theorem n56_60 : mx_ins 56 60 = some ((.checkcast 361), 3) := mx_ins_of mi56 dX0_itemOf_60 rfl
theorem u56_60 : ev d 56 60 lo st h = evI d 56 60 63 lo st h (.checkcast 361) := ev_u n56_60 rfl
theorem n56_63 : mx_ins 56 63 = some ((.iload_n 3), 1) := mx_ins_of mi56 dX0_itemOf_63 rfl
theorem u56_63 : ev d 56 63 lo st h = evS (mx_ldI 3) d 56 64 lo st h := ev_s n56_63 rfl rfl
theorem n56_64 : mx_ins 56 64 = some ((.invokevirtual 389), 3) := mx_ins_of mi56 dX0_itemOf_64 rfl
theorem u56_64 : ev d 56 64 lo st h = evIn d 56 64 67 0 389 3 false lo st h := ev_inv n56_64 rfl rfl ow56 ia0_389
theorem n56_67 : mx_ins 56 67 = some (.ireturn, 1) := mx_ins_of mi56 dX0_itemOf_67 rfl
theorem u56_67 : ev d 56 67 lo st h = evI d 56 67 68 lo st h .ireturn := ev_u n56_67 rfl
theorem mi57 : mx_mi 57 = some (yX0_byteAt, cX0_byteAt, 3, (Option.some Jvm.ClassFile.FieldType.int), 0, 3, []) := rfl
theorem ow57 : mx_own 57 = 0 := mx_mi_own mi57
theorem mm57 : mx_max 57 = 3 := mx_mi_max mi57
theorem rt57 : mx_ret 57 = (Option.some Jvm.ClassFile.FieldType.int) := mx_mi_ret mi57
theorem hn57 : mx_hnd 57 = [] := mx_mi_hnd mi57
theorem n57_0 : mx_ins 57 0 = some ((.aload_n 0), 1) := mx_ins_of mi57 dX0_byteAt_0 rfl
theorem u57_0 : ev d 57 0 lo st h = evS (mx_ldA 0) d 57 1 lo st h := ev_s n57_0 rfl rfl
theorem n57_1 : mx_ins 57 1 = some ((.iload_n 2), 1) := mx_ins_of mi57 dX0_byteAt_1 rfl
theorem u57_1 : ev d 57 1 lo st h = evS (mx_ldI 2) d 57 2 lo st h := ev_s n57_1 rfl rfl
theorem n57_2 : mx_ins 57 2 = some ((.aload_n 1), 1) := mx_ins_of mi57 dX0_byteAt_2 rfl
theorem u57_2 : ev d 57 2 lo st h = evS (mx_ldA 1) d 57 3 lo st h := ev_s n57_2 rfl rfl
theorem n57_3 : mx_ins 57 3 = some (.arraylength, 1) := mx_ins_of mi57 dX0_byteAt_3 rfl
theorem u57_3 : ev d 57 3 lo st h = evI d 57 3 4 lo st h .arraylength := ev_u n57_3 rfl
theorem n57_4 : mx_ins 57 4 = some ((.invokevirtual 336), 3) := mx_ins_of mi57 dX0_byteAt_4 rfl
theorem u57_4 : ev d 57 4 lo st h = evIn d 57 4 7 0 336 3 false lo st h := ev_inv n57_4 rfl rfl ow57 ia0_336
theorem n57_7 : mx_ins 57 7 = some ((.aload_n 1), 1) := mx_ins_of mi57 dX0_byteAt_7 rfl
theorem u57_7 : ev d 57 7 lo st h = evS (mx_ldA 1) d 57 8 lo st h := ev_s n57_7 rfl rfl
theorem n57_8 : mx_ins 57 8 = some ((.iload_n 2), 1) := mx_ins_of mi57 dX0_byteAt_8 rfl
theorem u57_8 : ev d 57 8 lo st h = evS (mx_ldI 2) d 57 9 lo st h := ev_s n57_8 rfl rfl
theorem n57_9 : mx_ins 57 9 = some (.baload, 1) := mx_ins_of mi57 dX0_byteAt_9 rfl
theorem u57_9 : ev d 57 9 lo st h = evI d 57 9 10 lo st h .baload := ev_u n57_9 rfl
theorem n57_10 : mx_ins 57 10 = some (.ireturn, 1) := mx_ins_of mi57 dX0_byteAt_10 rfl
theorem u57_10 : ev d 57 10 lo st h = evI d 57 10 11 lo st h .ireturn := ev_u n57_10 rfl
theorem mi58 : mx_mi 58 = some (yX0_shortAt, cX0_shortAt, 3, (Option.some Jvm.ClassFile.FieldType.int), 0, 3, []) := rfl
theorem ow58 : mx_own 58 = 0 := mx_mi_own mi58
theorem mm58 : mx_max 58 = 3 := mx_mi_max mi58
theorem rt58 : mx_ret 58 = (Option.some Jvm.ClassFile.FieldType.int) := mx_mi_ret mi58
theorem hn58 : mx_hnd 58 = [] := mx_mi_hnd mi58
theorem n58_0 : mx_ins 58 0 = some ((.aload_n 0), 1) := mx_ins_of mi58 dX0_shortAt_0 rfl
theorem u58_0 : ev d 58 0 lo st h = evS (mx_ldA 0) d 58 1 lo st h := ev_s n58_0 rfl rfl
theorem n58_1 : mx_ins 58 1 = some ((.iload_n 2), 1) := mx_ins_of mi58 dX0_shortAt_1 rfl
theorem u58_1 : ev d 58 1 lo st h = evS (mx_ldI 2) d 58 2 lo st h := ev_s n58_1 rfl rfl
theorem n58_2 : mx_ins 58 2 = some ((.aload_n 1), 1) := mx_ins_of mi58 dX0_shortAt_2 rfl
theorem u58_2 : ev d 58 2 lo st h = evS (mx_ldA 1) d 58 3 lo st h := ev_s n58_2 rfl rfl
theorem n58_3 : mx_ins 58 3 = some (.arraylength, 1) := mx_ins_of mi58 dX0_shortAt_3 rfl
theorem u58_3 : ev d 58 3 lo st h = evI d 58 3 4 lo st h .arraylength := ev_u n58_3 rfl
theorem n58_4 : mx_ins 58 4 = some ((.invokevirtual 336), 3) := mx_ins_of mi58 dX0_shortAt_4 rfl
theorem u58_4 : ev d 58 4 lo st h = evIn d 58 4 7 0 336 3 false lo st h := ev_inv n58_4 rfl rfl ow58 ia0_336
theorem n58_7 : mx_ins 58 7 = some ((.aload_n 1), 1) := mx_ins_of mi58 dX0_shortAt_7 rfl
theorem u58_7 : ev d 58 7 lo st h = evS (mx_ldA 1) d 58 8 lo st h := ev_s n58_7 rfl rfl
theorem n58_8 : mx_ins 58 8 = some ((.iload_n 2), 1) := mx_ins_of mi58 dX0_shortAt_8 rfl
theorem u58_8 : ev d 58 8 lo st h = evS (mx_ldI 2) d 58 9 lo st h := ev_s n58_8 rfl rfl
theorem n58_9 : mx_ins 58 9 = some (.saload, 1) := mx_ins_of mi58 dX0_shortAt_9 rfl
theorem u58_9 : ev d 58 9 lo st h = evI d 58 9 10 lo st h .saload := ev_u n58_9 rfl
theorem n58_10 : mx_ins 58 10 = some (.ireturn, 1) := mx_ins_of mi58 dX0_shortAt_10 rfl
theorem u58_10 : ev d 58 10 lo st h = evI d 58 10 11 lo st h .ireturn := ev_u n58_10 rfl
theorem mi59 : mx_mi 59 = some (yX0_intAt, cX0_intAt, 3, (Option.some Jvm.ClassFile.FieldType.int), 0, 3, []) := rfl
theorem ow59 : mx_own 59 = 0 := mx_mi_own mi59
theorem mm59 : mx_max 59 = 3 := mx_mi_max mi59
theorem rt59 : mx_ret 59 = (Option.some Jvm.ClassFile.FieldType.int) := mx_mi_ret mi59
theorem hn59 : mx_hnd 59 = [] := mx_mi_hnd mi59
theorem n59_0 : mx_ins 59 0 = some ((.aload_n 0), 1) := mx_ins_of mi59 dX0_intAt_0 rfl
theorem u59_0 : ev d 59 0 lo st h = evS (mx_ldA 0) d 59 1 lo st h := ev_s n59_0 rfl rfl
theorem n59_1 : mx_ins 59 1 = some ((.iload_n 2), 1) := mx_ins_of mi59 dX0_intAt_1 rfl
theorem u59_1 : ev d 59 1 lo st h = evS (mx_ldI 2) d 59 2 lo st h := ev_s n59_1 rfl rfl
theorem n59_2 : mx_ins 59 2 = some ((.aload_n 1), 1) := mx_ins_of mi59 dX0_intAt_2 rfl
theorem u59_2 : ev d 59 2 lo st h = evS (mx_ldA 1) d 59 3 lo st h := ev_s n59_2 rfl rfl
theorem n59_3 : mx_ins 59 3 = some (.arraylength, 1) := mx_ins_of mi59 dX0_intAt_3 rfl
theorem u59_3 : ev d 59 3 lo st h = evI d 59 3 4 lo st h .arraylength := ev_u n59_3 rfl
theorem n59_4 : mx_ins 59 4 = some ((.invokevirtual 336), 3) := mx_ins_of mi59 dX0_intAt_4 rfl
theorem u59_4 : ev d 59 4 lo st h = evIn d 59 4 7 0 336 3 false lo st h := ev_inv n59_4 rfl rfl ow59 ia0_336
theorem n59_7 : mx_ins 59 7 = some ((.aload_n 1), 1) := mx_ins_of mi59 dX0_intAt_7 rfl
theorem u59_7 : ev d 59 7 lo st h = evS (mx_ldA 1) d 59 8 lo st h := ev_s n59_7 rfl rfl
theorem n59_8 : mx_ins 59 8 = some ((.iload_n 2), 1) := mx_ins_of mi59 dX0_intAt_8 rfl
theorem u59_8 : ev d 59 8 lo st h = evS (mx_ldI 2) d 59 9 lo st h := ev_s n59_8 rfl rfl
theorem n59_9 : mx_ins 59 9 = some (.iaload, 1) := mx_ins_of mi59 dX0_intAt_9 rfl
theorem u59_9 : ev d 59 9 lo st h = evI d 59 9 10 lo st h .iaload := ev_u n59_9 rfl
theorem n59_10 : mx_ins 59 10 = some (.ireturn, 1) := mx_ins_of mi59 dX0_intAt_10 rfl
theorem u59_10 : ev d 59 10 lo st h = evI d 59 10 11 lo st h .ireturn := ev_u n59_10 rfl
theorem mi60 : mx_mi 60 = some (yX0_longAt, cX0_longAt, 3, (Option.some Jvm.ClassFile.FieldType.int), 0, 3, []) := rfl
theorem ow60 : mx_own 60 = 0 := mx_mi_own mi60
theorem mm60 : mx_max 60 = 3 := mx_mi_max mi60
theorem rt60 : mx_ret 60 = (Option.some Jvm.ClassFile.FieldType.int) := mx_mi_ret mi60
theorem hn60 : mx_hnd 60 = [] := mx_mi_hnd mi60
theorem n60_0 : mx_ins 60 0 = some ((.aload_n 0), 1) := mx_ins_of mi60 dX0_longAt_0 rfl
theorem u60_0 : ev d 60 0 lo st h = evS (mx_ldA 0) d 60 1 lo st h := ev_s n60_0 rfl rfl
theorem n60_1 : mx_ins 60 1 = some ((.iload_n 2), 1) := mx_ins_of mi60 dX0_longAt_1 rfl
theorem u60_1 : ev d 60 1 lo st h = evS (mx_ldI 2) d 60 2 lo st h := ev_s n60_1 rfl rfl
theorem n60_2 : mx_ins 60 2 = some ((.aload_n 1), 1) := mx_ins_of mi60 dX0_longAt_2 rfl
theorem u60_2 : ev d 60 2 lo st h = evS (mx_ldA 1) d 60 3 lo st h := ev_s n60_2 rfl rfl
theorem n60_3 : mx_ins 60 3 = some (.arraylength, 1) := mx_ins_of mi60 dX0_longAt_3 rfl
theorem u60_3 : ev d 60 3 lo st h = evI d 60 3 4 lo st h .arraylength := ev_u n60_3 rfl
theorem n60_4 : mx_ins 60 4 = some ((.invokevirtual 336), 3) := mx_ins_of mi60 dX0_longAt_4 rfl
theorem u60_4 : ev d 60 4 lo st h = evIn d 60 4 7 0 336 3 false lo st h := ev_inv n60_4 rfl rfl ow60 ia0_336
theorem n60_7 : mx_ins 60 7 = some ((.aload_n 1), 1) := mx_ins_of mi60 dX0_longAt_7 rfl
theorem u60_7 : ev d 60 7 lo st h = evS (mx_ldA 1) d 60 8 lo st h := ev_s n60_7 rfl rfl
theorem n60_8 : mx_ins 60 8 = some ((.iload_n 2), 1) := mx_ins_of mi60 dX0_longAt_8 rfl
theorem u60_8 : ev d 60 8 lo st h = evS (mx_ldI 2) d 60 9 lo st h := ev_s n60_8 rfl rfl
theorem n60_9 : mx_ins 60 9 = some (.laload, 1) := mx_ins_of mi60 dX0_longAt_9 rfl
theorem u60_9 : ev d 60 9 lo st h = evI d 60 9 10 lo st h .laload := ev_u n60_9 rfl
theorem n60_10 : mx_ins 60 10 = some (.l2i, 1) := mx_ins_of mi60 dX0_longAt_10 rfl
theorem u60_10 : ev d 60 10 lo st h = evI d 60 10 11 lo st h .l2i := ev_u n60_10 rfl
theorem n60_11 : mx_ins 60 11 = some (.ireturn, 1) := mx_ins_of mi60 dX0_longAt_11 rfl
theorem u60_11 : ev d 60 11 lo st h = evI d 60 11 12 lo st h .ireturn := ev_u n60_11 rfl
theorem mi61 : mx_mi 61 = some (yX0_shelf, cX0_shelf, 4, (Option.some Jvm.ClassFile.FieldType.int), 0, 4, []) := rfl
theorem ow61 : mx_own 61 = 0 := mx_mi_own mi61
theorem mm61 : mx_max 61 = 4 := mx_mi_max mi61
theorem rt61 : mx_ret 61 = (Option.some Jvm.ClassFile.FieldType.int) := mx_mi_ret mi61
theorem hn61 : mx_hnd 61 = [] := mx_mi_hnd mi61
theorem n61_0 : mx_ins 61 0 = some ((.iload_n 1), 1) := mx_ins_of mi61 dX0_shelf_0 rfl
theorem u61_0 : ev d 61 0 lo st h = evS (mx_ldI 1) d 61 1 lo st h := ev_s n61_0 rfl rfl
theorem n61_1 : mx_ins 61 1 = some ((.invokestatic 413), 3) := mx_ins_of mi61 dX0_shelf_1 rfl
theorem u61_1 : ev d 61 1 lo st h = evIn d 61 1 4 0 413 1 true lo st h := ev_inv n61_1 rfl rfl ow61 ia0_413
theorem n61_4 : mx_ins 61 4 = some ((.ifCond .eq 35), 3) := mx_ins_of mi61 dX0_shelf_4 rfl
theorem u61_4 : ev d 61 4 lo st h = evJ .eq d 61 39 7 lo st h := ev_if n61_4 rfl rfl
theorem n61_7 : mx_ins 61 7 = some ((.iload_n 2), 1) := mx_ins_of mi61 dX0_shelf_7 rfl
theorem u61_7 : ev d 61 7 lo st h = evS (mx_ldI 2) d 61 8 lo st h := ev_s n61_7 rfl rfl
theorem n61_8 : mx_ins 61 8 = some ((.iconst 0), 1) := mx_ins_of mi61 dX0_shelf_8 rfl
theorem u61_8 : ev d 61 8 lo st h = ev d 61 9 lo (.int 0 :: st) h := (ev_s (f := mx_push (.int 0)) n61_8 rfl rfl).trans es_push
theorem n61_9 : mx_ins 61 9 = some ((.iconst 2), 1) := mx_ins_of mi61 dX0_shelf_9 rfl
theorem u61_9 : ev d 61 9 lo st h = ev d 61 10 lo (.int 2 :: st) h := (ev_s (f := mx_push (.int 2)) n61_9 rfl rfl).trans es_push
theorem n61_10 : mx_ins 61 10 = some ((.invokestatic 143), 3) := mx_ins_of mi61 dX0_shelf_10 rfl
theorem u61_10 : ev d 61 10 lo st h = evIn d 61 10 13 0 143 3 true lo st h := ev_inv n61_10 rfl rfl ow61 ia0_143
theorem n61_13 : mx_ins 61 13 = some ((.ifCond .eq 26), 3) := mx_ins_of mi61 dX0_shelf_13 rfl
theorem u61_13 : ev d 61 13 lo st h = evJ .eq d 61 39 16 lo st h := ev_if n61_13 rfl rfl
theorem n61_16 : mx_ins 61 16 = some ((.iload_n 2), 1) := mx_ins_of mi61 dX0_shelf_16 rfl
theorem u61_16 : ev d 61 16 lo st h = evS (mx_ldI 2) d 61 17 lo st h := ev_s n61_16 rfl rfl
theorem n61_17 : mx_ins 61 17 = some ((.ifCond .ne 10), 3) := mx_ins_of mi61 dX0_shelf_17 rfl
theorem u61_17 : ev d 61 17 lo st h = evJ .ne d 61 27 20 lo st h := ev_if n61_17 rfl rfl
theorem n61_20 : mx_ins 61 20 = some ((.iload_n 3), 1) := mx_ins_of mi61 dX0_shelf_20 rfl
theorem u61_20 : ev d 61 20 lo st h = evS (mx_ldI 3) d 61 21 lo st h := ev_s n61_20 rfl rfl
theorem n61_21 : mx_ins 61 21 = some ((.invokestatic 215), 3) := mx_ins_of mi61 dX0_shelf_21 rfl
theorem u61_21 : ev d 61 21 lo st h = evIn d 61 21 24 0 215 1 true lo st h := ev_inv n61_21 rfl rfl ow61 ia0_215
theorem n61_24 : mx_ins 61 24 = some ((.ifCond .eq 15), 3) := mx_ins_of mi61 dX0_shelf_24 rfl
theorem u61_24 : ev d 61 24 lo st h = evJ .eq d 61 39 27 lo st h := ev_if n61_24 rfl rfl
theorem n61_27 : mx_ins 61 27 = some ((.iload_n 2), 1) := mx_ins_of mi61 dX0_shelf_27 rfl
theorem u61_27 : ev d 61 27 lo st h = evS (mx_ldI 2) d 61 28 lo st h := ev_s n61_27 rfl rfl
theorem n61_28 : mx_ins 61 28 = some ((.iconst 1), 1) := mx_ins_of mi61 dX0_shelf_28 rfl
theorem u61_28 : ev d 61 28 lo st h = ev d 61 29 lo (.int 1 :: st) h := (ev_s (f := mx_push (.int 1)) n61_28 rfl rfl).trans es_push
theorem n61_29 : mx_ins 61 29 = some ((.if_icmp .ne 12), 3) := mx_ins_of mi61 dX0_shelf_29 rfl
theorem u61_29 : ev d 61 29 lo st h = evK .ne d 61 41 32 lo st h := ev_ic n61_29 rfl rfl
theorem n61_32 : mx_ins 61 32 = some ((.iload_n 3), 1) := mx_ins_of mi61 dX0_shelf_32 rfl
theorem u61_32 : ev d 61 32 lo st h = evS (mx_ldI 3) d 61 33 lo st h := ev_s n61_32 rfl rfl
theorem n61_33 : mx_ins 61 33 = some ((.invokestatic 339), 3) := mx_ins_of mi61 dX0_shelf_33 rfl
theorem u61_33 : ev d 61 33 lo st h = evIn d 61 33 36 0 339 1 true lo st h := ev_inv n61_33 rfl rfl ow61 ia0_339
theorem n61_36 : mx_ins 61 36 = some ((.ifCond .ne 5), 3) := mx_ins_of mi61 dX0_shelf_36 rfl
theorem u61_36 : ev d 61 36 lo st h = evJ .ne d 61 41 39 lo st h := ev_if n61_36 rfl rfl
theorem n61_39 : mx_ins 61 39 = some ((.iconst (-1)), 1) := mx_ins_of mi61 dX0_shelf_39 rfl
theorem u61_39 : ev d 61 39 lo st h = ev d 61 40 lo (.int (-1) :: st) h := (ev_s (f := mx_push (.int (-1))) n61_39 rfl rfl).trans es_push
theorem n61_40 : mx_ins 61 40 = some (.ireturn, 1) := mx_ins_of mi61 dX0_shelf_40 rfl
theorem u61_40 : ev d 61 40 lo st h = evI d 61 40 41 lo st h .ireturn := ev_u n61_40 rfl
theorem n61_41 : mx_ins 61 41 = some ((.aload_n 0), 1) := mx_ins_of mi61 dX0_shelf_41 rfl
theorem u61_41 : ev d 61 41 lo st h = evS (mx_ldA 0) d 61 42 lo st h := ev_s n61_41 rfl rfl
theorem n61_42 : mx_ins 61 42 = some ((.getfield 139), 3) := mx_ins_of mi61 dX0_shelf_42 rfl
theorem u61_42 : ev d 61 42 lo st h = evS (mx_gf 0 139) d 61 45 lo st h := ev_s n61_42 rfl rfl
theorem n61_45 : mx_ins 61 45 = some ((.iload_n 1), 1) := mx_ins_of mi61 dX0_shelf_45 rfl
theorem u61_45 : ev d 61 45 lo st h = evS (mx_ldI 1) d 61 46 lo st h := ev_s n61_45 rfl rfl
theorem n61_46 : mx_ins 61 46 = some (.aaload, 1) := mx_ins_of mi61 dX0_shelf_46 rfl
theorem u61_46 : ev d 61 46 lo st h = evI d 61 46 47 lo st h .aaload := ev_u n61_46 rfl
theorem n61_47 : mx_ins 61 47 = some ((.iload_n 2), 1) := mx_ins_of mi61 dX0_shelf_47 rfl
theorem u61_47 : ev d 61 47 lo st h = evS (mx_ldI 2) d 61 48 lo st h := ev_s n61_47 rfl rfl
theorem n61_48 : mx_ins 61 48 = some ((.putfield 400), 3) := mx_ins_of mi61 dX0_shelf_48 rfl
theorem u61_48 : ev d 61 48 lo st h = evS (mx_pf 0 400 false) d 61 51 lo st h := ev_s n61_48 rfl rfl
theorem n61_51 : mx_ins 61 51 = some ((.aload_n 0), 1) := mx_ins_of mi61 dX0_shelf_51 rfl
theorem u61_51 : ev d 61 51 lo st h = evS (mx_ldA 0) d 61 52 lo st h := ev_s n61_51 rfl rfl
theorem n61_52 : mx_ins 61 52 = some ((.getfield 139), 3) := mx_ins_of mi61 dX0_shelf_52 rfl
theorem u61_52 : ev d 61 52 lo st h = evS (mx_gf 0 139) d 61 55 lo st h := ev_s n61_52 rfl rfl
theorem n61_55 : mx_ins 61 55 = some ((.iload_n 1), 1) := mx_ins_of mi61 dX0_shelf_55 rfl
theorem u61_55 : ev d 61 55 lo st h = evS (mx_ldI 1) d 61 56 lo st h := ev_s n61_55 rfl rfl
theorem n61_56 : mx_ins 61 56 = some (.aaload, 1) := mx_ins_of mi61 dX0_shelf_56 rfl
theorem u61_56 : ev d 61 56 lo st h = evI d 61 56 57 lo st h .aaload := ev_u n61_56 rfl
theorem n61_57 : mx_ins 61 57 = some ((.iload_n 2), 1) := mx_ins_of mi61 dX0_shelf_57 rfl
theorem u61_57 : ev d 61 57 lo st h = evS (mx_ldI 2) d 61 58 lo st h := ev_s n61_57 rfl rfl
theorem n61_58 : mx_ins 61 58 = some ((.ifCond .ne 7), 3) := mx_ins_of mi61 dX0_shelf_58 rfl
theorem u61_58 : ev d 61 58 lo st h = evJ .ne d 61 65 61 lo st h := ev_if n61_58 rfl rfl
theorem n61_61 : mx_ins 61 61 = some ((.iload_n 3), 1) := mx_ins_of mi61 dX0_shelf_61 rfl
theorem u61_61 : ev d 61 61 lo st h = evS (mx_ldI 3) d 61 62 lo st h := ev_s n61_61 rfl rfl
theorem n61_62 : mx_ins 61 62 = some ((.goto 4), 3) := mx_ins_of mi61 dX0_shelf_62 rfl
theorem u61_62 : ev d 61 62 lo st h = ev d 61 66 lo st h := ev_goto n61_62 rfl
theorem n61_65 : mx_ins 61 65 = some ((.iconst 0), 1) := mx_ins_of mi61 dX0_shelf_65 rfl
theorem u61_65 : ev d 61 65 lo st h = ev d 61 66 lo (.int 0 :: st) h := (ev_s (f := mx_push (.int 0)) n61_65 rfl rfl).trans es_push
theorem n61_66 : mx_ins 61 66 = some ((.putfield 403), 3) := mx_ins_of mi61 dX0_shelf_66 rfl
theorem u61_66 : ev d 61 66 lo st h = evS (mx_pf 0 403 false) d 61 69 lo st h := ev_s n61_66 rfl rfl
theorem n61_69 : mx_ins 61 69 = some ((.aload_n 0), 1) := mx_ins_of mi61 dX0_shelf_69 rfl
theorem u61_69 : ev d 61 69 lo st h = evS (mx_ldA 0) d 61 70 lo st h := ev_s n61_69 rfl rfl
theorem n61_70 : mx_ins 61 70 = some ((.getfield 139), 3) := mx_ins_of mi61 dX0_shelf_70 rfl
theorem u61_70 : ev d 61 70 lo st h = evS (mx_gf 0 139) d 61 73 lo st h := ev_s n61_70 rfl rfl
theorem n61_73 : mx_ins 61 73 = some ((.iload_n 1), 1) := mx_ins_of mi61 dX0_shelf_73 rfl
theorem u61_73 : ev d 61 73 lo st h = evS (mx_ldI 1) d 61 74 lo st h := ev_s n61_73 rfl rfl
theorem n61_74 : mx_ins 61 74 = some (.aaload, 1) := mx_ins_of mi61 dX0_shelf_74 rfl
theorem u61_74 : ev d 61 74 lo st h = evI d 61 74 75 lo st h .aaload := ev_u n61_74 rfl
theorem n61_75 : mx_ins 61 75 = some ((.iload_n 2), 1) := mx_ins_of mi61 dX0_shelf_75 rfl
theorem u61_75 : ev d 61 75 lo st h = evS (mx_ldI 2) d 61 76 lo st h := ev_s n61_75 rfl rfl
theorem n61_76 : mx_ins 61 76 = some ((.iconst 1), 1) := mx_ins_of mi61 dX0_shelf_76 rfl
theorem u61_76 : ev d 61 76 lo st h = ev d 61 77 lo (.int 1 :: st) h := (ev_s (f := mx_push (.int 1)) n61_76 rfl rfl).trans es_push
theorem n61_77 : mx_ins 61 77 = some ((.if_icmp .ne 15), 3) := mx_ins_of mi61 dX0_shelf_77 rfl
theorem u61_77 : ev d 61 77 lo st h = evK .ne d 61 92 80 lo st h := ev_ic n61_77 rfl rfl
theorem n61_80 : mx_ins 61 80 = some ((.aload_n 0), 1) := mx_ins_of mi61 dX0_shelf_80 rfl
theorem u61_80 : ev d 61 80 lo st h = evS (mx_ldA 0) d 61 81 lo st h := ev_s n61_80 rfl rfl
theorem n61_81 : mx_ins 61 81 = some ((.getfield 115), 3) := mx_ins_of mi61 dX0_shelf_81 rfl
theorem u61_81 : ev d 61 81 lo st h = evS (mx_gf 0 115) d 61 84 lo st h := ev_s n61_81 rfl rfl
theorem n61_84 : mx_ins 61 84 = some ((.iload_n 3), 1) := mx_ins_of mi61 dX0_shelf_84 rfl
theorem u61_84 : ev d 61 84 lo st h = evS (mx_ldI 3) d 61 85 lo st h := ev_s n61_84 rfl rfl
theorem n61_85 : mx_ins 61 85 = some (.aaload, 1) := mx_ins_of mi61 dX0_shelf_85 rfl
theorem u61_85 : ev d 61 85 lo st h = evI d 61 85 86 lo st h .aaload := ev_u n61_85 rfl
theorem n61_86 : mx_ins 61 86 = some ((.invokevirtual 342), 3) := mx_ins_of mi61 dX0_shelf_86 rfl
theorem u61_86 : ev d 61 86 lo st h = evIn d 61 86 89 0 342 1 false lo st h := ev_inv n61_86 rfl rfl ow61 ia0_342
theorem n61_89 : mx_ins 61 89 = some ((.goto 4), 3) := mx_ins_of mi61 dX0_shelf_89 rfl
theorem u61_89 : ev d 61 89 lo st h = ev d 61 93 lo st h := ev_goto n61_89 rfl
theorem n61_92 : mx_ins 61 92 = some (.aconst_null, 1) := mx_ins_of mi61 dX0_shelf_92 rfl
theorem u61_92 : ev d 61 92 lo st h = evI d 61 92 93 lo st h .aconst_null := ev_u n61_92 rfl
theorem n61_93 : mx_ins 61 93 = some ((.putfield 410), 3) := mx_ins_of mi61 dX0_shelf_93 rfl
theorem u61_93 : ev d 61 93 lo st h = evS (mx_pf 0 410 false) d 61 96 lo st h := ev_s n61_93 rfl rfl
theorem n61_96 : mx_ins 61 96 = some ((.iconst 1), 1) := mx_ins_of mi61 dX0_shelf_96 rfl
theorem u61_96 : ev d 61 96 lo st h = ev d 61 97 lo (.int 1 :: st) h := (ev_s (f := mx_push (.int 1)) n61_96 rfl rfl).trans es_push
theorem n61_97 : mx_ins 61 97 = some (.ireturn, 1) := mx_ins_of mi61 dX0_shelf_97 rfl
theorem u61_97 : ev d 61 97 lo st h = evI d 61 97 98 lo st h .ireturn := ev_u n61_97 rfl
theorem mi62 : mx_mi 62 = some (yX0_isShelf, cX0_isShelf, 1, (Option.some Jvm.ClassFile.FieldType.boolean), 0, 1, []) := rfl
theorem ow62 : mx_own 62 = 0 := mx_mi_own mi62
theorem mm62 : mx_max 62 = 1 := mx_mi_max mi62
theorem rt62 : mx_ret 62 = (Option.some Jvm.ClassFile.FieldType.boolean) := mx_mi_ret mi62
theorem hn62 : mx_hnd 62 = [] := mx_mi_hnd mi62
theorem n62_0 : mx_ins 62 0 = some ((.iload_n 0), 1) := mx_ins_of mi62 dX0_isShelf_0 rfl
theorem u62_0 : ev d 62 0 lo st h = evS (mx_ldI 0) d 62 1 lo st h := ev_s n62_0 rfl rfl
theorem n62_1 : mx_ins 62 1 = some ((.iconst 0), 1) := mx_ins_of mi62 dX0_isShelf_1 rfl
theorem u62_1 : ev d 62 1 lo st h = ev d 62 2 lo (.int 0 :: st) h := (ev_s (f := mx_push (.int 0)) n62_1 rfl rfl).trans es_push
theorem n62_2 : mx_ins 62 2 = some ((.iconst 3), 1) := mx_ins_of mi62 dX0_isShelf_2 rfl
theorem u62_2 : ev d 62 2 lo st h = ev d 62 3 lo (.int 3 :: st) h := (ev_s (f := mx_push (.int 3)) n62_2 rfl rfl).trans es_push
theorem n62_3 : mx_ins 62 3 = some ((.invokestatic 143), 3) := mx_ins_of mi62 dX0_isShelf_3 rfl
theorem u62_3 : ev d 62 3 lo st h = evIn d 62 3 6 0 143 3 true lo st h := ev_inv n62_3 rfl rfl ow62 ia0_143
theorem n62_6 : mx_ins 62 6 = some (.ireturn, 1) := mx_ins_of mi62 dX0_isShelf_6 rfl
theorem u62_6 : ev d 62 6 lo st h = evI d 62 6 7 lo st h .ireturn := ev_u n62_6 rfl
theorem mi63 : mx_mi 63 = some (yX0_taken, cX0_taken, 4, (Option.some Jvm.ClassFile.FieldType.int), 0, 3, [(29, 47, 48, 126), (29, 47, 52, 358)]) := rfl
theorem ow63 : mx_own 63 = 0 := mx_mi_own mi63
theorem mm63 : mx_max 63 = 4 := mx_mi_max mi63
theorem rt63 : mx_ret 63 = (Option.some Jvm.ClassFile.FieldType.int) := mx_mi_ret mi63
theorem hn63 : mx_hnd 63 = [(29, 47, 48, 126), (29, 47, 52, 358)] := mx_mi_hnd mi63
theorem n63_0 : mx_ins 63 0 = some ((.iload_n 1), 1) := mx_ins_of mi63 dX0_taken_0 rfl
theorem u63_0 : ev d 63 0 lo st h = evS (mx_ldI 1) d 63 1 lo st h := ev_s n63_0 rfl rfl
theorem n63_1 : mx_ins 63 1 = some ((.invokestatic 413), 3) := mx_ins_of mi63 dX0_taken_1 rfl
theorem u63_1 : ev d 63 1 lo st h = evIn d 63 1 4 0 413 1 true lo st h := ev_inv n63_1 rfl rfl ow63 ia0_413
theorem n63_4 : mx_ins 63 4 = some ((.ifCond .eq 23), 3) := mx_ins_of mi63 dX0_taken_4 rfl
theorem u63_4 : ev d 63 4 lo st h = evJ .eq d 63 27 7 lo st h := ev_if n63_4 rfl rfl
theorem n63_7 : mx_ins 63 7 = some ((.iload_n 2), 1) := mx_ins_of mi63 dX0_taken_7 rfl
theorem u63_7 : ev d 63 7 lo st h = evS (mx_ldI 2) d 63 8 lo st h := ev_s n63_7 rfl rfl
theorem n63_8 : mx_ins 63 8 = some ((.iconst 0), 1) := mx_ins_of mi63 dX0_taken_8 rfl
theorem u63_8 : ev d 63 8 lo st h = ev d 63 9 lo (.int 0 :: st) h := (ev_s (f := mx_push (.int 0)) n63_8 rfl rfl).trans es_push
theorem n63_9 : mx_ins 63 9 = some ((.iconst 5), 1) := mx_ins_of mi63 dX0_taken_9 rfl
theorem u63_9 : ev d 63 9 lo st h = ev d 63 10 lo (.int 5 :: st) h := (ev_s (f := mx_push (.int 5)) n63_9 rfl rfl).trans es_push
theorem n63_10 : mx_ins 63 10 = some ((.invokestatic 143), 3) := mx_ins_of mi63 dX0_taken_10 rfl
theorem u63_10 : ev d 63 10 lo st h = evIn d 63 10 13 0 143 3 true lo st h := ev_inv n63_10 rfl rfl ow63 ia0_143
theorem n63_13 : mx_ins 63 13 = some ((.ifCond .ne 16), 3) := mx_ins_of mi63 dX0_taken_13 rfl
theorem u63_13 : ev d 63 13 lo st h = evJ .ne d 63 29 16 lo st h := ev_if n63_13 rfl rfl
theorem n63_16 : mx_ins 63 16 = some ((.iload_n 2), 1) := mx_ins_of mi63 dX0_taken_16 rfl
theorem u63_16 : ev d 63 16 lo st h = evS (mx_ldI 2) d 63 17 lo st h := ev_s n63_16 rfl rfl
theorem n63_17 : mx_ins 63 17 = some ((.bipush 10), 2) := mx_ins_of mi63 dX0_taken_17 rfl
theorem u63_17 : ev d 63 17 lo st h = ev d 63 19 lo (.int 10 :: st) h := (ev_s (f := mx_push (.int 10)) n63_17 rfl rfl).trans es_push
theorem n63_19 : mx_ins 63 19 = some ((.bipush 13), 2) := mx_ins_of mi63 dX0_taken_19 rfl
theorem u63_19 : ev d 63 19 lo st h = ev d 63 21 lo (.int 13 :: st) h := (ev_s (f := mx_push (.int 13)) n63_19 rfl rfl).trans es_push
theorem n63_21 : mx_ins 63 21 = some ((.invokestatic 143), 3) := mx_ins_of mi63 dX0_taken_21 rfl
theorem u63_21 : ev d 63 21 lo st h = evIn d 63 21 24 0 143 3 true lo st h := ev_inv n63_21 rfl rfl ow63 ia0_143
theorem n63_24 : mx_ins 63 24 = some ((.ifCond .ne 5), 3) := mx_ins_of mi63 dX0_taken_24 rfl
theorem u63_24 : ev d 63 24 lo st h = evJ .ne d 63 29 27 lo st h := ev_if n63_24 rfl rfl
theorem n63_27 : mx_ins 63 27 = some ((.iconst (-1)), 1) := mx_ins_of mi63 dX0_taken_27 rfl
theorem u63_27 : ev d 63 27 lo st h = ev d 63 28 lo (.int (-1) :: st) h := (ev_s (f := mx_push (.int (-1))) n63_27 rfl rfl).trans es_push
theorem n63_28 : mx_ins 63 28 = some (.ireturn, 1) := mx_ins_of mi63 dX0_taken_28 rfl
theorem u63_28 : ev d 63 28 lo st h = evI d 63 28 29 lo st h .ireturn := ev_u n63_28 rfl
theorem n63_29 : mx_ins 63 29 = some ((.aload_n 0), 1) := mx_ins_of mi63 dX0_taken_29 rfl
theorem u63_29 : ev d 63 29 lo st h = evS (mx_ldA 0) d 63 30 lo st h := ev_s n63_29 rfl rfl
theorem n63_30 : mx_ins 63 30 = some ((.aload_n 0), 1) := mx_ins_of mi63 dX0_taken_30 rfl
theorem u63_30 : ev d 63 30 lo st h = evS (mx_ldA 0) d 63 31 lo st h := ev_s n63_30 rfl rfl
theorem n63_31 : mx_ins 63 31 = some ((.aload_n 0), 1) := mx_ins_of mi63 dX0_taken_31 rfl
theorem u63_31 : ev d 63 31 lo st h = evS (mx_ldA 0) d 63 32 lo st h := ev_s n63_31 rfl rfl
theorem n63_32 : mx_ins 63 32 = some ((.getfield 139), 3) := mx_ins_of mi63 dX0_taken_32 rfl
theorem u63_32 : ev d 63 32 lo st h = evS (mx_gf 0 139) d 63 35 lo st h := ev_s n63_32 rfl rfl
theorem n63_35 : mx_ins 63 35 = some ((.iload_n 1), 1) := mx_ins_of mi63 dX0_taken_35 rfl
theorem u63_35 : ev d 63 35 lo st h = evS (mx_ldI 1) d 63 36 lo st h := ev_s n63_35 rfl rfl
theorem n63_36 : mx_ins 63 36 = some (.aaload, 1) := mx_ins_of mi63 dX0_taken_36 rfl
theorem u63_36 : ev d 63 36 lo st h = evI d 63 36 37 lo st h .aaload := ev_u n63_36 rfl
theorem n63_37 : mx_ins 63 37 = some ((.invokevirtual 440), 3) := mx_ins_of mi63 dX0_taken_37 rfl
theorem u63_37 : ev d 63 37 lo st h = evIn d 63 37 40 0 440 2 false lo st h := ev_inv n63_37 rfl rfl ow63 ia0_440
theorem n63_40 : mx_ins 63 40 = some ((.invokevirtual 346), 3) := mx_ins_of mi63 dX0_taken_40 rfl
theorem u63_40 : ev d 63 40 lo st h = evIn d 63 40 43 0 346 2 false lo st h := ev_inv n63_40 rfl rfl ow63 ia0_346
theorem n63_43 : mx_ins 63 43 = some ((.iload_n 2), 1) := mx_ins_of mi63 dX0_taken_43 rfl
theorem u63_43 : ev d 63 43 lo st h = evS (mx_ldI 2) d 63 44 lo st h := ev_s n63_43 rfl rfl
theorem n63_44 : mx_ins 63 44 = some ((.invokestatic 444), 3) := mx_ins_of mi63 dX0_taken_44 rfl
theorem u63_44 : ev d 63 44 lo st h = evIn d 63 44 47 0 444 2 true lo st h := ev_inv n63_44 rfl rfl ow63 ia0_444
theorem n63_47 : mx_ins 63 47 = some (.ireturn, 1) := mx_ins_of mi63 dX0_taken_47 rfl
theorem u63_47 : ev d 63 47 lo st h = evI d 63 47 48 lo st h .ireturn := ev_u n63_47 rfl
theorem n63_48 : mx_ins 63 48 = some ((.astore_n 3), 1) := mx_ins_of mi63 dX0_taken_48 rfl
theorem u63_48 : ev d 63 48 lo st h = evS (mx_stA 3) d 63 49 lo st h := ev_s n63_48 rfl rfl
theorem n63_49 : mx_ins 63 49 = some ((.bipush (-11)), 2) := mx_ins_of mi63 dX0_taken_49 rfl
theorem u63_49 : ev d 63 49 lo st h = ev d 63 51 lo (.int (-11) :: st) h := (ev_s (f := mx_push (.int (-11))) n63_49 rfl rfl).trans es_push
theorem n63_51 : mx_ins 63 51 = some (.ireturn, 1) := mx_ins_of mi63 dX0_taken_51 rfl
theorem u63_51 : ev d 63 51 lo st h = evI d 63 51 52 lo st h .ireturn := ev_u n63_51 rfl
theorem n63_52 : mx_ins 63 52 = some ((.astore_n 3), 1) := mx_ins_of mi63 dX0_taken_52 rfl
theorem u63_52 : ev d 63 52 lo st h = evS (mx_stA 3) d 63 53 lo st h := ev_s n63_52 rfl rfl
theorem n63_53 : mx_ins 63 53 = some ((.bipush (-13)), 2) := mx_ins_of mi63 dX0_taken_53 rfl
theorem u63_53 : ev d 63 53 lo st h = ev d 63 55 lo (.int (-13) :: st) h := (ev_s (f := mx_push (.int (-13))) n63_53 rfl rfl).trans es_push
theorem n63_55 : mx_ins 63 55 = some (.ireturn, 1) := mx_ins_of mi63 dX0_taken_55 rfl
theorem u63_55 : ev d 63 55 lo st h = evI d 63 55 56 lo st h .ireturn := ev_u n63_55 rfl
theorem mi64 : mx_mi 64 = some (yX0_heldOf, cX0_heldOf, 2, (Option.some (Jvm.ClassFile.FieldType.object "java/lang/Object")), 0, 2, []) := rfl
theorem ow64 : mx_own 64 = 0 := mx_mi_own mi64
theorem mm64 : mx_max 64 = 2 := mx_mi_max mi64
theorem rt64 : mx_ret 64 = (Option.some (Jvm.ClassFile.FieldType.object "java/lang/Object")) := mx_mi_ret mi64
theorem hn64 : mx_hnd 64 = [] := mx_mi_hnd mi64
theorem rr64 : mx_rr 64 = true := by unfold mx_rr; rw [rt64]
theorem n64_0 : mx_ins 64 0 = some ((.aload_n 1), 1) := mx_ins_of mi64 dX0_heldOf_0 rfl
theorem u64_0 : ev d 64 0 lo st h = evS (mx_ldA 1) d 64 1 lo st h := ev_s n64_0 rfl rfl
theorem n64_1 : mx_ins 64 1 = some ((.getfield 400), 3) := mx_ins_of mi64 dX0_heldOf_1 rfl
theorem u64_1 : ev d 64 1 lo st h = evS (mx_gf 0 400) d 64 4 lo st h := ev_s n64_1 rfl rfl
theorem n64_4 : mx_ins 64 4 = some ((.lookupswitch 85 #[(0, 28), (1, 80)]), 28) := mx_ins_of mi64 dX0_heldOf_4 rfl
theorem u64_4 : ev d 64 4 lo st h = evTS d 64 [(0, 32), (1, 84)] 89 lo st h := ev_ls n64_4 rfl rfl
theorem n64_32 : mx_ins 64 32 = some ((.aload_n 1), 1) := mx_ins_of mi64 dX0_heldOf_32 rfl
theorem u64_32 : ev d 64 32 lo st h = evS (mx_ldA 1) d 64 33 lo st h := ev_s n64_32 rfl rfl
theorem n64_33 : mx_ins 64 33 = some ((.getfield 403), 3) := mx_ins_of mi64 dX0_heldOf_33 rfl
theorem u64_33 : ev d 64 33 lo st h = evS (mx_gf 0 403) d 64 36 lo st h := ev_s n64_33 rfl rfl
theorem n64_36 : mx_ins 64 36 = some ((.invokestatic 215), 3) := mx_ins_of mi64 dX0_heldOf_36 rfl
theorem u64_36 : ev d 64 36 lo st h = evIn d 64 36 39 0 215 1 true lo st h := ev_inv n64_36 rfl rfl ow64 ia0_215
theorem n64_39 : mx_ins 64 39 = some ((.ifCond .eq 43), 3) := mx_ins_of mi64 dX0_heldOf_39 rfl
theorem u64_39 : ev d 64 39 lo st h = evJ .eq d 64 82 42 lo st h := ev_if n64_39 rfl rfl
theorem n64_42 : mx_ins 64 42 = some ((.aload_n 0), 1) := mx_ins_of mi64 dX0_heldOf_42 rfl
theorem u64_42 : ev d 64 42 lo st h = evS (mx_ldA 0) d 64 43 lo st h := ev_s n64_42 rfl rfl
theorem n64_43 : mx_ins 64 43 = some ((.aload_n 1), 1) := mx_ins_of mi64 dX0_heldOf_43 rfl
theorem u64_43 : ev d 64 43 lo st h = evS (mx_ldA 1) d 64 44 lo st h := ev_s n64_43 rfl rfl
theorem n64_44 : mx_ins 64 44 = some ((.getfield 403), 3) := mx_ins_of mi64 dX0_heldOf_44 rfl
theorem u64_44 : ev d 64 44 lo st h = evS (mx_gf 0 403) d 64 47 lo st h := ev_s n64_44 rfl rfl
theorem n64_47 : mx_ins 64 47 = some ((.aload_n 0), 1) := mx_ins_of mi64 dX0_heldOf_47 rfl
theorem u64_47 : ev d 64 47 lo st h = evS (mx_ldA 0) d 64 48 lo st h := ev_s n64_47 rfl rfl
theorem n64_48 : mx_ins 64 48 = some ((.getfield 22), 3) := mx_ins_of mi64 dX0_heldOf_48 rfl
theorem u64_48 : ev d 64 48 lo st h = evS (mx_gf 0 22) d 64 51 lo st h := ev_s n64_48 rfl rfl
theorem n64_51 : mx_ins 64 51 = some ((.getfield 238), 3) := mx_ins_of mi64 dX0_heldOf_51 rfl
theorem u64_51 : ev d 64 51 lo st h = evS (mx_gf 0 238) d 64 54 lo st h := ev_s n64_51 rfl rfl
theorem n64_54 : mx_ins 64 54 = some ((.getfield 159), 3) := mx_ins_of mi64 dX0_heldOf_54 rfl
theorem u64_54 : ev d 64 54 lo st h = evS (mx_gf 0 159) d 64 57 lo st h := ev_s n64_54 rfl rfl
theorem n64_57 : mx_ins 64 57 = some ((.invokevirtual 162), 3) := mx_ins_of mi64 dX0_heldOf_57 rfl
theorem u64_57 : ev d 64 57 lo st h = evIn d 64 57 60 0 162 3 false lo st h := ev_inv n64_57 rfl rfl ow64 ia0_162
theorem n64_60 : mx_ins 64 60 = some ((.aload_n 1), 1) := mx_ins_of mi64 dX0_heldOf_60 rfl
theorem u64_60 : ev d 64 60 lo st h = evS (mx_ldA 1) d 64 61 lo st h := ev_s n64_60 rfl rfl
theorem n64_61 : mx_ins 64 61 = some ((.getfield 403), 3) := mx_ins_of mi64 dX0_heldOf_61 rfl
theorem u64_61 : ev d 64 61 lo st h = evS (mx_gf 0 403) d 64 64 lo st h := ev_s n64_61 rfl rfl
theorem n64_64 : mx_ins 64 64 = some ((.aload_n 0), 1) := mx_ins_of mi64 dX0_heldOf_64 rfl
theorem u64_64 : ev d 64 64 lo st h = evS (mx_ldA 0) d 64 65 lo st h := ev_s n64_64 rfl rfl
theorem n64_65 : mx_ins 64 65 = some ((.getfield 22), 3) := mx_ins_of mi64 dX0_heldOf_65 rfl
theorem u64_65 : ev d 64 65 lo st h = evS (mx_gf 0 22) d 64 68 lo st h := ev_s n64_65 rfl rfl
theorem n64_68 : mx_ins 64 68 = some ((.getfield 179), 3) := mx_ins_of mi64 dX0_heldOf_68 rfl
theorem u64_68 : ev d 64 68 lo st h = evS (mx_gf 0 179) d 64 71 lo st h := ev_s n64_68 rfl rfl
theorem n64_71 : mx_ins 64 71 = some ((.aload_n 1), 1) := mx_ins_of mi64 dX0_heldOf_71 rfl
theorem u64_71 : ev d 64 71 lo st h = evS (mx_ldA 1) d 64 72 lo st h := ev_s n64_71 rfl rfl
theorem n64_72 : mx_ins 64 72 = some ((.getfield 403), 3) := mx_ins_of mi64 dX0_heldOf_72 rfl
theorem u64_72 : ev d 64 72 lo st h = evS (mx_gf 0 403) d 64 75 lo st h := ev_s n64_72 rfl rfl
theorem n64_75 : mx_ins 64 75 = some (.iaload, 1) := mx_ins_of mi64 dX0_heldOf_75 rfl
theorem u64_75 : ev d 64 75 lo st h = evI d 64 75 76 lo st h .iaload := ev_u n64_75 rfl
theorem n64_76 : mx_ins 64 76 = some ((.invokevirtual 406), 3) := mx_ins_of mi64 dX0_heldOf_76 rfl
theorem u64_76 : ev d 64 76 lo st h = evIn d 64 76 79 0 406 3 false lo st h := ev_inv n64_76 rfl rfl ow64 ia0_406
theorem n64_79 : mx_ins 64 79 = some ((.goto 4), 3) := mx_ins_of mi64 dX0_heldOf_79 rfl
theorem u64_79 : ev d 64 79 lo st h = ev d 64 83 lo st h := ev_goto n64_79 rfl
theorem n64_82 : mx_ins 64 82 = some (.aconst_null, 1) := mx_ins_of mi64 dX0_heldOf_82 rfl
theorem u64_82 : ev d 64 82 lo st h = evI d 64 82 83 lo st h .aconst_null := ev_u n64_82 rfl
theorem n64_83 : mx_ins 64 83 = some (.areturn, 1) := mx_ins_of mi64 dX0_heldOf_83 rfl
theorem u64_83 : ev d 64 83 lo st h = evI d 64 83 84 lo st h .areturn := ev_u n64_83 rfl
theorem n64_84 : mx_ins 64 84 = some ((.aload_n 1), 1) := mx_ins_of mi64 dX0_heldOf_84 rfl
theorem u64_84 : ev d 64 84 lo st h = evS (mx_ldA 1) d 64 85 lo st h := ev_s n64_84 rfl rfl
theorem n64_85 : mx_ins 64 85 = some ((.getfield 410), 3) := mx_ins_of mi64 dX0_heldOf_85 rfl
theorem u64_85 : ev d 64 85 lo st h = evS (mx_gf 0 410) d 64 88 lo st h := ev_s n64_85 rfl rfl
theorem n64_88 : mx_ins 64 88 = some (.areturn, 1) := mx_ins_of mi64 dX0_heldOf_88 rfl
theorem u64_88 : ev d 64 88 lo st h = evI d 64 88 89 lo st h .areturn := ev_u n64_88 rfl
theorem n64_89 : mx_ins 64 89 = some (.aconst_null, 1) := mx_ins_of mi64 dX0_heldOf_89 rfl
theorem u64_89 : ev d 64 89 lo st h = evI d 64 89 90 lo st h .aconst_null := ev_u n64_89 rfl
theorem n64_90 : mx_ins 64 90 = some (.areturn, 1) := mx_ins_of mi64 dX0_heldOf_90 rfl
theorem u64_90 : ev d 64 90 lo st h = evI d 64 90 91 lo st h .areturn := ev_u n64_90 rfl
theorem mi65 : mx_mi 65 = some (yX0_castTo, cX0_castTo, 2, (Option.some Jvm.ClassFile.FieldType.int), 0, 2, []) := rfl
theorem ow65 : mx_own 65 = 0 := mx_mi_own mi65
theorem mm65 : mx_max 65 = 2 := mx_mi_max mi65
theorem rt65 : mx_ret 65 = (Option.some Jvm.ClassFile.FieldType.int) := mx_mi_ret mi65
theorem hn65 : mx_hnd 65 = [] := mx_mi_hnd mi65
theorem n65_0 : mx_ins 65 0 = some ((.iload_n 1), 1) := mx_ins_of mi65 dX0_castTo_0 rfl
theorem u65_0 : ev d 65 0 lo st h = evS (mx_ldI 1) d 65 1 lo st h := ev_s n65_0 rfl rfl
theorem n65_1 : mx_ins 65 1 = some ((.tableswitch 87 0 5 #[39, 47, 55, 63, 71, 79]), 39) := mx_ins_of mi65 dX0_castTo_1 rfl
theorem u65_1 : ev d 65 1 lo st h = evTS d 65 [(0, 40), (1, 48), (2, 56), (3, 64), (4, 72), (5, 80)] 88 lo st h := ev_ts n65_1 rfl rfl
theorem n65_40 : mx_ins 65 40 = some ((.aload_n 0), 1) := mx_ins_of mi65 dX0_castTo_40 rfl
theorem u65_40 : ev d 65 40 lo st h = evS (mx_ldA 0) d 65 41 lo st h := ev_s n65_40 rfl rfl
theorem n65_41 : mx_ins 65 41 = some ((.checkcast 416), 3) := mx_ins_of mi65 dX0_castTo_41 rfl
theorem u65_41 : ev d 65 41 lo st h = evI d 65 41 44 lo st h (.checkcast 416) := ev_u n65_41 rfl
theorem n65_44 : mx_ins 65 44 = some ((.invokevirtual 418), 3) := mx_ins_of mi65 dX0_castTo_44 rfl
theorem u65_44 : ev d 65 44 lo st h = evIn d 65 44 47 0 418 1 false lo st h := ev_inv n65_44 rfl rfl ow65 ia0_418
theorem n65_47 : mx_ins 65 47 = some (.ireturn, 1) := mx_ins_of mi65 dX0_castTo_47 rfl
theorem u65_47 : ev d 65 47 lo st h = evI d 65 47 48 lo st h .ireturn := ev_u n65_47 rfl
theorem n65_48 : mx_ins 65 48 = some ((.aload_n 0), 1) := mx_ins_of mi65 dX0_castTo_48 rfl
theorem u65_48 : ev d 65 48 lo st h = evS (mx_ldA 0) d 65 49 lo st h := ev_s n65_48 rfl rfl
theorem n65_49 : mx_ins 65 49 = some ((.checkcast 421), 3) := mx_ins_of mi65 dX0_castTo_49 rfl
theorem u65_49 : ev d 65 49 lo st h = evI d 65 49 52 lo st h (.checkcast 421) := ev_u n65_49 rfl
theorem n65_52 : mx_ins 65 52 = some ((.invokevirtual 423), 3) := mx_ins_of mi65 dX0_castTo_52 rfl
theorem u65_52 : ev d 65 52 lo st h = evIn d 65 52 55 0 423 1 false lo st h := ev_inv n65_52 rfl rfl ow65 ia0_423
theorem n65_55 : mx_ins 65 55 = some (.ireturn, 1) := mx_ins_of mi65 dX0_castTo_55 rfl
theorem u65_55 : ev d 65 55 lo st h = evI d 65 55 56 lo st h .ireturn := ev_u n65_55 rfl
theorem n65_56 : mx_ins 65 56 = some ((.aload_n 0), 1) := mx_ins_of mi65 dX0_castTo_56 rfl
theorem u65_56 : ev d 65 56 lo st h = evS (mx_ldA 0) d 65 57 lo st h := ev_s n65_56 rfl rfl
theorem n65_57 : mx_ins 65 57 = some ((.checkcast 424), 3) := mx_ins_of mi65 dX0_castTo_57 rfl
theorem u65_57 : ev d 65 57 lo st h = evI d 65 57 60 lo st h (.checkcast 424) := ev_u n65_57 rfl
theorem n65_60 : mx_ins 65 60 = some ((.invokevirtual 426), 3) := mx_ins_of mi65 dX0_castTo_60 rfl
theorem u65_60 : ev d 65 60 lo st h = evIn d 65 60 63 0 426 1 false lo st h := ev_inv n65_60 rfl rfl ow65 ia0_426
theorem n65_63 : mx_ins 65 63 = some (.ireturn, 1) := mx_ins_of mi65 dX0_castTo_63 rfl
theorem u65_63 : ev d 65 63 lo st h = evI d 65 63 64 lo st h .ireturn := ev_u n65_63 rfl
theorem n65_64 : mx_ins 65 64 = some ((.aload_n 0), 1) := mx_ins_of mi65 dX0_castTo_64 rfl
theorem u65_64 : ev d 65 64 lo st h = evS (mx_ldA 0) d 65 65 lo st h := ev_s n65_64 rfl rfl
theorem n65_65 : mx_ins 65 65 = some ((.checkcast 427), 3) := mx_ins_of mi65 dX0_castTo_65 rfl
theorem u65_65 : ev d 65 65 lo st h = evI d 65 65 68 lo st h (.checkcast 427) := ev_u n65_65 rfl
theorem n65_68 : mx_ins 65 68 = some ((.invokevirtual 429), 3) := mx_ins_of mi65 dX0_castTo_68 rfl
theorem u65_68 : ev d 65 68 lo st h = evIn d 65 68 71 0 429 1 false lo st h := ev_inv n65_68 rfl rfl ow65 ia0_429
theorem n65_71 : mx_ins 65 71 = some (.ireturn, 1) := mx_ins_of mi65 dX0_castTo_71 rfl
theorem u65_71 : ev d 65 71 lo st h = evI d 65 71 72 lo st h .ireturn := ev_u n65_71 rfl
theorem n65_72 : mx_ins 65 72 = some ((.aload_n 0), 1) := mx_ins_of mi65 dX0_castTo_72 rfl
theorem u65_72 : ev d 65 72 lo st h = evS (mx_ldA 0) d 65 73 lo st h := ev_s n65_72 rfl rfl
theorem n65_73 : mx_ins 65 73 = some ((.checkcast 430), 3) := mx_ins_of mi65 dX0_castTo_73 rfl
theorem u65_73 : ev d 65 73 lo st h = evI d 65 73 76 lo st h (.checkcast 430) := ev_u n65_73 rfl
theorem n65_76 : mx_ins 65 76 = some ((.invokevirtual 432), 3) := mx_ins_of mi65 dX0_castTo_76 rfl
theorem u65_76 : ev d 65 76 lo st h = evIn d 65 76 79 0 432 1 false lo st h := ev_inv n65_76 rfl rfl ow65 ia0_432
theorem n65_79 : mx_ins 65 79 = some (.ireturn, 1) := mx_ins_of mi65 dX0_castTo_79 rfl
theorem u65_79 : ev d 65 79 lo st h = evI d 65 79 80 lo st h .ireturn := ev_u n65_79 rfl
theorem n65_80 : mx_ins 65 80 = some ((.aload_n 0), 1) := mx_ins_of mi65 dX0_castTo_80 rfl
theorem u65_80 : ev d 65 80 lo st h = evS (mx_ldA 0) d 65 81 lo st h := ev_s n65_80 rfl rfl
theorem n65_81 : mx_ins 65 81 = some ((.checkcast 433), 3) := mx_ins_of mi65 dX0_castTo_81 rfl
theorem u65_81 : ev d 65 81 lo st h = evI d 65 81 84 lo st h (.checkcast 433) := ev_u n65_81 rfl
theorem n65_84 : mx_ins 65 84 = some ((.invokevirtual 435), 3) := mx_ins_of mi65 dX0_castTo_84 rfl
theorem u65_84 : ev d 65 84 lo st h = evIn d 65 84 87 0 435 1 false lo st h := ev_inv n65_84 rfl rfl ow65 ia0_435
theorem n65_87 : mx_ins 65 87 = some (.ireturn, 1) := mx_ins_of mi65 dX0_castTo_87 rfl
theorem u65_87 : ev d 65 87 lo st h = evI d 65 87 88 lo st h .ireturn := ev_u n65_87 rfl
theorem n65_88 : mx_ins 65 88 = some ((.aload_n 0), 1) := mx_ins_of mi65 dX0_castTo_88 rfl
theorem u65_88 : ev d 65 88 lo st h = evS (mx_ldA 0) d 65 89 lo st h := ev_s n65_88 rfl rfl
theorem n65_89 : mx_ins 65 89 = some ((.iload_n 1), 1) := mx_ins_of mi65 dX0_castTo_89 rfl
theorem u65_89 : ev d 65 89 lo st h = evS (mx_ldI 1) d 65 90 lo st h := ev_s n65_89 rfl rfl
theorem n65_90 : mx_ins 65 90 = some ((.invokestatic 436), 3) := mx_ins_of mi65 dX0_castTo_90 rfl
theorem u65_90 : ev d 65 90 lo st h = evIn d 65 90 93 0 436 2 true lo st h := ev_inv n65_90 rfl rfl ow65 ia0_436
theorem n65_93 : mx_ins 65 93 = some (.ireturn, 1) := mx_ins_of mi65 dX0_castTo_93 rfl
theorem u65_93 : ev d 65 93 lo st h = evI d 65 93 94 lo st h .ireturn := ev_u n65_93 rfl
theorem mi66 : mx_mi 66 = some (yX0_rowAs, cX0_rowAs, 2, (Option.some Jvm.ClassFile.FieldType.int), 0, 2, []) := rfl
theorem ow66 : mx_own 66 = 0 := mx_mi_own mi66
theorem mm66 : mx_max 66 = 2 := mx_mi_max mi66
theorem rt66 : mx_ret 66 = (Option.some Jvm.ClassFile.FieldType.int) := mx_mi_ret mi66
theorem hn66 : mx_hnd 66 = [] := mx_mi_hnd mi66
theorem n66_0 : mx_ins 66 0 = some ((.iload_n 1), 1) := mx_ins_of mi66 dX0_rowAs_0 rfl
theorem u66_0 : ev d 66 0 lo st h = evS (mx_ldI 1) d 66 1 lo st h := ev_s n66_0 rfl rfl
theorem n66_1 : mx_ins 66 1 = some ((.tableswitch 45 10 12 #[27, 33, 39]), 27) := mx_ins_of mi66 dX0_rowAs_1 rfl
theorem u66_1 : ev d 66 1 lo st h = evTS d 66 [(10, 28), (11, 34), (12, 40)] 46 lo st h := ev_ts n66_1 rfl rfl
theorem n66_28 : mx_ins 66 28 = some ((.aload_n 0), 1) := mx_ins_of mi66 dX0_rowAs_28 rfl
theorem u66_28 : ev d 66 28 lo st h = evS (mx_ldA 0) d 66 29 lo st h := ev_s n66_28 rfl rfl
theorem n66_29 : mx_ins 66 29 = some ((.checkcast 360), 3) := mx_ins_of mi66 dX0_rowAs_29 rfl
theorem u66_29 : ev d 66 29 lo st h = evI d 66 29 32 lo st h (.checkcast 360) := ev_u n66_29 rfl
theorem n66_32 : mx_ins 66 32 = some (.arraylength, 1) := mx_ins_of mi66 dX0_rowAs_32 rfl
theorem u66_32 : ev d 66 32 lo st h = evI d 66 32 33 lo st h .arraylength := ev_u n66_32 rfl
theorem n66_33 : mx_ins 66 33 = some (.ireturn, 1) := mx_ins_of mi66 dX0_rowAs_33 rfl
theorem u66_33 : ev d 66 33 lo st h = evI d 66 33 34 lo st h .ireturn := ev_u n66_33 rfl
theorem n66_34 : mx_ins 66 34 = some ((.aload_n 0), 1) := mx_ins_of mi66 dX0_rowAs_34 rfl
theorem u66_34 : ev d 66 34 lo st h = evS (mx_ldA 0) d 66 35 lo st h := ev_s n66_34 rfl rfl
theorem n66_35 : mx_ins 66 35 = some ((.checkcast 334), 3) := mx_ins_of mi66 dX0_rowAs_35 rfl
theorem u66_35 : ev d 66 35 lo st h = evI d 66 35 38 lo st h (.checkcast 334) := ev_u n66_35 rfl
theorem n66_38 : mx_ins 66 38 = some (.arraylength, 1) := mx_ins_of mi66 dX0_rowAs_38 rfl
theorem u66_38 : ev d 66 38 lo st h = evI d 66 38 39 lo st h .arraylength := ev_u n66_38 rfl
theorem n66_39 : mx_ins 66 39 = some (.ireturn, 1) := mx_ins_of mi66 dX0_rowAs_39 rfl
theorem u66_39 : ev d 66 39 lo st h = evI d 66 39 40 lo st h .ireturn := ev_u n66_39 rfl
theorem n66_40 : mx_ins 66 40 = some ((.aload_n 0), 1) := mx_ins_of mi66 dX0_rowAs_40 rfl
theorem u66_40 : ev d 66 40 lo st h = evS (mx_ldA 0) d 66 41 lo st h := ev_s n66_40 rfl rfl
theorem n66_41 : mx_ins 66 41 = some ((.checkcast 363), 3) := mx_ins_of mi66 dX0_rowAs_41 rfl
theorem u66_41 : ev d 66 41 lo st h = evI d 66 41 44 lo st h (.checkcast 363) := ev_u n66_41 rfl
theorem n66_44 : mx_ins 66 44 = some (.arraylength, 1) := mx_ins_of mi66 dX0_rowAs_44 rfl
theorem u66_44 : ev d 66 44 lo st h = evI d 66 44 45 lo st h .arraylength := ev_u n66_44 rfl
theorem n66_45 : mx_ins 66 45 = some (.ireturn, 1) := mx_ins_of mi66 dX0_rowAs_45 rfl
theorem u66_45 : ev d 66 45 lo st h = evI d 66 45 46 lo st h .ireturn := ev_u n66_45 rfl
theorem n66_46 : mx_ins 66 46 = some ((.aload_n 0), 1) := mx_ins_of mi66 dX0_rowAs_46 rfl
theorem u66_46 : ev d 66 46 lo st h = evS (mx_ldA 0) d 66 47 lo st h := ev_s n66_46 rfl rfl
theorem n66_47 : mx_ins 66 47 = some ((.checkcast 361), 3) := mx_ins_of mi66 dX0_rowAs_47 rfl
theorem u66_47 : ev d 66 47 lo st h = evI d 66 47 50 lo st h (.checkcast 361) := ev_u n66_47 rfl
theorem n66_50 : mx_ins 66 50 = some (.arraylength, 1) := mx_ins_of mi66 dX0_rowAs_50 rfl
theorem u66_50 : ev d 66 50 lo st h = evI d 66 50 51 lo st h .arraylength := ev_u n66_50 rfl
theorem n66_51 : mx_ins 66 51 = some (.ireturn, 1) := mx_ins_of mi66 dX0_rowAs_51 rfl
theorem u66_51 : ev d 66 51 lo st h = evI d 66 51 52 lo st h .ireturn := ev_u n66_51 rfl
theorem mi67 : mx_mi 67 = some (yX0_act, cX0_act, 6, (Option.some Jvm.ClassFile.FieldType.int), 0, 4, [(45, 55, 56, 465)]) := rfl
theorem ow67 : mx_own 67 = 0 := mx_mi_own mi67
theorem mm67 : mx_max 67 = 6 := mx_mi_max mi67
theorem rt67 : mx_ret 67 = (Option.some Jvm.ClassFile.FieldType.int) := mx_mi_ret mi67
theorem hn67 : mx_hnd 67 = [(45, 55, 56, 465)] := mx_mi_hnd mi67
theorem n67_0 : mx_ins 67 0 = some ((.aload_n 0), 1) := mx_ins_of mi67 dX0_act_0 rfl
theorem u67_0 : ev d 67 0 lo st h = evS (mx_ldA 0) d 67 1 lo st h := ev_s n67_0 rfl rfl
theorem n67_1 : mx_ins 67 1 = some ((.iconst 0), 1) := mx_ins_of mi67 dX0_act_1 rfl
theorem u67_1 : ev d 67 1 lo st h = ev d 67 2 lo (.int 0 :: st) h := (ev_s (f := mx_push (.int 0)) n67_1 rfl rfl).trans es_push
theorem n67_2 : mx_ins 67 2 = some ((.putfield 397), 3) := mx_ins_of mi67 dX0_act_2 rfl
theorem u67_2 : ev d 67 2 lo st h = evS (mx_pf 0 397 false) d 67 5 lo st h := ev_s n67_2 rfl rfl
theorem n67_5 : mx_ins 67 5 = some ((.iload_n 1), 1) := mx_ins_of mi67 dX0_act_5 rfl
theorem u67_5 : ev d 67 5 lo st h = evS (mx_ldI 1) d 67 6 lo st h := ev_s n67_5 rfl rfl
theorem n67_6 : mx_ins 67 6 = some ((.invokestatic 413), 3) := mx_ins_of mi67 dX0_act_6 rfl
theorem u67_6 : ev d 67 6 lo st h = evIn d 67 6 9 0 413 1 true lo st h := ev_inv n67_6 rfl rfl ow67 ia0_413
theorem n67_9 : mx_ins 67 9 = some ((.ifCond .eq 12), 3) := mx_ins_of mi67 dX0_act_9 rfl
theorem u67_9 : ev d 67 9 lo st h = evJ .eq d 67 21 12 lo st h := ev_if n67_9 rfl rfl
theorem n67_12 : mx_ins 67 12 = some ((.iload_n 2), 1) := mx_ins_of mi67 dX0_act_12 rfl
theorem u67_12 : ev d 67 12 lo st h = evS (mx_ldI 2) d 67 13 lo st h := ev_s n67_12 rfl rfl
theorem n67_13 : mx_ins 67 13 = some ((.iconst 0), 1) := mx_ins_of mi67 dX0_act_13 rfl
theorem u67_13 : ev d 67 13 lo st h = ev d 67 14 lo (.int 0 :: st) h := (ev_s (f := mx_push (.int 0)) n67_13 rfl rfl).trans es_push
theorem n67_14 : mx_ins 67 14 = some ((.iconst 3), 1) := mx_ins_of mi67 dX0_act_14 rfl
theorem u67_14 : ev d 67 14 lo st h = ev d 67 15 lo (.int 3 :: st) h := (ev_s (f := mx_push (.int 3)) n67_14 rfl rfl).trans es_push
theorem n67_15 : mx_ins 67 15 = some ((.invokestatic 143), 3) := mx_ins_of mi67 dX0_act_15 rfl
theorem u67_15 : ev d 67 15 lo st h = evIn d 67 15 18 0 143 3 true lo st h := ev_inv n67_15 rfl rfl ow67 ia0_143
theorem n67_18 : mx_ins 67 18 = some ((.ifCond .ne 5), 3) := mx_ins_of mi67 dX0_act_18 rfl
theorem u67_18 : ev d 67 18 lo st h = evJ .ne d 67 23 21 lo st h := ev_if n67_18 rfl rfl
theorem n67_21 : mx_ins 67 21 = some ((.iconst 0), 1) := mx_ins_of mi67 dX0_act_21 rfl
theorem u67_21 : ev d 67 21 lo st h = ev d 67 22 lo (.int 0 :: st) h := (ev_s (f := mx_push (.int 0)) n67_21 rfl rfl).trans es_push
theorem n67_22 : mx_ins 67 22 = some (.ireturn, 1) := mx_ins_of mi67 dX0_act_22 rfl
theorem u67_22 : ev d 67 22 lo st h = evI d 67 22 23 lo st h .ireturn := ev_u n67_22 rfl
theorem n67_23 : mx_ins 67 23 = some ((.aload_n 0), 1) := mx_ins_of mi67 dX0_act_23 rfl
theorem u67_23 : ev d 67 23 lo st h = evS (mx_ldA 0) d 67 24 lo st h := ev_s n67_23 rfl rfl
theorem n67_24 : mx_ins 67 24 = some ((.aload_n 0), 1) := mx_ins_of mi67 dX0_act_24 rfl
theorem u67_24 : ev d 67 24 lo st h = evS (mx_ldA 0) d 67 25 lo st h := ev_s n67_24 rfl rfl
theorem n67_25 : mx_ins 67 25 = some ((.getfield 139), 3) := mx_ins_of mi67 dX0_act_25 rfl
theorem u67_25 : ev d 67 25 lo st h = evS (mx_gf 0 139) d 67 28 lo st h := ev_s n67_25 rfl rfl
theorem n67_28 : mx_ins 67 28 = some ((.iload_n 1), 1) := mx_ins_of mi67 dX0_act_28 rfl
theorem u67_28 : ev d 67 28 lo st h = evS (mx_ldI 1) d 67 29 lo st h := ev_s n67_28 rfl rfl
theorem n67_29 : mx_ins 67 29 = some (.aaload, 1) := mx_ins_of mi67 dX0_act_29 rfl
theorem u67_29 : ev d 67 29 lo st h = evI d 67 29 30 lo st h .aaload := ev_u n67_29 rfl
theorem n67_30 : mx_ins 67 30 = some ((.invokevirtual 440), 3) := mx_ins_of mi67 dX0_act_30 rfl
theorem u67_30 : ev d 67 30 lo st h = evIn d 67 30 33 0 440 2 false lo st h := ev_inv n67_30 rfl rfl ow67 ia0_440
theorem n67_33 : mx_ins 67 33 = some ((.astore 4), 2) := mx_ins_of mi67 dX0_act_33 rfl
theorem u67_33 : ev d 67 33 lo st h = evS (mx_stA 4) d 67 35 lo st h := ev_s n67_33 rfl rfl
theorem n67_35 : mx_ins 67 35 = some ((.aload 4), 2) := mx_ins_of mi67 dX0_act_35 rfl
theorem u67_35 : ev d 67 35 lo st h = evS (mx_ldA 4) d 67 37 lo st h := ev_s n67_35 rfl rfl
theorem n67_37 : mx_ins 67 37 = some ((.instanceof 448), 3) := mx_ins_of mi67 dX0_act_37 rfl
theorem u67_37 : ev d 67 37 lo st h = evS (mx_io 0 448) d 67 40 lo st h := ev_s n67_37 rfl rfl
theorem n67_40 : mx_ins 67 40 = some ((.ifCond .ne 5), 3) := mx_ins_of mi67 dX0_act_40 rfl
theorem u67_40 : ev d 67 40 lo st h = evJ .ne d 67 45 43 lo st h := ev_if n67_40 rfl rfl
theorem n67_43 : mx_ins 67 43 = some ((.iconst 0), 1) := mx_ins_of mi67 dX0_act_43 rfl
theorem u67_43 : ev d 67 43 lo st h = ev d 67 44 lo (.int 0 :: st) h := (ev_s (f := mx_push (.int 0)) n67_43 rfl rfl).trans es_push
theorem n67_44 : mx_ins 67 44 = some (.ireturn, 1) := mx_ins_of mi67 dX0_act_44 rfl
theorem u67_44 : ev d 67 44 lo st h = evI d 67 44 45 lo st h .ireturn := ev_u n67_44 rfl
theorem n67_45 : mx_ins 67 45 = some ((.aload 4), 2) := mx_ins_of mi67 dX0_act_45 rfl
theorem u67_45 : ev d 67 45 lo st h = evS (mx_ldA 4) d 67 47 lo st h := ev_s n67_45 rfl rfl
theorem n67_47 : mx_ins 67 47 = some ((.checkcast 448), 3) := mx_ins_of mi67 dX0_act_47 rfl
theorem u67_47 : ev d 67 47 lo st h = evI d 67 47 50 lo st h (.checkcast 448) := ev_u n67_47 rfl
theorem n67_50 : mx_ins 67 50 = some ((.iload_n 2), 1) := mx_ins_of mi67 dX0_act_50 rfl
theorem u67_50 : ev d 67 50 lo st h = evS (mx_ldI 2) d 67 51 lo st h := ev_s n67_50 rfl rfl
theorem n67_51 : mx_ins 67 51 = some ((.iload_n 3), 1) := mx_ins_of mi67 dX0_act_51 rfl
theorem u67_51 : ev d 67 51 lo st h = evS (mx_ldI 3) d 67 52 lo st h := ev_s n67_51 rfl rfl
theorem n67_52 : mx_ins 67 52 = some ((.invokestatic 461), 3) := mx_ins_of mi67 dX0_act_52 rfl
theorem u67_52 : ev d 67 52 lo st h = evIn d 67 52 55 0 461 3 true lo st h := ev_inv n67_52 rfl rfl ow67 ia0_461
theorem n67_55 : mx_ins 67 55 = some (.ireturn, 1) := mx_ins_of mi67 dX0_act_55 rfl
theorem u67_55 : ev d 67 55 lo st h = evI d 67 55 56 lo st h .ireturn := ev_u n67_55 rfl
theorem n67_56 : mx_ins 67 56 = some ((.astore 5), 2) := mx_ins_of mi67 dX0_act_56 rfl
theorem u67_56 : ev d 67 56 lo st h = evS (mx_stA 5) d 67 58 lo st h := ev_s n67_56 rfl rfl
theorem n67_58 : mx_ins 67 58 = some ((.bipush (-15)), 2) := mx_ins_of mi67 dX0_act_58 rfl
theorem u67_58 : ev d 67 58 lo st h = ev d 67 60 lo (.int (-15) :: st) h := (ev_s (f := mx_push (.int (-15))) n67_58 rfl rfl).trans es_push
theorem n67_60 : mx_ins 67 60 = some (.ireturn, 1) := mx_ins_of mi67 dX0_act_60 rfl
theorem u67_60 : ev d 67 60 lo st h = evI d 67 60 61 lo st h .ireturn := ev_u n67_60 rfl
theorem mi68 : mx_mi 68 = some (yX0_acted, cX0_acted, 3, (Option.some Jvm.ClassFile.FieldType.int), 0, 3, []) := rfl
theorem ow68 : mx_own 68 = 0 := mx_mi_own mi68
theorem mm68 : mx_max 68 = 3 := mx_mi_max mi68
theorem rt68 : mx_ret 68 = (Option.some Jvm.ClassFile.FieldType.int) := mx_mi_ret mi68
theorem hn68 : mx_hnd 68 = [] := mx_mi_hnd mi68
theorem n68_0 : mx_ins 68 0 = some ((.iload_n 1), 1) := mx_ins_of mi68 dX0_acted_0 rfl
theorem u68_0 : ev d 68 0 lo st h = evS (mx_ldI 1) d 68 1 lo st h := ev_s n68_0 rfl rfl
theorem n68_1 : mx_ins 68 1 = some ((.tableswitch 51 0 2 #[27, 35, 43]), 27) := mx_ins_of mi68 dX0_acted_1 rfl
theorem u68_1 : ev d 68 1 lo st h = evTS d 68 [(0, 28), (1, 36), (2, 44)] 52 lo st h := ev_ts n68_1 rfl rfl
theorem n68_28 : mx_ins 68 28 = some ((.aload_n 0), 1) := mx_ins_of mi68 dX0_acted_28 rfl
theorem u68_28 : ev d 68 28 lo st h = evS (mx_ldA 0) d 68 29 lo st h := ev_s n68_28 rfl rfl
theorem n68_29 : mx_ins 68 29 = some ((.iload_n 2), 1) := mx_ins_of mi68 dX0_acted_29 rfl
theorem u68_29 : ev d 68 29 lo st h = evS (mx_ldI 2) d 68 30 lo st h := ev_s n68_29 rfl rfl
theorem n68_30 : mx_ins 68 30 = some ((.invokeinterface 447 2), 5) := mx_ins_of mi68 dX0_acted_30 rfl
theorem u68_30 : ev d 68 30 lo st h = evIn d 68 30 35 0 447 2 false lo st h := ev_inv n68_30 rfl rfl ow68 ia0_447
theorem n68_35 : mx_ins 68 35 = some (.ireturn, 1) := mx_ins_of mi68 dX0_acted_35 rfl
theorem u68_35 : ev d 68 35 lo st h = evI d 68 35 36 lo st h .ireturn := ev_u n68_35 rfl
theorem n68_36 : mx_ins 68 36 = some ((.aload_n 0), 1) := mx_ins_of mi68 dX0_acted_36 rfl
theorem u68_36 : ev d 68 36 lo st h = evS (mx_ldA 0) d 68 37 lo st h := ev_s n68_36 rfl rfl
theorem n68_37 : mx_ins 68 37 = some ((.iload_n 2), 1) := mx_ins_of mi68 dX0_acted_37 rfl
theorem u68_37 : ev d 68 37 lo st h = evS (mx_ldI 2) d 68 38 lo st h := ev_s n68_37 rfl rfl
theorem n68_38 : mx_ins 68 38 = some ((.invokeinterface 452 2), 5) := mx_ins_of mi68 dX0_acted_38 rfl
theorem u68_38 : ev d 68 38 lo st h = evIn d 68 38 43 0 452 2 false lo st h := ev_inv n68_38 rfl rfl ow68 ia0_452
theorem n68_43 : mx_ins 68 43 = some (.ireturn, 1) := mx_ins_of mi68 dX0_acted_43 rfl
theorem u68_43 : ev d 68 43 lo st h = evI d 68 43 44 lo st h .ireturn := ev_u n68_43 rfl
theorem n68_44 : mx_ins 68 44 = some ((.aload_n 0), 1) := mx_ins_of mi68 dX0_acted_44 rfl
theorem u68_44 : ev d 68 44 lo st h = evS (mx_ldA 0) d 68 45 lo st h := ev_s n68_44 rfl rfl
theorem n68_45 : mx_ins 68 45 = some ((.iload_n 2), 1) := mx_ins_of mi68 dX0_acted_45 rfl
theorem u68_45 : ev d 68 45 lo st h = evS (mx_ldI 2) d 68 46 lo st h := ev_s n68_45 rfl rfl
theorem n68_46 : mx_ins 68 46 = some ((.invokeinterface 455 2), 5) := mx_ins_of mi68 dX0_acted_46 rfl
theorem u68_46 : ev d 68 46 lo st h = evIn d 68 46 51 0 455 2 false lo st h := ev_inv n68_46 rfl rfl ow68 ia0_455
theorem n68_51 : mx_ins 68 51 = some (.ireturn, 1) := mx_ins_of mi68 dX0_acted_51 rfl
theorem u68_51 : ev d 68 51 lo st h = evI d 68 51 52 lo st h .ireturn := ev_u n68_51 rfl
theorem n68_52 : mx_ins 68 52 = some ((.aload_n 0), 1) := mx_ins_of mi68 dX0_acted_52 rfl
theorem u68_52 : ev d 68 52 lo st h = evS (mx_ldA 0) d 68 53 lo st h := ev_s n68_52 rfl rfl
theorem n68_53 : mx_ins 68 53 = some ((.iload_n 2), 1) := mx_ins_of mi68 dX0_acted_53 rfl
theorem u68_53 : ev d 68 53 lo st h = evS (mx_ldI 2) d 68 54 lo st h := ev_s n68_53 rfl rfl
theorem n68_54 : mx_ins 68 54 = some ((.invokeinterface 458 2), 5) := mx_ins_of mi68 dX0_acted_54 rfl
theorem u68_54 : ev d 68 54 lo st h = evIn d 68 54 59 0 458 2 false lo st h := ev_inv n68_54 rfl rfl ow68 ia0_458
theorem n68_59 : mx_ins 68 59 = some (.ireturn, 1) := mx_ins_of mi68 dX0_acted_59 rfl
theorem u68_59 : ev d 68 59 lo st h = evI d 68 59 60 lo st h .ireturn := ev_u n68_59 rfl
theorem mi69 : mx_mi 69 = some (yX0_ran, cX0_ran, 2, (none : Option FieldType), 0, 2, []) := rfl
theorem ow69 : mx_own 69 = 0 := mx_mi_own mi69
theorem mm69 : mx_max 69 = 2 := mx_mi_max mi69
theorem rt69 : mx_ret 69 = (none : Option FieldType) := mx_mi_ret mi69
theorem hn69 : mx_hnd 69 = [] := mx_mi_hnd mi69
theorem n69_0 : mx_ins 69 0 = some ((.aload_n 0), 1) := mx_ins_of mi69 dX0_ran_0 rfl
theorem u69_0 : ev d 69 0 lo st h = evS (mx_ldA 0) d 69 1 lo st h := ev_s n69_0 rfl rfl
theorem n69_1 : mx_ins 69 1 = some ((.getfield 397), 3) := mx_ins_of mi69 dX0_ran_1 rfl
theorem u69_1 : ev d 69 1 lo st h = evS (mx_gf 0 397) d 69 4 lo st h := ev_s n69_1 rfl rfl
theorem n69_4 : mx_ins 69 4 = some ((.bipush 30), 2) := mx_ins_of mi69 dX0_ran_4 rfl
theorem u69_4 : ev d 69 4 lo st h = ev d 69 6 lo (.int 30 :: st) h := (ev_s (f := mx_push (.int 30)) n69_4 rfl rfl).trans es_push
theorem n69_6 : mx_ins 69 6 = some ((.if_icmp .ge 13), 3) := mx_ins_of mi69 dX0_ran_6 rfl
theorem u69_6 : ev d 69 6 lo st h = evK .ge d 69 19 9 lo st h := ev_ic n69_6 rfl rfl
theorem n69_9 : mx_ins 69 9 = some ((.aload_n 0), 1) := mx_ins_of mi69 dX0_ran_9 rfl
theorem u69_9 : ev d 69 9 lo st h = evS (mx_ldA 0) d 69 10 lo st h := ev_s n69_9 rfl rfl
theorem n69_10 : mx_ins 69 10 = some ((.getfield 133), 3) := mx_ins_of mi69 dX0_ran_10 rfl
theorem u69_10 : ev d 69 10 lo st h = evS (mx_gf 0 133) d 69 13 lo st h := ev_s n69_10 rfl rfl
theorem n69_13 : mx_ins 69 13 = some ((.aload_n 0), 1) := mx_ins_of mi69 dX0_ran_13 rfl
theorem u69_13 : ev d 69 13 lo st h = evS (mx_ldA 0) d 69 14 lo st h := ev_s n69_13 rfl rfl
theorem n69_14 : mx_ins 69 14 = some ((.getfield 397), 3) := mx_ins_of mi69 dX0_ran_14 rfl
theorem u69_14 : ev d 69 14 lo st h = evS (mx_gf 0 397) d 69 17 lo st h := ev_s n69_14 rfl rfl
theorem n69_17 : mx_ins 69 17 = some ((.iload_n 1), 1) := mx_ins_of mi69 dX0_ran_17 rfl
theorem u69_17 : ev d 69 17 lo st h = evS (mx_ldI 1) d 69 18 lo st h := ev_s n69_17 rfl rfl
theorem n69_18 : mx_ins 69 18 = some (.iastore, 1) := mx_ins_of mi69 dX0_ran_18 rfl
theorem u69_18 : ev d 69 18 lo st h = evI d 69 18 19 lo st h .iastore := ev_u n69_18 rfl
theorem n69_19 : mx_ins 69 19 = some ((.aload_n 0), 1) := mx_ins_of mi69 dX0_ran_19 rfl
theorem u69_19 : ev d 69 19 lo st h = evS (mx_ldA 0) d 69 20 lo st h := ev_s n69_19 rfl rfl
theorem n69_20 : mx_ins 69 20 = some (.dup, 1) := mx_ins_of mi69 dX0_ran_20 rfl
theorem u69_20 : ev d 69 20 lo st h = evI d 69 20 21 lo st h .dup := ev_u n69_20 rfl
theorem n69_21 : mx_ins 69 21 = some ((.getfield 397), 3) := mx_ins_of mi69 dX0_ran_21 rfl
theorem u69_21 : ev d 69 21 lo st h = evS (mx_gf 0 397) d 69 24 lo st h := ev_s n69_21 rfl rfl
theorem n69_24 : mx_ins 69 24 = some ((.iconst 1), 1) := mx_ins_of mi69 dX0_ran_24 rfl
theorem u69_24 : ev d 69 24 lo st h = ev d 69 25 lo (.int 1 :: st) h := (ev_s (f := mx_push (.int 1)) n69_24 rfl rfl).trans es_push
theorem n69_25 : mx_ins 69 25 = some (.iadd, 1) := mx_ins_of mi69 dX0_ran_25 rfl
theorem u69_25 : ev d 69 25 lo st h = evI d 69 25 26 lo st h .iadd := ev_u n69_25 rfl
theorem n69_26 : mx_ins 69 26 = some ((.putfield 397), 3) := mx_ins_of mi69 dX0_ran_26 rfl
theorem u69_26 : ev d 69 26 lo st h = evS (mx_pf 0 397 false) d 69 29 lo st h := ev_s n69_26 rfl rfl
theorem n69_29 : mx_ins 69 29 = some (.return_, 1) := mx_ins_of mi69 dX0_ran_29 rfl
theorem u69_29 : ev d 69 29 lo st h = evI d 69 29 30 lo st h .return_ := ev_u n69_29 rfl
theorem mi70 : mx_mi 70 = some (yX0_trace, cX0_trace, 2, (Option.some Jvm.ClassFile.FieldType.int), 0, 2, []) := rfl
theorem ow70 : mx_own 70 = 0 := mx_mi_own mi70
theorem mm70 : mx_max 70 = 2 := mx_mi_max mi70
theorem rt70 : mx_ret 70 = (Option.some Jvm.ClassFile.FieldType.int) := mx_mi_ret mi70
theorem hn70 : mx_hnd 70 = [] := mx_mi_hnd mi70
theorem n70_0 : mx_ins 70 0 = some ((.iload_n 1), 1) := mx_ins_of mi70 dX0_trace_0 rfl
theorem u70_0 : ev d 70 0 lo st h = evS (mx_ldI 1) d 70 1 lo st h := ev_s n70_0 rfl rfl
theorem n70_1 : mx_ins 70 1 = some ((.ifCond .lt 25), 3) := mx_ins_of mi70 dX0_trace_1 rfl
theorem u70_1 : ev d 70 1 lo st h = evJ .lt d 70 26 4 lo st h := ev_if n70_1 rfl rfl
theorem n70_4 : mx_ins 70 4 = some ((.iload_n 1), 1) := mx_ins_of mi70 dX0_trace_4 rfl
theorem u70_4 : ev d 70 4 lo st h = evS (mx_ldI 1) d 70 5 lo st h := ev_s n70_4 rfl rfl
theorem n70_5 : mx_ins 70 5 = some ((.aload_n 0), 1) := mx_ins_of mi70 dX0_trace_5 rfl
theorem u70_5 : ev d 70 5 lo st h = evS (mx_ldA 0) d 70 6 lo st h := ev_s n70_5 rfl rfl
theorem n70_6 : mx_ins 70 6 = some ((.getfield 397), 3) := mx_ins_of mi70 dX0_trace_6 rfl
theorem u70_6 : ev d 70 6 lo st h = evS (mx_gf 0 397) d 70 9 lo st h := ev_s n70_6 rfl rfl
theorem n70_9 : mx_ins 70 9 = some ((.bipush 30), 2) := mx_ins_of mi70 dX0_trace_9 rfl
theorem u70_9 : ev d 70 9 lo st h = ev d 70 11 lo (.int 30 :: st) h := (ev_s (f := mx_push (.int 30)) n70_9 rfl rfl).trans es_push
theorem n70_11 : mx_ins 70 11 = some ((.invokestatic 196), 3) := mx_ins_of mi70 dX0_trace_11 rfl
theorem u70_11 : ev d 70 11 lo st h = evIn d 70 11 14 0 196 2 true lo st h := ev_inv n70_11 rfl rfl ow70 ia0_196
theorem n70_14 : mx_ins 70 14 = some ((.if_icmp .ge 12), 3) := mx_ins_of mi70 dX0_trace_14 rfl
theorem u70_14 : ev d 70 14 lo st h = evK .ge d 70 26 17 lo st h := ev_ic n70_14 rfl rfl
theorem n70_17 : mx_ins 70 17 = some ((.aload_n 0), 1) := mx_ins_of mi70 dX0_trace_17 rfl
theorem u70_17 : ev d 70 17 lo st h = evS (mx_ldA 0) d 70 18 lo st h := ev_s n70_17 rfl rfl
theorem n70_18 : mx_ins 70 18 = some ((.getfield 133), 3) := mx_ins_of mi70 dX0_trace_18 rfl
theorem u70_18 : ev d 70 18 lo st h = evS (mx_gf 0 133) d 70 21 lo st h := ev_s n70_18 rfl rfl
theorem n70_21 : mx_ins 70 21 = some ((.iload_n 1), 1) := mx_ins_of mi70 dX0_trace_21 rfl
theorem u70_21 : ev d 70 21 lo st h = evS (mx_ldI 1) d 70 22 lo st h := ev_s n70_21 rfl rfl
theorem n70_22 : mx_ins 70 22 = some (.iaload, 1) := mx_ins_of mi70 dX0_trace_22 rfl
theorem u70_22 : ev d 70 22 lo st h = evI d 70 22 23 lo st h .iaload := ev_u n70_22 rfl
theorem n70_23 : mx_ins 70 23 = some ((.goto 5), 3) := mx_ins_of mi70 dX0_trace_23 rfl
theorem u70_23 : ev d 70 23 lo st h = ev d 70 28 lo st h := ev_goto n70_23 rfl
theorem n70_26 : mx_ins 70 26 = some ((.bipush (-3)), 2) := mx_ins_of mi70 dX0_trace_26 rfl
theorem u70_26 : ev d 70 26 lo st h = ev d 70 28 lo (.int (-3) :: st) h := (ev_s (f := mx_push (.int (-3))) n70_26 rfl rfl).trans es_push
theorem n70_28 : mx_ins 70 28 = some (.ireturn, 1) := mx_ins_of mi70 dX0_trace_28 rfl
theorem u70_28 : ev d 70 28 lo st h = evI d 70 28 29 lo st h .ireturn := ev_u n70_28 rfl
theorem mi71 : mx_mi 71 = some (yX0_many, cX0_many, 2, (Option.some Jvm.ClassFile.FieldType.int), 0, 2, []) := rfl
theorem ow71 : mx_own 71 = 0 := mx_mi_own mi71
theorem mm71 : mx_max 71 = 2 := mx_mi_max mi71
theorem rt71 : mx_ret 71 = (Option.some Jvm.ClassFile.FieldType.int) := mx_mi_ret mi71
theorem hn71 : mx_hnd 71 = [] := mx_mi_hnd mi71
theorem n71_0 : mx_ins 71 0 = some ((.iload_n 1), 1) := mx_ins_of mi71 dX0_many_0 rfl
theorem u71_0 : ev d 71 0 lo st h = evS (mx_ldI 1) d 71 1 lo st h := ev_s n71_0 rfl rfl
theorem n71_1 : mx_ins 71 1 = some ((.tableswitch 71 0 4 #[35, 43, 51, 56, 61]), 35) := mx_ins_of mi71 dX0_many_1 rfl
theorem u71_1 : ev d 71 1 lo st h = evTS d 71 [(0, 36), (1, 44), (2, 52), (3, 57), (4, 62)] 72 lo st h := ev_ts n71_1 rfl rfl
theorem n71_36 : mx_ins 71 36 = some ((.aload_n 0), 1) := mx_ins_of mi71 dX0_many_36 rfl
theorem u71_36 : ev d 71 36 lo st h = evS (mx_ldA 0) d 71 37 lo st h := ev_s n71_36 rfl rfl
theorem n71_37 : mx_ins 71 37 = some ((.getfield 22), 3) := mx_ins_of mi71 dX0_many_37 rfl
theorem u71_37 : ev d 71 37 lo st h = evS (mx_gf 0 22) d 71 40 lo st h := ev_s n71_37 rfl rfl
theorem n71_40 : mx_ins 71 40 = some ((.getfield 212), 3) := mx_ins_of mi71 dX0_many_40 rfl
theorem u71_40 : ev d 71 40 lo st h = evS (mx_gf 0 212) d 71 43 lo st h := ev_s n71_40 rfl rfl
theorem n71_43 : mx_ins 71 43 = some (.ireturn, 1) := mx_ins_of mi71 dX0_many_43 rfl
theorem u71_43 : ev d 71 43 lo st h = evI d 71 43 44 lo st h .ireturn := ev_u n71_43 rfl
theorem n71_44 : mx_ins 71 44 = some ((.aload_n 0), 1) := mx_ins_of mi71 dX0_many_44 rfl
theorem u71_44 : ev d 71 44 lo st h = evS (mx_ldA 0) d 71 45 lo st h := ev_s n71_44 rfl rfl
theorem n71_45 : mx_ins 71 45 = some ((.getfield 22), 3) := mx_ins_of mi71 dX0_many_45 rfl
theorem u71_45 : ev d 71 45 lo st h = evS (mx_gf 0 22) d 71 48 lo st h := ev_s n71_45 rfl rfl
theorem n71_48 : mx_ins 71 48 = some ((.getfield 309), 3) := mx_ins_of mi71 dX0_many_48 rfl
theorem u71_48 : ev d 71 48 lo st h = evS (mx_gf 0 309) d 71 51 lo st h := ev_s n71_48 rfl rfl
theorem n71_51 : mx_ins 71 51 = some (.ireturn, 1) := mx_ins_of mi71 dX0_many_51 rfl
theorem u71_51 : ev d 71 51 lo st h = evI d 71 51 52 lo st h .ireturn := ev_u n71_51 rfl
theorem n71_52 : mx_ins 71 52 = some ((.aload_n 0), 1) := mx_ins_of mi71 dX0_many_52 rfl
theorem u71_52 : ev d 71 52 lo st h = evS (mx_ldA 0) d 71 53 lo st h := ev_s n71_52 rfl rfl
theorem n71_53 : mx_ins 71 53 = some ((.getfield 318), 3) := mx_ins_of mi71 dX0_many_53 rfl
theorem u71_53 : ev d 71 53 lo st h = evS (mx_gf 0 318) d 71 56 lo st h := ev_s n71_53 rfl rfl
theorem n71_56 : mx_ins 71 56 = some (.ireturn, 1) := mx_ins_of mi71 dX0_many_56 rfl
theorem u71_56 : ev d 71 56 lo st h = evI d 71 56 57 lo st h .ireturn := ev_u n71_56 rfl
theorem n71_57 : mx_ins 71 57 = some ((.aload_n 0), 1) := mx_ins_of mi71 dX0_many_57 rfl
theorem u71_57 : ev d 71 57 lo st h = evS (mx_ldA 0) d 71 58 lo st h := ev_s n71_57 rfl rfl
theorem n71_58 : mx_ins 71 58 = some ((.getfield 199), 3) := mx_ins_of mi71 dX0_many_58 rfl
theorem u71_58 : ev d 71 58 lo st h = evS (mx_gf 0 199) d 71 61 lo st h := ev_s n71_58 rfl rfl
theorem n71_61 : mx_ins 71 61 = some (.ireturn, 1) := mx_ins_of mi71 dX0_many_61 rfl
theorem u71_61 : ev d 71 61 lo st h = evI d 71 61 62 lo st h .ireturn := ev_u n71_61 rfl
theorem n71_62 : mx_ins 71 62 = some ((.aload_n 0), 1) := mx_ins_of mi71 dX0_many_62 rfl
theorem u71_62 : ev d 71 62 lo st h = evS (mx_ldA 0) d 71 63 lo st h := ev_s n71_62 rfl rfl
theorem n71_63 : mx_ins 71 63 = some ((.getfield 397), 3) := mx_ins_of mi71 dX0_many_63 rfl
theorem u71_63 : ev d 71 63 lo st h = evS (mx_gf 0 397) d 71 66 lo st h := ev_s n71_63 rfl rfl
theorem n71_66 : mx_ins 71 66 = some ((.bipush 30), 2) := mx_ins_of mi71 dX0_many_66 rfl
theorem u71_66 : ev d 71 66 lo st h = ev d 71 68 lo (.int 30 :: st) h := (ev_s (f := mx_push (.int 30)) n71_66 rfl rfl).trans es_push
theorem n71_68 : mx_ins 71 68 = some ((.invokestatic 196), 3) := mx_ins_of mi71 dX0_many_68 rfl
theorem u71_68 : ev d 71 68 lo st h = evIn d 71 68 71 0 196 2 true lo st h := ev_inv n71_68 rfl rfl ow71 ia0_196
theorem n71_71 : mx_ins 71 71 = some (.ireturn, 1) := mx_ins_of mi71 dX0_many_71 rfl
theorem u71_71 : ev d 71 71 lo st h = evI d 71 71 72 lo st h .ireturn := ev_u n71_71 rfl
theorem n71_72 : mx_ins 71 72 = some ((.iconst (-1)), 1) := mx_ins_of mi71 dX0_many_72 rfl
theorem u71_72 : ev d 71 72 lo st h = ev d 71 73 lo (.int (-1) :: st) h := (ev_s (f := mx_push (.int (-1))) n71_72 rfl rfl).trans es_push
theorem n71_73 : mx_ins 71 73 = some (.ireturn, 1) := mx_ins_of mi71 dX0_many_73 rfl
theorem u71_73 : ev d 71 73 lo st h = evI d 71 73 74 lo st h .ireturn := ev_u n71_73 rfl
theorem mi72 : mx_mi 72 = some (yX0_keep, cX0_keep, 1, (Option.some Jvm.ClassFile.FieldType.int), 0, 1, []) := rfl
theorem ow72 : mx_own 72 = 0 := mx_mi_own mi72
theorem mm72 : mx_max 72 = 1 := mx_mi_max mi72
theorem rt72 : mx_ret 72 = (Option.some Jvm.ClassFile.FieldType.int) := mx_mi_ret mi72
theorem hn72 : mx_hnd 72 = [] := mx_mi_hnd mi72
theorem n72_0 : mx_ins 72 0 = some ((.aload_n 0), 1) := mx_ins_of mi72 dX0_keep_0 rfl
theorem u72_0 : ev d 72 0 lo st h = evS (mx_ldA 0) d 72 1 lo st h := ev_s n72_0 rfl rfl
theorem n72_1 : mx_ins 72 1 = some ((.getfield 26), 3) := mx_ins_of mi72 dX0_keep_1 rfl
theorem u72_1 : ev d 72 1 lo st h = evS (mx_gf 0 26) d 72 4 lo st h := ev_s n72_1 rfl rfl
theorem n72_4 : mx_ins 72 4 = some ((.aload_n 0), 1) := mx_ins_of mi72 dX0_keep_4 rfl
theorem u72_4 : ev d 72 4 lo st h = evS (mx_ldA 0) d 72 5 lo st h := ev_s n72_4 rfl rfl
theorem n72_5 : mx_ins 72 5 = some ((.getfield 22), 3) := mx_ins_of mi72 dX0_keep_5 rfl
theorem u72_5 : ev d 72 5 lo st h = evS (mx_gf 0 22) d 72 8 lo st h := ev_s n72_5 rfl rfl
theorem n72_8 : mx_ins 72 8 = some ((.invokevirtual 467), 3) := mx_ins_of mi72 dX0_keep_8 rfl
theorem u72_8 : ev d 72 8 lo st h = evIn d 72 8 11 0 467 2 false lo st h := ev_inv n72_8 rfl rfl ow72 ia0_467
theorem n72_11 : mx_ins 72 11 = some ((.aload_n 0), 1) := mx_ins_of mi72 dX0_keep_11 rfl
theorem u72_11 : ev d 72 11 lo st h = evS (mx_ldA 0) d 72 12 lo st h := ev_s n72_11 rfl rfl
theorem n72_12 : mx_ins 72 12 = some ((.iconst 1), 1) := mx_ins_of mi72 dX0_keep_12 rfl
theorem u72_12 : ev d 72 12 lo st h = ev d 72 13 lo (.int 1 :: st) h := (ev_s (f := mx_push (.int 1)) n72_12 rfl rfl).trans es_push
theorem n72_13 : mx_ins 72 13 = some ((.putfield 469), 3) := mx_ins_of mi72 dX0_keep_13 rfl
theorem u72_13 : ev d 72 13 lo st h = evS (mx_pf 0 469 false) d 72 16 lo st h := ev_s n72_13 rfl rfl
theorem n72_16 : mx_ins 72 16 = some ((.iconst 1), 1) := mx_ins_of mi72 dX0_keep_16 rfl
theorem u72_16 : ev d 72 16 lo st h = ev d 72 17 lo (.int 1 :: st) h := (ev_s (f := mx_push (.int 1)) n72_16 rfl rfl).trans es_push
theorem n72_17 : mx_ins 72 17 = some (.ireturn, 1) := mx_ins_of mi72 dX0_keep_17 rfl
theorem u72_17 : ev d 72 17 lo st h = evI d 72 17 18 lo st h .ireturn := ev_u n72_17 rfl
theorem mi73 : mx_mi 73 = some (yX0_again, cX0_again, 1, (Option.some Jvm.ClassFile.FieldType.int), 0, 1, []) := rfl
theorem ow73 : mx_own 73 = 0 := mx_mi_own mi73
theorem mm73 : mx_max 73 = 1 := mx_mi_max mi73
theorem rt73 : mx_ret 73 = (Option.some Jvm.ClassFile.FieldType.int) := mx_mi_ret mi73
theorem hn73 : mx_hnd 73 = [] := mx_mi_hnd mi73
theorem n73_0 : mx_ins 73 0 = some ((.aload_n 0), 1) := mx_ins_of mi73 dX0_again_0 rfl
theorem u73_0 : ev d 73 0 lo st h = evS (mx_ldA 0) d 73 1 lo st h := ev_s n73_0 rfl rfl
theorem n73_1 : mx_ins 73 1 = some ((.getfield 469), 3) := mx_ins_of mi73 dX0_again_1 rfl
theorem u73_1 : ev d 73 1 lo st h = evS (mx_gf 0 469) d 73 4 lo st h := ev_s n73_1 rfl rfl
theorem n73_4 : mx_ins 73 4 = some ((.ifCond .ne 6), 3) := mx_ins_of mi73 dX0_again_4 rfl
theorem u73_4 : ev d 73 4 lo st h = evJ .ne d 73 10 7 lo st h := ev_if n73_4 rfl rfl
theorem n73_7 : mx_ins 73 7 = some ((.bipush (-3)), 2) := mx_ins_of mi73 dX0_again_7 rfl
theorem u73_7 : ev d 73 7 lo st h = ev d 73 9 lo (.int (-3) :: st) h := (ev_s (f := mx_push (.int (-3))) n73_7 rfl rfl).trans es_push
theorem n73_9 : mx_ins 73 9 = some (.ireturn, 1) := mx_ins_of mi73 dX0_again_9 rfl
theorem u73_9 : ev d 73 9 lo st h = evI d 73 9 10 lo st h .ireturn := ev_u n73_9 rfl
theorem n73_10 : mx_ins 73 10 = some ((.aload_n 0), 1) := mx_ins_of mi73 dX0_again_10 rfl
theorem u73_10 : ev d 73 10 lo st h = evS (mx_ldA 0) d 73 11 lo st h := ev_s n73_10 rfl rfl
theorem n73_11 : mx_ins 73 11 = some ((.getfield 22), 3) := mx_ins_of mi73 dX0_again_11 rfl
theorem u73_11 : ev d 73 11 lo st h = evS (mx_gf 0 22) d 73 14 lo st h := ev_s n73_11 rfl rfl
theorem n73_14 : mx_ins 73 14 = some ((.aload_n 0), 1) := mx_ins_of mi73 dX0_again_14 rfl
theorem u73_14 : ev d 73 14 lo st h = evS (mx_ldA 0) d 73 15 lo st h := ev_s n73_14 rfl rfl
theorem n73_15 : mx_ins 73 15 = some ((.getfield 26), 3) := mx_ins_of mi73 dX0_again_15 rfl
theorem u73_15 : ev d 73 15 lo st h = evS (mx_gf 0 26) d 73 18 lo st h := ev_s n73_15 rfl rfl
theorem n73_18 : mx_ins 73 18 = some ((.invokevirtual 467), 3) := mx_ins_of mi73 dX0_again_18 rfl
theorem u73_18 : ev d 73 18 lo st h = evIn d 73 18 21 0 467 2 false lo st h := ev_inv n73_18 rfl rfl ow73 ia0_467
theorem n73_21 : mx_ins 73 21 = some ((.aload_n 0), 1) := mx_ins_of mi73 dX0_again_21 rfl
theorem u73_21 : ev d 73 21 lo st h = evS (mx_ldA 0) d 73 22 lo st h := ev_s n73_21 rfl rfl
theorem n73_22 : mx_ins 73 22 = some ((.getfield 22), 3) := mx_ins_of mi73 dX0_again_22 rfl
theorem u73_22 : ev d 73 22 lo st h = evS (mx_gf 0 22) d 73 25 lo st h := ev_s n73_22 rfl rfl
theorem n73_25 : mx_ins 73 25 = some ((.getfield 238), 3) := mx_ins_of mi73 dX0_again_25 rfl
theorem u73_25 : ev d 73 25 lo st h = evS (mx_gf 0 238) d 73 28 lo st h := ev_s n73_25 rfl rfl
theorem n73_28 : mx_ins 73 28 = some ((.getfield 155), 3) := mx_ins_of mi73 dX0_again_28 rfl
theorem u73_28 : ev d 73 28 lo st h = evS (mx_gf 0 155) d 73 31 lo st h := ev_s n73_28 rfl rfl
theorem n73_31 : mx_ins 73 31 = some (.ireturn, 1) := mx_ins_of mi73 dX0_again_31 rfl
theorem u73_31 : ev d 73 31 lo st h = evI d 73 31 32 lo st h .ireturn := ev_u n73_31 rfl
end MXU0
