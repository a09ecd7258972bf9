/-! THE TABLES OF THE ABSTRACT MACHINE, by program (gen_tables.py) out of the claim's own names -/
set_option maxRecDepth 100000
def mx_cls : Nat → String := fun k => ([RX0, RX1, RX2, RX3, RX4, RX5, RX6, RX7, RX8, RX9, RX10, RX11, RX12, RX13, RX14, RX15, RX16, RX17, RX18, RX19, RX20, RX21, RX22, RX23, RX24, RX25, RX26, RX27, RX28, RX29, RX30, RX31, RX32, RX33, RX34, RX0, RX0, "ColdBoxLaw", RX0, RX0, "java/lang/ClassCastException", "java/lang/NegativeArraySizeException", "java/lang/ArithmeticException"] : List String).getD k RX0
/-- the classes of objects, by number (dummies where a number names no class that is made) -/
def mx_cl : List vw_C := [(RX0, TX0, 25), (RX1, TX1, 11), (RX2, TX2, 7), (RX0, TX0, 25), (RX4, TX4, 2), (RX5, TX5, 3), (RX6, TX6, 3), (RX7, TX7, 4), (RX8, TX8, 4), (RX9, TX9, 3), (RX10, TX10, 9), (RX11, TX11, 7), (RX0, TX0, 25), (RX13, TX13, 3), (RX14, TX14, 3), (RX15, TX15, 4), (RX16, TX16, 5), (RX17, TX17, 6), (RX18, TX18, 6), (RX19, TX19, 3), (RX20, TX20, 54), (RX0, TX0, 25), (RX22, TX22, 3), (RX23, TX23, 1), (RX0, TX0, 25), (RX25, TX25, 2), (RX26, TX26, 2), (RX27, TX27, 1), (RX28, TX28, 3), (RX29, TX29, 4), (RX30, TX30, 5), (RX31, TX31, 4), (RX32, TX32, 4), (RX33, TX33, 5), (RX0, TX0, 25), (RX0, TX0, 25), (RX0, TX0, 25), (RX0, TX0, 25), (RX0, TX0, 25), (RX0, TX0, 25), ("java/lang/ClassCastException", TX0, 0), ("java/lang/NegativeArraySizeException", TX0, 0), ("java/lang/ArithmeticException", TX0, 0)]
/-- what a handler of ColdBox catches: the entry of its class -> class -/
def mx_xclT : List (Nat × Nat) := [(119, 17), (126, 18), (206, 11), (358, 40), (367, 41), (465, 42)]
def mx_xcl (i : Nat) : Option Nat := mx_xclT.lookup i
abbrev mx_M : Type := MethodName × ByteArray × Nat × Option FieldType × Nat × Nat × List (Nat × Nat × Nat × Nat)
def mx_mi0 : List mx_M := [(yX0_init, cX0_init, 1, (none : Option FieldType), 0, 1, []),
  (yX0_feed, cX0_feed, 5, (Option.some Jvm.ClassFile.FieldType.int), 0, 3, []),
  (yX0_in, cX0_in, 3, (Option.some Jvm.ClassFile.FieldType.boolean), 0, 3, []),
  (yX0_plan, cX0_plan, 3, (Option.some Jvm.ClassFile.FieldType.int), 0, 1, [(10, 22, 25, 206)]),
  (yX0_out, cX0_out, 4, (Option.some Jvm.ClassFile.FieldType.int), 0, 3, []),
  (yX0_isWeek, cX0_isWeek, 1, (Option.some Jvm.ClassFile.FieldType.boolean), 0, 1, []),
  (yX0_air, cX0_air, 4, (Option.some Jvm.ClassFile.FieldType.int), 0, 3, []),
  (yX0_weekOf, cX0_weekOf, 4, (Option.some Jvm.ClassFile.FieldType.int), 0, 4, []),
  (yX0_isPlace, cX0_isPlace, 1, (Option.some Jvm.ClassFile.FieldType.boolean), 0, 1, []),
  (yX0_rule, cX0_rule, 4, (Option.some Jvm.ClassFile.FieldType.int), 0, 3, []),
  (yX0_leastOf, cX0_leastOf, 1, (Option.some Jvm.ClassFile.FieldType.int), 0, 1, []),
  (yX0_mostOf, cX0_mostOf, 1, (Option.some Jvm.ClassFile.FieldType.int), 0, 1, []),
  (yX0_rate, cX0_rate, 2, (Option.some Jvm.ClassFile.FieldType.int), 0, 2, []),
  (yX0_body, cX0_body, 4, (Option.some Jvm.ClassFile.FieldType.int), 0, 3, []),
  (yX0_isBody, cX0_isBody, 3, (Option.some Jvm.ClassFile.FieldType.boolean), 0, 3, []),
  (yX0_part, cX0_part, 3, (Option.some Jvm.ClassFile.FieldType.int), 0, 2, []),
  (yX0_bodyOf, cX0_bodyOf, 2, (Option.some Jvm.ClassFile.FieldType.int), 0, 2, []),
  (yX0_ratio, cX0_ratio, 4, (Option.some Jvm.ClassFile.FieldType.int), 0, 2, []),
  (yX0_uses, cX0_uses, 3, (Option.some Jvm.ClassFile.FieldType.int), 0, 3, []),
  (yX0_natureOf, cX0_natureOf, 3, (Option.some (Jvm.ClassFile.FieldType.object "ColdBox$Nature")), 0, 3, []),
  (yX0_dries, cX0_dries, 3, (Option.some Jvm.ClassFile.FieldType.int), 0, 3, []),
  (yX0_goes, cX0_goes, 3, (Option.some Jvm.ClassFile.FieldType.int), 0, 2, []),
  (yX0_passes, cX0_passes, 4, (none : Option FieldType), 0, 2, []),
  (yX0_begin, cX0_begin, 3, (Option.some Jvm.ClassFile.FieldType.int), 0, 2, []),
  (yX0_says, cX0_says, 2, (Option.some Jvm.ClassFile.FieldType.int), 0, 1, []),
  (yX0_clauseOf, cX0_clauseOf, 4, (Option.some Jvm.ClassFile.FieldType.int), 0, 3, []),
  (yX0_lossOf, cX0_lossOf, 2, (Option.some Jvm.ClassFile.FieldType.int), 0, 2, []),
  (yX0_lie, cX0_lie, 2, (Option.some Jvm.ClassFile.FieldType.int), 0, 1, []),
  (yX0_rowAt, cX0_rowAt, 2, (Option.some (Jvm.ClassFile.FieldType.object "ColdBox$Row")), 0, 2, []),
  (yX0_would, cX0_would, 3, (Option.some Jvm.ClassFile.FieldType.int), 0, 2, []),
  (yX0_lasts, cX0_lasts, 3, (Option.some Jvm.ClassFile.FieldType.int), 0, 2, []),
  (yX0_best, cX0_best, 4, (Option.some Jvm.ClassFile.FieldType.int), 0, 3, []),
  (yX0_tries, cX0_tries, 6, (none : Option FieldType), 0, 3, []),
  (yX0_later, cX0_later, 4, (Option.some Jvm.ClassFile.FieldType.int), 0, 3, []),
  (yX0_scale, cX0_scale, 2, (Option.some Jvm.ClassFile.FieldType.int), 0, 2, []),
  (yX0_seed, cX0_seed, 3, (Option.some Jvm.ClassFile.FieldType.int), 0, 2, []),
  (yX0_other, cX0_other, 3, (Option.some Jvm.ClassFile.FieldType.int), 0, 3, []),
  (yX0_lighter, cX0_lighter, 1, (Option.some Jvm.ClassFile.FieldType.int), 0, 1, []),
  (yX0_lighterThan, cX0_lighterThan, 5, (Option.some Jvm.ClassFile.FieldType.int), 0, 2, []),
  (yX0_least, cX0_least, 3, (Option.some Jvm.ClassFile.FieldType.int), 0, 2, [])]
def mx_mi1 : List mx_M := [(yX0_row, cX0_row, 3, (Option.some Jvm.ClassFile.FieldType.int), 0, 3, []),
  (yX0_isCell, cX0_isCell, 3, (Option.some Jvm.ClassFile.FieldType.boolean), 0, 3, []),
  (yX0_alterRow, cX0_alterRow, 5, (Option.some Jvm.ClassFile.FieldType.int), 0, 4, []),
  (yX0_prove, cX0_prove, 1, (Option.some Jvm.ClassFile.FieldType.int), 0, 1, []),
  (yX0_judge, cX0_judge, 2, (Option.some Jvm.ClassFile.FieldType.int), 0, 1, []),
  (yX0_outs, cX0_outs, 6, (Option.some Jvm.ClassFile.FieldType.int), 0, 5, [(29, 55, 56, 126), (29, 55, 61, 358), (29, 55, 66, 119)]),
  (yX0_isSheet, cX0_isSheet, 1, (Option.some Jvm.ClassFile.FieldType.boolean), 0, 1, []),
  (yX0_there, cX0_there, 2, (Option.some (Jvm.ClassFile.FieldType.object "java/lang/Object")), 0, 2, []),
  (yX0_shorts, cX0_shorts, 1, (Option.some (Jvm.ClassFile.FieldType.array Jvm.ClassFile.FieldType.short)), 0, 1, []),
  (yX0_outsOf, cX0_outsOf, 6, (none : Option FieldType), 0, 5, []),
  (yX0_within, cX0_within, 3, (none : Option FieldType), 0, 3, []),
  (yX0_sheet, cX0_sheet, 5, (Option.some Jvm.ClassFile.FieldType.int), 0, 4, [(28, 40, 41, 367)]),
  (yX0_put, cX0_put, 5, (Option.some Jvm.ClassFile.FieldType.int), 0, 4, [(9, 29, 30, 126), (9, 29, 35, 119)]),
  (yX0_set, cX0_set, 4, (none : Option FieldType), 0, 4, []),
  (yX0_lengthOf, cX0_lengthOf, 1, (Option.some Jvm.ClassFile.FieldType.int), 0, 1, []),
  (yX0_item, cX0_item, 5, (Option.some Jvm.ClassFile.FieldType.int), 0, 4, [(18, 37, 38, 126), (18, 37, 43, 358), (18, 37, 48, 119)]),
  (yX0_itemOf, cX0_itemOf, 4, (Option.some Jvm.ClassFile.FieldType.int), 0, 4, []),
  (yX0_byteAt, cX0_byteAt, 3, (Option.some Jvm.ClassFile.FieldType.int), 0, 3, []),
  (yX0_shortAt, cX0_shortAt, 3, (Option.some Jvm.ClassFile.FieldType.int), 0, 3, []),
  (yX0_intAt, cX0_intAt, 3, (Option.some Jvm.ClassFile.FieldType.int), 0, 3, []),
  (yX0_longAt, cX0_longAt, 3, (Option.some Jvm.ClassFile.FieldType.int), 0, 3, []),
  (yX0_shelf, cX0_shelf, 4, (Option.some Jvm.ClassFile.FieldType.int), 0, 4, []),
  (yX0_isShelf, cX0_isShelf, 1, (Option.some Jvm.ClassFile.FieldType.boolean), 0, 1, []),
  (yX0_taken, cX0_taken, 4, (Option.some Jvm.ClassFile.FieldType.int), 0, 3, [(29, 47, 48, 126), (29, 47, 52, 358)]),
  (yX0_heldOf, cX0_heldOf, 2, (Option.some (Jvm.ClassFile.FieldType.object "java/lang/Object")), 0, 2, []),
  (yX0_castTo, cX0_castTo, 2, (Option.some Jvm.ClassFile.FieldType.int), 0, 2, []),
  (yX0_rowAs, cX0_rowAs, 2, (Option.some Jvm.ClassFile.FieldType.int), 0, 2, []),
  (yX0_act, cX0_act, 6, (Option.some Jvm.ClassFile.FieldType.int), 0, 4, [(45, 55, 56, 465)]),
  (yX0_acted, cX0_acted, 3, (Option.some Jvm.ClassFile.FieldType.int), 0, 3, []),
  (yX0_ran, cX0_ran, 2, (none : Option FieldType), 0, 2, []),
  (yX0_trace, cX0_trace, 2, (Option.some Jvm.ClassFile.FieldType.int), 0, 2, []),
  (yX0_many, cX0_many, 2, (Option.some Jvm.ClassFile.FieldType.int), 0, 2, []),
  (yX0_keep, cX0_keep, 1, (Option.some Jvm.ClassFile.FieldType.int), 0, 1, []),
  (yX0_again, cX0_again, 1, (Option.some Jvm.ClassFile.FieldType.int), 0, 1, []),
  (yX1_init, cX1_init, 2, (none : Option FieldType), 1, 1, []),
  (yX1_becomePlan, cX1_becomePlan, 2, (none : Option FieldType), 1, 2, []),
  (yX1_copy, cX1_copy, 2, (none : Option FieldType), 1, 2, []),
  (yX1_warmth, cX1_warmth, 3, (Option.some Jvm.ClassFile.FieldType.int), 1, 3, []),
  (yX1_kindOf, cX1_kindOf, 4, (Option.some Jvm.ClassFile.FieldType.int), 1, 3, []),
  (yX1_rate, cX1_rate, 2, (Option.some Jvm.ClassFile.FieldType.int), 1, 2, [])]
def mx_mi2 : List mx_M := [(yX1_become, cX1_become, 2, (none : Option FieldType), 1, 2, []),
  (yX2_init, cX2_init, 1, (none : Option FieldType), 2, 1, []),
  (yX2_weight, cX2_weight, 1, (Option.some Jvm.ClassFile.FieldType.int), 2, 1, []),
  (yX2_isAlive, cX2_isAlive, 1, (Option.some Jvm.ClassFile.FieldType.boolean), 2, 1, []),
  (yX2_become, cX2_become, 2, (none : Option FieldType), 2, 2, []),
  (yX3_init, cX3_init, 2, (none : Option FieldType), 3, 2, []),
  (yX3_harms, cX3_harms, 1, (Option.some Jvm.ClassFile.FieldType.int), 3, 1, []),
  (yX4_init, cX4_init, 2, (none : Option FieldType), 4, 2, []),
  (yX4_uses, cX4_uses, 3, (Option.some Jvm.ClassFile.FieldType.int), 4, 3, []),
  (yX4_dries, cX4_dries, 2, (Option.some Jvm.ClassFile.FieldType.int), 4, 2, []),
  (yX4_thing, cX4_thing, 3, (Option.some (Jvm.ClassFile.FieldType.object "ColdBox$Tells")), 4, 3, []),
  (yX5_init, cX5_init, 2, (none : Option FieldType), 5, 2, []),
  (yX5_uses, cX5_uses, 3, (Option.some Jvm.ClassFile.FieldType.int), 5, 3, []),
  (yX5_dries, cX5_dries, 2, (Option.some Jvm.ClassFile.FieldType.int), 5, 2, []),
  (yX5_thing, cX5_thing, 3, (Option.some (Jvm.ClassFile.FieldType.object "ColdBox$Tells")), 5, 3, []),
  (yX6_init, cX6_init, 2, (none : Option FieldType), 6, 2, []),
  (yX6_uses, cX6_uses, 3, (Option.some Jvm.ClassFile.FieldType.int), 6, 3, []),
  (yX6_dries, cX6_dries, 2, (Option.some Jvm.ClassFile.FieldType.int), 6, 2, []),
  (yX6_thing, cX6_thing, 3, (Option.some (Jvm.ClassFile.FieldType.object "ColdBox$Tells")), 6, 3, []),
  (yX7_init, cX7_init, 2, (none : Option FieldType), 7, 2, []),
  (yX7_uses, cX7_uses, 3, (Option.some Jvm.ClassFile.FieldType.int), 7, 3, []),
  (yX7_dries, cX7_dries, 2, (Option.some Jvm.ClassFile.FieldType.int), 7, 2, []),
  (yX7_thing, cX7_thing, 3, (Option.some (Jvm.ClassFile.FieldType.object "ColdBox$Tells")), 7, 3, []),
  (yX8_init, cX8_init, 2, (none : Option FieldType), 8, 2, []),
  (yX8_dries, cX8_dries, 2, (Option.some Jvm.ClassFile.FieldType.int), 8, 2, []),
  (yX8_harms, cX8_harms, 1, (Option.some Jvm.ClassFile.FieldType.int), 8, 1, []),
  (yX8_thing, cX8_thing, 3, (Option.some (Jvm.ClassFile.FieldType.object "ColdBox$Tells")), 8, 3, []),
  (yX9_init, cX9_init, 2, (none : Option FieldType), 9, 2, []),
  (yX9_dries, cX9_dries, 2, (Option.some Jvm.ClassFile.FieldType.int), 9, 2, []),
  (yX9_thing, cX9_thing, 3, (Option.some (Jvm.ClassFile.FieldType.object "ColdBox$Tells")), 9, 3, []),
  (yX10_init, cX10_init, 2, (none : Option FieldType), 10, 2, []),
  (yX10_read, cX10_read, 3, (none : Option FieldType), 10, 3, []),
  (yX10_begins, cX10_begins, 3, (none : Option FieldType), 10, 3, []),
  (yX10_next, cX10_next, 3, (none : Option FieldType), 10, 1, []),
  (yX10_here, cX10_here, 1, (Option.some Jvm.ClassFile.FieldType.int), 10, 1, []),
  (yX10_isLetter, cX10_isLetter, 1, (Option.some Jvm.ClassFile.FieldType.boolean), 10, 1, []),
  (yX10_isDigit, cX10_isDigit, 1, (Option.some Jvm.ClassFile.FieldType.boolean), 10, 1, []),
  (yX10_clause, cX10_clause, 2, (none : Option FieldType), 10, 1, []),
  (yX10_isWord, cX10_isWord, 4, (Option.some Jvm.ClassFile.FieldType.boolean), 10, 2, []),
  (yX10_need, cX10_need, 2, (none : Option FieldType), 10, 2, [])]
def mx_mi3 : List mx_M := [(yX10_must, cX10_must, 2, (none : Option FieldType), 10, 2, []),
  (yX10_any, cX10_any, 2, (Option.some (Jvm.ClassFile.FieldType.object "ColdBox$Cond")), 10, 1, []),
  (yX10_all, cX10_all, 2, (Option.some (Jvm.ClassFile.FieldType.object "ColdBox$Cond")), 10, 1, []),
  (yX10_one, cX10_one, 5, (Option.some (Jvm.ClassFile.FieldType.object "ColdBox$Cond")), 10, 1, []),
  (yX10_may, cX10_may, 2, (Option.some Jvm.ClassFile.FieldType.boolean), 10, 2, []),
  (yX10_value, cX10_value, 2, (Option.some Jvm.ClassFile.FieldType.int), 10, 1, []),
  (yX10_number, cX10_number, 4, (Option.some Jvm.ClassFile.FieldType.int), 10, 3, []),
  (yX10_seen, cX10_seen, 5, (Option.some Jvm.ClassFile.FieldType.int), 10, 3, []),
  (yX11_init, cX11_init, 1, (none : Option FieldType), 11, 1, []),
  (yX11_at, cX11_at, 2, (Option.some (Jvm.ClassFile.FieldType.object "ColdBox$Fault")), 11, 2, []),
  (yX12_init, cX12_init, 2, (none : Option FieldType), 12, 2, []),
  (yX12_goes, cX12_goes, 6, (Option.some Jvm.ClassFile.FieldType.boolean), 12, 2, []),
  (yX13_init, cX13_init, 2, (none : Option FieldType), 13, 2, []),
  (yX13_meets, cX13_meets, 3, (Option.some Jvm.ClassFile.FieldType.boolean), 13, 3, []),
  (yX14_init, cX14_init, 2, (none : Option FieldType), 14, 2, []),
  (yX14_meets, cX14_meets, 4, (Option.some Jvm.ClassFile.FieldType.boolean), 14, 3, []),
  (yX15_init, cX15_init, 2, (none : Option FieldType), 15, 2, []),
  (yX15_meets, cX15_meets, 3, (Option.some Jvm.ClassFile.FieldType.boolean), 15, 3, []),
  (yX16_init, cX16_init, 1, (none : Option FieldType), 16, 1, []),
  (yX16_row, cX16_row, 1, (Option.some (Jvm.ClassFile.FieldType.object "java/lang/Object")), 16, 1, []),
  (yX16_becomes, cX16_becomes, 3, (none : Option FieldType), 16, 3, []),
  (yX17_init, cX17_init, 1, (none : Option FieldType), 17, 1, []),
  (yX18_init, cX18_init, 1, (none : Option FieldType), 18, 1, []),
  (yX19_init, cX19_init, 1, (none : Option FieldType), 19, 1, []),
  (yX20_init, cX20_init, 1, (none : Option FieldType), 20, 1, []),
  (yX20_feed, cX20_feed, 5, (Option.some Jvm.ClassFile.FieldType.int), 20, 3, []),
  (yX20_in, cX20_in, 3, (Option.some Jvm.ClassFile.FieldType.boolean), 20, 3, []),
  (yX20_plan, cX20_plan, 3, (Option.some Jvm.ClassFile.FieldType.int), 20, 1, []),
  (yX20_advance, cX20_advance, 2, (none : Option FieldType), 20, 1, []),
  (yX20_byteAt, cX20_byteAt, 2, (Option.some Jvm.ClassFile.FieldType.int), 20, 2, []),
  (yX20_isLetter, cX20_isLetter, 1, (Option.some Jvm.ClassFile.FieldType.boolean), 20, 1, []),
  (yX20_isDigit, cX20_isDigit, 1, (Option.some Jvm.ClassFile.FieldType.boolean), 20, 1, []),
  (yX20_wantClause, cX20_wantClause, 4, (none : Option FieldType), 20, 2, []),
  (yX20_doingHere, cX20_doingHere, 1, (Option.some Jvm.ClassFile.FieldType.int), 20, 1, []),
  (yX20_isWord, cX20_isWord, 3, (Option.some Jvm.ClassFile.FieldType.boolean), 20, 2, []),
  (yX20_wantCond, cX20_wantCond, 10, (none : Option FieldType), 20, 4, []),
  (yX20_pend, cX20_pend, 2, (none : Option FieldType), 20, 2, []),
  (yX20_isMark, cX20_isMark, 2, (Option.some Jvm.ClassFile.FieldType.boolean), 20, 2, []),
  (yX20_wantCompared, cX20_wantCompared, 2, (none : Option FieldType), 20, 1, []),
  (yX20_wantValue, cX20_wantValue, 2, (none : Option FieldType), 20, 1, [])]
def mx_mi4 : List mx_M := [(yX20_factHere, cX20_factHere, 1, (Option.some Jvm.ClassFile.FieldType.int), 20, 1, []),
  (yX20_emit, cX20_emit, 2, (none : Option FieldType), 20, 2, []),
  (yX20_settle, cX20_settle, 2, (none : Option FieldType), 20, 2, []),
  (yX20_isTop, cX20_isTop, 2, (Option.some Jvm.ClassFile.FieldType.boolean), 20, 2, []),
  (yX20_out, cX20_out, 4, (Option.some Jvm.ClassFile.FieldType.int), 20, 3, []),
  (yX20_isWeek, cX20_isWeek, 1, (Option.some Jvm.ClassFile.FieldType.boolean), 20, 1, []),
  (yX20_air, cX20_air, 4, (Option.some Jvm.ClassFile.FieldType.int), 20, 3, []),
  (yX20_weekOf, cX20_weekOf, 4, (Option.some Jvm.ClassFile.FieldType.int), 20, 4, []),
  (yX20_isPlace, cX20_isPlace, 1, (Option.some Jvm.ClassFile.FieldType.boolean), 20, 1, []),
  (yX20_warmthOf, cX20_warmthOf, 4, (Option.some Jvm.ClassFile.FieldType.int), 20, 3, []),
  (yX20_kindOf, cX20_kindOf, 4, (Option.some Jvm.ClassFile.FieldType.int), 20, 3, []),
  (yX20_rule, cX20_rule, 5, (Option.some Jvm.ClassFile.FieldType.int), 20, 3, []),
  (yX20_rate, cX20_rate, 2, (Option.some Jvm.ClassFile.FieldType.int), 20, 2, []),
  (yX20_rateAt, cX20_rateAt, 2, (Option.some Jvm.ClassFile.FieldType.int), 20, 2, []),
  (yX20_body, cX20_body, 5, (Option.some Jvm.ClassFile.FieldType.int), 20, 3, []),
  (yX20_bodyOf, cX20_bodyOf, 2, (Option.some Jvm.ClassFile.FieldType.int), 20, 2, []),
  (yX20_weight, cX20_weight, 1, (Option.some Jvm.ClassFile.FieldType.int), 20, 1, []),
  (yX20_its, cX20_its, 2, (Option.some Jvm.ClassFile.FieldType.int), 20, 2, []),
  (yX20_isAlive, cX20_isAlive, 1, (Option.some Jvm.ClassFile.FieldType.boolean), 20, 1, []),
  (yX20_ratioOf, cX20_ratioOf, 4, (Option.some Jvm.ClassFile.FieldType.int), 20, 2, []),
  (yX20_uses, cX20_uses, 3, (Option.some Jvm.ClassFile.FieldType.int), 20, 3, []),
  (yX20_usesOf, cX20_usesOf, 4, (Option.some Jvm.ClassFile.FieldType.int), 20, 3, []),
  (yX20_dries, cX20_dries, 3, (Option.some Jvm.ClassFile.FieldType.int), 20, 3, []),
  (yX20_driesOf, cX20_driesOf, 4, (Option.some Jvm.ClassFile.FieldType.int), 20, 3, []),
  (yX20_goes, cX20_goes, 3, (Option.some Jvm.ClassFile.FieldType.int), 20, 2, []),
  (yX20_weekGoes, cX20_weekGoes, 4, (none : Option FieldType), 20, 1, []),
  (yX20_begin, cX20_begin, 3, (Option.some Jvm.ClassFile.FieldType.int), 20, 2, []),
  (yX20_says, cX20_says, 1, (Option.some Jvm.ClassFile.FieldType.int), 20, 1, []),
  (yX20_clauseBy, cX20_clauseBy, 4, (Option.some Jvm.ClassFile.FieldType.int), 20, 2, []),
  (yX20_lossOf, cX20_lossOf, 2, (Option.some Jvm.ClassFile.FieldType.int), 20, 2, []),
  (yX20_isSo, cX20_isSo, 9, (Option.some Jvm.ClassFile.FieldType.boolean), 20, 4, []),
  (yX20_lie, cX20_lie, 1, (Option.some Jvm.ClassFile.FieldType.int), 20, 1, []),
  (yX20_lies, cX20_lies, 5, (none : Option FieldType), 20, 1, []),
  (yX20_would, cX20_would, 4, (Option.some Jvm.ClassFile.FieldType.int), 20, 2, []),
  (yX20_lends, cX20_lends, 4, (none : Option FieldType), 20, 3, []),
  (yX20_lasts, cX20_lasts, 4, (Option.some Jvm.ClassFile.FieldType.int), 20, 2, []),
  (yX20_best, cX20_best, 3, (Option.some Jvm.ClassFile.FieldType.int), 20, 3, []),
  (yX20_findBest, cX20_findBest, 7, (Option.some Jvm.ClassFile.FieldType.boolean), 20, 2, []),
  (yX20_goesBy, cX20_goesBy, 6, (Option.some Jvm.ClassFile.FieldType.int), 20, 3, []),
  (yX20_later, cX20_later, 6, (Option.some Jvm.ClassFile.FieldType.int), 20, 3, [])]
def mx_mi5 : List mx_M := [(yX20_scale, cX20_scale, 2, (Option.some Jvm.ClassFile.FieldType.int), 20, 2, []),
  (yX20_seed, cX20_seed, 3, (Option.some Jvm.ClassFile.FieldType.int), 20, 2, []),
  (yX20_other, cX20_other, 3, (Option.some Jvm.ClassFile.FieldType.int), 20, 3, []),
  (yX20_lighter, cX20_lighter, 1, (Option.some Jvm.ClassFile.FieldType.int), 20, 1, []),
  (yX20_lighterThan, cX20_lighterThan, 5, (Option.some Jvm.ClassFile.FieldType.int), 20, 2, []),
  (yX20_least, cX20_least, 3, (Option.some Jvm.ClassFile.FieldType.int), 20, 2, []),
  (yX20_prove, cX20_prove, 2, (Option.some Jvm.ClassFile.FieldType.int), 20, 1, []),
  (yX20_findRows, cX20_findRows, 1, (none : Option FieldType), 20, 1, []),
  (yX20_row, cX20_row, 3, (Option.some Jvm.ClassFile.FieldType.int), 20, 3, []),
  (yX20_isRow, cX20_isRow, 3, (Option.some Jvm.ClassFile.FieldType.boolean), 20, 3, []),
  (yX20_alterRow, cX20_alterRow, 5, (Option.some Jvm.ClassFile.FieldType.int), 20, 4, []),
  (yX20_judge, cX20_judge, 4, (Option.some Jvm.ClassFile.FieldType.int), 20, 1, []),
  (yX20_outs, cX20_outs, 9, (Option.some Jvm.ClassFile.FieldType.int), 20, 5, []),
  (yX20_isShelf, cX20_isShelf, 1, (Option.some Jvm.ClassFile.FieldType.boolean), 20, 1, []),
  (yX20_lacksSort, cX20_lacksSort, 3, (Option.some Jvm.ClassFile.FieldType.int), 20, 3, []),
  (yX20_sheet, cX20_sheet, 5, (Option.some Jvm.ClassFile.FieldType.int), 20, 4, []),
  (yX20_put, cX20_put, 4, (Option.some Jvm.ClassFile.FieldType.int), 20, 4, []),
  (yX20_item, cX20_item, 5, (Option.some Jvm.ClassFile.FieldType.int), 20, 4, []),
  (yX20_shelf, cX20_shelf, 4, (Option.some Jvm.ClassFile.FieldType.int), 20, 4, []),
  (yX20_isHeld, cX20_isHeld, 3, (Option.some Jvm.ClassFile.FieldType.boolean), 20, 3, []),
  (yX20_taken, cX20_taken, 4, (Option.some Jvm.ClassFile.FieldType.int), 20, 3, []),
  (yX20_kindOn, cX20_kindOn, 2, (Option.some Jvm.ClassFile.FieldType.int), 20, 2, []),
  (yX20_isUnder, cX20_isUnder, 2, (Option.some Jvm.ClassFile.FieldType.boolean), 20, 2, []),
  (yX20_act, cX20_act, 6, (Option.some Jvm.ClassFile.FieldType.int), 20, 4, []),
  (yX20_spendsIt, cX20_spendsIt, 2, (Option.some Jvm.ClassFile.FieldType.int), 20, 2, []),
  (yX20_mildSpends, cX20_mildSpends, 2, (Option.some Jvm.ClassFile.FieldType.int), 20, 2, []),
  (yX20_ran, cX20_ran, 2, (none : Option FieldType), 20, 2, []),
  (yX20_plainSpends, cX20_plainSpends, 2, (Option.some Jvm.ClassFile.FieldType.int), 20, 2, []),
  (yX20_parchesIt, cX20_parchesIt, 3, (Option.some Jvm.ClassFile.FieldType.int), 20, 2, []),
  (yX20_plainParches, cX20_plainParches, 2, (Option.some Jvm.ClassFile.FieldType.int), 20, 2, []),
  (yX20_sharesIt, cX20_sharesIt, 3, (Option.some Jvm.ClassFile.FieldType.int), 20, 2, []),
  (yX20_plainShares, cX20_plainShares, 2, (Option.some Jvm.ClassFile.FieldType.int), 20, 2, []),
  (yX20_tellsIt, cX20_tellsIt, 3, (Option.some Jvm.ClassFile.FieldType.int), 20, 2, []),
  (yX20_plainTells, cX20_plainTells, 2, (Option.some Jvm.ClassFile.FieldType.int), 20, 2, []),
  (yX20_trace, cX20_trace, 2, (Option.some Jvm.ClassFile.FieldType.int), 20, 2, []),
  (yX20_many, cX20_many, 2, (Option.some Jvm.ClassFile.FieldType.int), 20, 2, []),
  (yX20_keep, cX20_keep, 1, (Option.some Jvm.ClassFile.FieldType.int), 20, 1, []),
  (yX20_moveAll, cX20_moveAll, 2, (none : Option FieldType), 20, 2, []),
  (yX20_moveRow, cX20_moveRow, 5, (none : Option FieldType), 20, 4, []),
  (yX20_again, cX20_again, 1, (Option.some Jvm.ClassFile.FieldType.int), 20, 1, [])]
def mx_mi6 : List mx_M := [(yX21_init, cX21_init, 1, (none : Option FieldType), 21, 1, []),
  (yX22_init, cX22_init, 4, (none : Option FieldType), 22, 4, []),
  (yX22_holds, cX22_holds, 4, (Option.some Jvm.ClassFile.FieldType.boolean), 22, 2, []),
  (yX22_worth, cX22_worth, 2, (Option.some Jvm.ClassFile.FieldType.int), 22, 2, []),
  (yX23_init, cX23_init, 2, (none : Option FieldType), 23, 2, []),
  (yX23_holds, cX23_holds, 2, (Option.some Jvm.ClassFile.FieldType.boolean), 23, 2, []),
  (yX24_init, cX24_init, 3, (none : Option FieldType), 24, 3, []),
  (yX25_init, cX25_init, 3, (none : Option FieldType), 25, 3, []),
  (yX25_holds, cX25_holds, 2, (Option.some Jvm.ClassFile.FieldType.boolean), 25, 2, []),
  (yX26_init, cX26_init, 3, (none : Option FieldType), 26, 3, []),
  (yX26_holds, cX26_holds, 2, (Option.some Jvm.ClassFile.FieldType.boolean), 26, 2, []),
  (yX27_init, cX27_init, 1, (none : Option FieldType), 27, 1, []),
  (yX28_init, cX28_init, 4, (none : Option FieldType), 28, 4, []),
  (yX28_its, cX28_its, 1, (Option.some Jvm.ClassFile.FieldType.int), 28, 1, []),
  (yX28_spends, cX28_spends, 2, (Option.some Jvm.ClassFile.FieldType.int), 28, 2, []),
  (yX28_parches, cX28_parches, 2, (Option.some Jvm.ClassFile.FieldType.int), 28, 2, []),
  (yX28_shares, cX28_shares, 2, (Option.some Jvm.ClassFile.FieldType.int), 28, 2, []),
  (yX28_tells, cX28_tells, 2, (Option.some Jvm.ClassFile.FieldType.int), 28, 2, []),
  (yX29_init, cX29_init, 4, (none : Option FieldType), 29, 4, []),
  (yX29_spends, cX29_spends, 2, (Option.some Jvm.ClassFile.FieldType.int), 29, 2, []),
  (yX29_tells, cX29_tells, 3, (Option.some Jvm.ClassFile.FieldType.int), 29, 2, []),
  (yX30_init, cX30_init, 4, (none : Option FieldType), 30, 4, []),
  (yX30_spends, cX30_spends, 2, (Option.some Jvm.ClassFile.FieldType.int), 30, 2, []),
  (yX30_parches, cX30_parches, 3, (Option.some Jvm.ClassFile.FieldType.int), 30, 2, []),
  (yX31_init, cX31_init, 4, (none : Option FieldType), 31, 4, []),
  (yX31_parches, cX31_parches, 2, (Option.some Jvm.ClassFile.FieldType.int), 31, 2, []),
  (yX32_init, cX32_init, 4, (none : Option FieldType), 32, 4, []),
  (yX32_shares, cX32_shares, 3, (Option.some Jvm.ClassFile.FieldType.int), 32, 2, []),
  (yX32_tells, cX32_tells, 2, (Option.some Jvm.ClassFile.FieldType.int), 32, 2, []),
  (yX33_init, cX33_init, 4, (none : Option FieldType), 33, 4, []),
  (yX33_spends, cX33_spends, 2, (Option.some Jvm.ClassFile.FieldType.int), 33, 2, []),
  (yX33_shares, cX33_shares, 2, (Option.some Jvm.ClassFile.FieldType.int), 33, 2, []),
  (yX34_parches, cX34_parches, 2, (Option.some Jvm.ClassFile.FieldType.int), 34, 2, []),
  (x, code, 4, (Option.some Jvm.ClassFile.FieldType.boolean), 37, 1, [])]
def mx_mi (y : Nat) : Option mx_M := match y / 40 with
  | 0 => mx_mi0[y % 40]?
  | 1 => mx_mi1[y % 40]?
  | 2 => mx_mi2[y % 40]?
  | 3 => mx_mi3[y % 40]?
  | 4 => mx_mi4[y % 40]?
  | 5 => mx_mi5[y % 40]?
  | 6 => mx_mi6[y % 40]?
  | _ => none
def mx_ln : Instr → Nat
  | .bipush _ => 2
  | .ldc _ => 2
  | .newarray _ => 2
  | .iload _ => 2
  | .lload _ => 2
  | .aload _ => 2
  | .istore _ => 2
  | .lstore _ => 2
  | .astore _ => 2
  | .sipush _ => 3
  | .ldc_w _ => 3
  | .ldc2_w _ => 3
  | .iinc _ _ => 3
  | .ifCond _ _ => 3
  | .if_icmp _ _ => 3
  | .ifnonnull _ => 3
  | .goto _ => 3
  | .getfield _ => 3
  | .putfield _ => 3
  | .invokevirtual _ => 3
  | .invokespecial _ => 3
  | .invokestatic _ => 3
  | .invokeinterface _ _ => 5
  | .new _ => 3
  | .anewarray _ => 3
  | .checkcast _ => 3
  | .instanceof _ => 3
  | _ => 1
/-- an instruction as it stands in javac's code: its length, its ways within the code -/
def mx_okl (pc : Nat) (i : Instr) (n : Nat) : Bool := match i with
  | .tableswitch df lo hi offs => decide ((offs.size : Int) = hi - lo + 1) && decide (-2147483648 ≤ lo) && decide (hi ≤ 2147483647) && decide (0 ≤ (pc : Int) + df) && offs.toList.all (fun o => decide (0 ≤ (pc : Int) + o))
  | .lookupswitch df ps => (ps.toList.zip (ps.toList.drop 1)).all (fun (a, next) => a.1 < next.1) && decide (0 ≤ (pc : Int) + df) && ps.toList.all (fun o => decide (0 ≤ (pc : Int) + o.2) && decide (-2147483648 ≤ o.1) && decide (o.1 ≤ 2147483647))
  | .ifCond _ off => n == 3 && decide (0 ≤ (pc : Int) + off)
  | .if_icmp _ off => n == 3 && decide (0 ≤ (pc : Int) + off)
  | .ifnonnull off => n == 3 && decide (0 ≤ (pc : Int) + off)
  | .goto off => n == 3 && decide (0 ≤ (pc : Int) + off)
  | i => n == mx_ln i
def mx_ins (y pc : Nat) : Option (Instr × Nat) := match mx_mi y with
  | some e => (match decode e.2.1 pc with
    | .ok r => if mx_okl pc r.1 r.2 then some r else none
    | .error _ => none)
  | none => none
theorem mx_ins_of {y pc : Nat} {e : mx_M} {r : Instr × Nat} (h : mx_mi y = some e) (d : decode e.2.1 pc = .ok r) (k : mx_okl pc r.1 r.2 = true) : mx_ins y pc = some r := by
  unfold mx_ins
  rw [h]
  dsimp only
  rw [d]
  dsimp only
  rw [if_pos k]
/-- fields: (class of the code, its entry, class of the object) -> place -/
def mx_fldT : List ((Nat × Nat × Nat) × Nat) := [((0, 22, 0), 0), ((0, 26, 0), 1), ((0, 29, 0), 2), ((0, 35, 0), 3), ((0, 39, 0), 4), ((0, 64, 0), 6), ((0, 68, 0), 7), ((0, 77, 0), 9), ((0, 81, 0), 10), ((0, 88, 0), 11), ((0, 94, 0), 15), ((0, 101, 0), 17), ((0, 108, 0), 18), ((0, 115, 0), 19), ((0, 122, 0), 20), ((0, 129, 0), 21), ((0, 133, 0), 22), ((0, 139, 0), 24), ((0, 155, 2), 6), ((0, 159, 2), 5), ((0, 166, 2), 1), ((0, 176, 2), 2), ((0, 179, 1), 4), ((0, 189, 2), 4), ((0, 199, 0), 8), ((0, 208, 11), 6), ((0, 212, 1), 0), ((0, 220, 1), 3), ((0, 232, 1), 5), ((0, 238, 1), 10), ((0, 241, 2), 0), ((0, 244, 2), 3), ((0, 269, 1), 9), ((0, 286, 13), 0), ((0, 286, 14), 0), ((0, 286, 15), 0), ((0, 292, 0), 14), ((0, 295, 0), 13), ((0, 298, 0), 12), ((0, 305, 1), 2), ((0, 309, 1), 1), ((0, 310, 1), 6), ((0, 312, 1), 7), ((0, 318, 0), 16), ((0, 324, 27), 0), ((0, 328, 13), 0), ((0, 328, 14), 0), ((0, 328, 15), 0), ((0, 329, 15), 2), ((0, 333, 13), 0), ((0, 333, 14), 0), ((0, 333, 15), 0), ((0, 397, 0), 23), ((0, 400, 19), 0), ((0, 403, 19), 1), ((0, 410, 19), 2), ((0, 469, 0), 5), ((1, 9, 1), 2), ((1, 15, 1), 3), ((1, 19, 1), 4), ((1, 22, 1), 5), ((1, 25, 1), 6), ((1, 28, 1), 7), ((1, 31, 1), 8), ((1, 36, 1), 9), ((1, 43, 1), 10), ((1, 53, 1), 0), ((1, 60, 1), 1), ((2, 9, 2), 0), ((2, 15, 2), 1), ((2, 18, 2), 2), ((2, 21, 2), 3), ((2, 24, 2), 5), ((2, 27, 2), 4), ((2, 30, 2), 6), ((3, 1, 4), 0), ((3, 1, 5), 0), ((3, 1, 6), 0), ((3, 1, 7), 0), ((3, 1, 8), 0), ((3, 1, 9), 0), ((4, 3, 4), 1), ((4, 3, 5), 1), ((4, 3, 6), 1), ((4, 3, 7), 1), ((4, 3, 8), 1), ((4, 3, 9), 1), ((4, 21, 0), 0), ((5, 1, 5), 2), ((5, 1, 8), 2), ((6, 1, 6), 2), ((6, 1, 7), 2), ((7, 1, 7), 3), ((8, 1, 8), 3), ((9, 1, 9), 2), ((10, 23, 10), 0), ((10, 37, 10), 1), ((10, 43, 10), 3), ((10, 47, 10), 4), ((10, 51, 10), 7), ((10, 55, 10), 6), ((10, 58, 10), 5), ((10, 62, 10), 8), ((10, 116, 10), 2), ((10, 162, 1), 0), ((10, 169, 1), 8), ((10, 172, 1), 9), ((11, 7, 11), 6), ((12, 3, 13), 1), ((12, 3, 14), 1), ((12, 3, 15), 1), ((12, 21, 13), 0), ((12, 21, 14), 0), ((12, 21, 15), 0), ((12, 25, 2), 6), ((12, 36, 0), 0), ((12, 40, 1), 8), ((12, 46, 2), 5), ((13, 1, 13), 2), ((14, 1, 14), 2), ((14, 13, 13), 0), ((14, 13, 14), 0), ((14, 13, 15), 0), ((14, 23, 27), 0), ((14, 29, 2), 5), ((15, 3, 15), 3), ((15, 15, 13), 0), ((15, 15, 14), 0), ((15, 15, 15), 0), ((15, 19, 0), 16), ((15, 22, 0), 15), ((15, 26, 27), 0), ((15, 32, 2), 5), ((15, 41, 15), 2), ((16, 7, 16), 4), ((16, 13, 16), 0), ((16, 17, 16), 1), ((16, 21, 16), 2), ((16, 25, 16), 3), ((19, 7, 19), 0), ((20, 7, 20), 0), ((20, 13, 20), 2), ((20, 16, 20), 3), ((20, 19, 20), 4), ((20, 22, 20), 5), ((20, 25, 20), 6), ((20, 28, 20), 7), ((20, 31, 20), 8), ((20, 34, 20), 10), ((20, 37, 20), 12), ((20, 40, 20), 13), ((20, 43, 20), 14), ((20, 47, 20), 15), ((20, 50, 20), 23), ((20, 53, 20), 24), ((20, 56, 20), 25), ((20, 59, 20), 29), ((20, 63, 20), 30), ((20, 66, 20), 31), ((20, 69, 20), 36), ((20, 72, 20), 38), ((20, 75, 20), 39), ((20, 78, 20), 40), ((20, 82, 20), 41), ((20, 85, 20), 42), ((20, 88, 20), 43), ((20, 91, 20), 47), ((20, 94, 20), 51), ((20, 97, 20), 53), ((20, 104, 20), 1), ((20, 107, 20), 16), ((20, 112, 20), 19), ((20, 115, 20), 18), ((20, 129, 20), 17), ((20, 132, 20), 20), ((20, 136, 20), 21), ((20, 161, 20), 26), ((20, 164, 20), 27), ((20, 178, 20), 22), ((20, 195, 20), 28), ((20, 235, 20), 11), ((20, 289, 20), 32), ((20, 302, 20), 33), ((20, 305, 20), 34), ((20, 308, 20), 35), ((20, 315, 20), 9), ((20, 324, 20), 37), ((20, 350, 20), 48), ((20, 356, 20), 45), ((20, 362, 20), 44), ((20, 374, 20), 46), ((20, 377, 20), 49), ((20, 395, 20), 52), ((20, 406, 20), 50), ((22, 7, 22), 0), ((22, 13, 22), 1), ((22, 16, 22), 2), ((23, 7, 23), 0), ((24, 7, 25), 0), ((24, 7, 26), 0), ((24, 13, 25), 1), ((24, 13, 26), 1), ((25, 7, 25), 0), ((25, 7, 26), 0), ((25, 19, 25), 1), ((25, 19, 26), 1), ((26, 7, 25), 0), ((26, 7, 26), 0), ((26, 19, 25), 1), ((26, 19, 26), 1), ((27, 7, 27), 0), ((28, 1, 28), 2), ((28, 1, 29), 2), ((28, 1, 30), 2), ((28, 1, 31), 2), ((28, 1, 32), 2), ((28, 1, 33), 2), ((28, 13, 28), 0), ((28, 13, 29), 0), ((28, 13, 30), 0), ((28, 13, 31), 0), ((28, 13, 32), 0), ((28, 13, 33), 0), ((28, 17, 28), 1), ((28, 17, 29), 1), ((28, 17, 30), 1), ((28, 17, 31), 1), ((28, 17, 32), 1), ((28, 17, 33), 1), ((29, 1, 29), 3), ((29, 1, 30), 3), ((29, 26, 28), 0), ((29, 26, 29), 0), ((29, 26, 30), 0), ((29, 26, 31), 0), ((29, 26, 32), 0), ((29, 26, 33), 0), ((30, 1, 30), 4), ((30, 26, 28), 0), ((30, 26, 29), 0), ((30, 26, 30), 0), ((30, 26, 31), 0), ((30, 26, 32), 0), ((30, 26, 33), 0), ((31, 1, 31), 3), ((31, 1, 33), 3), ((31, 23, 28), 1), ((31, 23, 29), 1), ((31, 23, 30), 1), ((31, 23, 31), 1), ((31, 23, 32), 1), ((31, 23, 33), 1), ((32, 1, 32), 3), ((32, 26, 28), 1), ((32, 26, 29), 1), ((32, 26, 30), 1), ((32, 26, 31), 1), ((32, 26, 32), 1), ((32, 26, 33), 1), ((33, 1, 33), 4), ((33, 26, 28), 0), ((33, 26, 29), 0), ((33, 26, 30), 0), ((33, 26, 31), 0), ((33, 26, 32), 0), ((33, 26, 33), 0)]
def mx_fld (o i c : Nat) : Option Nat := mx_fldT.lookup (o, i, c)
def mx_tyL : List FieldType := [.int, .byte, .short, .long, .boolean, (.object "ColdBox$Cond"), (.object "ColdBox$Nature"), (.object "java/lang/String"), (.object "ColdBox$Row"), (.object "ColdBox$Sheet"), (.object "ColdBox$Shelf")]
/-- calls: how many arguments (the receiver among them), whether the receiver's class is of no weight -/
def mx_inaT : List ((Nat × Nat) × (Nat × Bool × Nat)) := [((0, 13), (1, true, 1)), ((0, 21), (1, false, 1)), ((0, 34), (1, false, 1)), ((0, 46), (2, false, 1)), ((0, 51), (2, false, 1)), ((0, 54), (2, false, 1)), ((0, 57), (2, false, 1)), ((0, 60), (2, false, 1)), ((0, 63), (2, false, 1)), ((0, 74), (2, false, 1)), ((0, 87), (2, false, 1)), ((0, 100), (2, false, 1)), ((0, 107), (2, false, 1)), ((0, 114), (1, false, 1)), ((0, 121), (1, false, 1)), ((0, 128), (1, false, 1)), ((0, 138), (1, false, 1)), ((0, 143), (3, true, 0)), ((0, 147), (3, false, 2)), ((0, 151), (1, false, 2)), ((0, 162), (3, false, 2)), ((0, 169), (3, false, 2)), ((0, 172), (3, false, 2)), ((0, 182), (2, false, 2)), ((0, 186), (2, true, 0)), ((0, 192), (1, false, 2)), ((0, 196), (2, true, 0)), ((0, 202), (3, false, 2)), ((0, 209), (2, false, 2)), ((0, 215), (1, true, 0)), ((0, 223), (1, true, 0)), ((0, 226), (1, true, 0)), ((0, 229), (1, true, 0)), ((0, 235), (2, false, 2)), ((0, 247), (3, false, 2)), ((0, 251), (2, false, 2)), ((0, 256), (1, false, 2)), ((0, 259), (2, true, 0)), ((0, 262), (2, false, 2)), ((0, 266), (2, true, 0)), ((0, 273), (2, false, 2)), ((0, 279), (3, false, 2)), ((0, 282), (2, false, 2)), ((0, 289), (2, false, 2)), ((0, 301), (3, false, 2)), ((0, 314), (2, false, 2)), ((0, 317), (1, false, 1)), ((0, 321), (3, false, 2)), ((0, 327), (2, false, 2)), ((0, 332), (2, false, 2)), ((0, 336), (3, false, 2)), ((0, 339), (1, true, 0)), ((0, 342), (1, false, 2)), ((0, 346), (2, false, 2)), ((0, 350), (1, true, 0)), ((0, 354), (5, false, 2)), ((0, 364), (3, false, 2)), ((0, 369), (1, true, 0)), ((0, 373), (4, false, 2)), ((0, 377), (3, false, 2)), ((0, 381), (3, false, 2)), ((0, 385), (3, false, 2)), ((0, 389), (3, false, 2)), ((0, 393), (4, false, 2)), ((0, 406), (3, false, 2)), ((0, 413), (1, true, 0)), ((0, 418), (1, false, 2)), ((0, 423), (1, false, 2)), ((0, 426), (1, false, 2)), ((0, 429), (1, false, 2)), ((0, 432), (1, false, 2)), ((0, 435), (1, false, 2)), ((0, 436), (2, true, 0)), ((0, 440), (2, false, 2)), ((0, 444), (2, true, 0)), ((0, 447), (2, false, 3)), ((0, 452), (2, false, 3)), ((0, 455), (2, false, 3)), ((0, 458), (2, false, 3)), ((0, 461), (3, true, 0)), ((0, 467), (2, false, 2)), ((1, 3), (1, true, 1)), ((1, 42), (1, false, 1)), ((1, 47), (5, true, 0)), ((1, 56), (2, true, 0)), ((1, 63), (2, false, 2)), ((1, 67), (2, false, 2)), ((1, 71), (3, false, 2)), ((2, 3), (1, true, 1)), ((3, 7), (1, true, 1)), ((4, 9), (2, false, 1)), ((4, 15), (1, false, 2)), ((4, 25), (2, false, 2)), ((4, 33), (4, false, 1)), ((5, 7), (2, false, 1)), ((5, 13), (3, false, 1)), ((5, 17), (2, false, 1)), ((5, 23), (4, false, 1)), ((6, 7), (2, false, 1)), ((6, 13), (3, false, 1)), ((6, 17), (2, false, 1)), ((6, 23), (4, false, 1)), ((7, 7), (2, false, 1)), ((7, 13), (3, false, 1)), ((7, 17), (2, false, 1)), ((7, 23), (4, false, 1)), ((8, 7), (2, false, 1)), ((8, 13), (2, false, 1)), ((8, 17), (1, false, 1)), ((8, 23), (4, false, 1)), ((9, 7), (2, false, 1)), ((9, 13), (2, false, 1)), ((9, 19), (4, false, 1)), ((10, 3), (1, true, 1)), ((10, 42), (1, false, 1)), ((10, 65), (1, false, 2)), ((10, 69), (1, true, 0)), ((10, 73), (1, true, 0)), ((10, 76), (2, false, 2)), ((10, 80), (1, true, 2)), ((10, 83), (2, true, 2)), ((10, 87), (2, false, 2)), ((10, 91), (1, false, 2)), ((10, 94), (2, false, 2)), ((10, 98), (3, true, 0)), ((10, 102), (3, false, 2)), ((10, 106), (3, false, 2)), ((10, 111), (2, false, 2)), ((10, 119), (1, false, 2)), ((10, 125), (2, false, 2)), ((10, 129), (1, false, 2)), ((10, 134), (4, false, 1)), ((10, 139), (2, false, 1)), ((10, 142), (1, false, 2)), ((10, 149), (3, false, 1)), ((10, 152), (1, false, 2)), ((10, 159), (3, false, 1)), ((10, 178), (3, false, 2)), ((10, 182), (1, false, 2)), ((11, 1), (5, true, 1)), ((12, 9), (1, true, 1)), ((12, 15), (1, false, 2)), ((12, 28), (1, false, 2)), ((12, 32), (3, false, 2)), ((12, 49), (3, false, 2)), ((12, 53), (2, false, 2)), ((12, 57), (3, false, 2)), ((13, 7), (2, false, 1)), ((14, 7), (2, false, 1)), ((14, 17), (2, false, 2)), ((14, 34), (1, false, 2)), ((15, 9), (2, false, 1)), ((15, 37), (1, false, 2)), ((16, 1), (1, true, 1)), ((17, 1), (5, true, 1)), ((18, 1), (5, true, 1)), ((19, 1), (1, true, 1)), ((20, 1), (1, true, 1)), ((20, 100), (3, true, 0)), ((20, 118), (2, false, 2)), ((20, 122), (1, true, 0)), ((20, 126), (1, true, 0)), ((20, 147), (2, false, 2)), ((20, 167), (2, false, 2)), ((20, 170), (2, false, 2)), ((20, 174), (1, false, 2)), ((20, 182), (1, false, 2)), ((20, 185), (1, false, 2)), ((20, 188), (2, false, 2)), ((20, 192), (2, false, 2)), ((20, 198), (2, false, 2)), ((20, 202), (1, false, 2)), ((20, 217), (1, false, 2)), ((20, 228), (4, false, 2)), ((20, 232), (2, false, 2)), ((20, 238), (1, true, 0)), ((20, 242), (3, false, 2)), ((20, 246), (1, true, 0)), ((20, 249), (3, false, 2)), ((20, 252), (2, false, 2)), ((20, 255), (2, false, 2)), ((20, 260), (1, false, 2)), ((20, 263), (1, false, 2)), ((20, 267), (2, true, 0)), ((20, 270), (3, false, 2)), ((20, 273), (3, false, 2)), ((20, 276), (1, false, 2)), ((20, 279), (2, true, 0)), ((20, 282), (4, false, 2)), ((20, 286), (2, false, 2)), ((20, 292), (1, false, 2)), ((20, 295), (3, false, 2)), ((20, 299), (3, false, 2)), ((20, 311), (2, false, 2)), ((20, 318), (2, false, 2)), ((20, 321), (1, false, 2)), ((20, 327), (3, false, 2)), ((20, 331), (1, true, 0)), ((20, 334), (3, false, 2)), ((20, 341), (3, false, 2)), ((20, 344), (2, false, 2)), ((20, 347), (2, true, 0)), ((20, 353), (2, false, 2)), ((20, 359), (2, false, 2)), ((20, 365), (2, false, 2)), ((20, 368), (2, false, 2)), ((20, 371), (2, false, 2)), ((20, 380), (2, false, 2)), ((20, 383), (2, false, 2)), ((20, 386), (2, false, 2)), ((20, 389), (2, false, 2)), ((20, 392), (2, false, 2)), ((20, 398), (4, false, 2)), ((20, 402), (2, false, 2)), ((21, 1), (1, true, 1)), ((22, 1), (1, false, 1)), ((22, 19), (2, true, 0)), ((23, 1), (1, false, 1)), ((23, 13), (2, false, 2)), ((24, 1), (1, false, 1)), ((25, 1), (3, false, 1)), ((25, 13), (2, false, 2)), ((26, 1), (3, false, 1)), ((26, 13), (2, false, 2)), ((27, 1), (1, true, 1)), ((28, 7), (1, true, 1)), ((28, 20), (2, false, 2)), ((28, 26), (2, false, 1)), ((28, 32), (2, false, 2)), ((29, 7), (4, false, 1)), ((29, 13), (2, false, 2)), ((29, 19), (2, false, 1)), ((29, 23), (2, false, 1)), ((29, 30), (2, false, 2)), ((30, 7), (4, false, 1)), ((30, 13), (2, false, 2)), ((30, 19), (2, false, 1)), ((30, 23), (2, false, 1)), ((30, 30), (2, false, 2)), ((31, 7), (4, false, 1)), ((31, 13), (2, false, 2)), ((31, 19), (2, false, 1)), ((32, 7), (4, false, 1)), ((32, 13), (2, false, 2)), ((32, 19), (2, false, 1)), ((32, 23), (2, false, 1)), ((32, 30), (2, false, 2)), ((33, 7), (4, false, 1)), ((33, 13), (2, false, 2)), ((33, 19), (2, false, 1)), ((33, 23), (2, false, 1)), ((34, 1), (2, false, 3)), ((37, 9), (1, false, 1)), ((37, 12), (1, false, 1)), ((37, 15), (3, false, 2)), ((37, 19), (3, false, 2)), ((37, 20), (1, false, 2)), ((37, 24), (1, false, 2)), ((37, 25), (3, false, 2)), ((37, 29), (3, false, 2)), ((37, 30), (3, false, 2)), ((37, 33), (3, false, 2)), ((37, 34), (4, false, 2)), ((37, 38), (4, false, 2)), ((37, 39), (3, false, 2)), ((37, 42), (3, false, 2)), ((37, 43), (2, false, 2)), ((37, 47), (2, false, 2)), ((37, 48), (3, false, 2)), ((37, 51), (3, false, 2)), ((37, 52), (2, false, 2)), ((37, 55), (2, false, 2)), ((37, 56), (3, false, 2)), ((37, 59), (3, false, 2)), ((37, 60), (3, false, 2)), ((37, 63), (3, false, 2)), ((37, 64), (2, false, 2)), ((37, 67), (2, false, 2)), ((37, 68), (2, false, 2)), ((37, 71), (2, false, 2)), ((37, 72), (1, false, 2)), ((37, 75), (1, false, 2)), ((37, 76), (1, false, 2)), ((37, 79), (1, false, 2)), ((37, 80), (2, false, 2)), ((37, 83), (2, false, 2)), ((37, 84), (2, false, 2)), ((37, 87), (2, false, 2)), ((37, 88), (3, false, 2)), ((37, 91), (3, false, 2)), ((37, 92), (3, false, 2)), ((37, 95), (3, false, 2)), ((37, 96), (2, false, 2)), ((37, 99), (2, false, 2)), ((37, 100), (2, false, 2)), ((37, 103), (2, false, 2)), ((37, 104), (3, false, 2)), ((37, 107), (3, false, 2)), ((37, 108), (1, false, 2)), ((37, 111), (1, false, 2)), ((37, 112), (2, false, 2)), ((37, 115), (2, false, 2)), ((37, 116), (1, false, 2)), ((37, 119), (1, false, 2)), ((37, 120), (3, false, 2)), ((37, 123), (3, false, 2)), ((37, 124), (4, false, 2)), ((37, 127), (4, false, 2)), ((37, 128), (1, false, 2)), ((37, 131), (1, false, 2)), ((37, 132), (5, false, 2)), ((37, 136), (5, false, 2)), ((37, 137), (4, false, 2)), ((37, 140), (4, false, 2)), ((37, 141), (4, false, 2)), ((37, 144), (4, false, 2)), ((37, 145), (4, false, 2)), ((37, 148), (4, false, 2)), ((37, 149), (4, false, 2)), ((37, 152), (4, false, 2)), ((37, 153), (3, false, 2)), ((37, 156), (3, false, 2)), ((37, 157), (4, false, 2)), ((37, 160), (4, false, 2)), ((37, 161), (2, false, 2)), ((37, 164), (2, false, 2)), ((37, 165), (2, false, 2)), ((37, 168), (2, false, 2)), ((37, 169), (1, false, 2)), ((37, 172), (1, false, 2)), ((37, 173), (1, false, 2)), ((37, 176), (1, false, 2))]
def mx_ina (o i : Nat) : Option (Nat × Bool × Nat) := mx_inaT.lookup (o, i)
/-- calls: (class of the code, its entry, class of the receiver) -> (kind of the call, method) -/
def mx_invT : List ((Nat × Nat × Nat) × (Nat × Nat)) := [((0, 13, 0), (20, 0)), ((0, 21, 1), (1, 74)), ((0, 34, 2), (2, 81)), ((0, 46, 4), (2, 87)), ((0, 46, 5), (2, 87)), ((0, 46, 6), (2, 87)), ((0, 46, 7), (2, 87)), ((0, 46, 8), (2, 87)), ((0, 46, 9), (2, 87)), ((0, 51, 5), (2, 91)), ((0, 51, 8), (2, 91)), ((0, 54, 6), (2, 95)), ((0, 54, 7), (2, 95)), ((0, 57, 7), (2, 99)), ((0, 60, 8), (2, 103)), ((0, 63, 9), (2, 107)), ((0, 74, 10), (1, 110)), ((0, 87, 13), (2, 132)), ((0, 100, 14), (2, 134)), ((0, 107, 15), (2, 136)), ((0, 114, 16), (2, 138)), ((0, 121, 17), (1, 141)), ((0, 128, 18), (1, 142)), ((0, 138, 19), (2, 143)), ((0, 143, 0), (0, 2)), ((0, 147, 1), (3, 78)), ((0, 151, 2), (3, 83)), ((0, 162, 0), (3, 19)), ((0, 169, 1), (3, 77)), ((0, 172, 4), (4, 88)), ((0, 172, 5), (4, 92)), ((0, 172, 6), (4, 96)), ((0, 172, 7), (4, 100)), ((0, 172, 8), (4, 92)), ((0, 172, 9), (4, 88)), ((0, 182, 4), (4, 89)), ((0, 182, 5), (4, 93)), ((0, 182, 6), (4, 97)), ((0, 182, 7), (4, 101)), ((0, 182, 8), (4, 104)), ((0, 182, 9), (4, 108)), ((0, 186, 0), (21, 0)), ((0, 192, 4), (4, 86)), ((0, 192, 5), (4, 86)), ((0, 192, 6), (4, 86)), ((0, 192, 7), (4, 86)), ((0, 192, 8), (4, 105)), ((0, 192, 9), (4, 86)), ((0, 196, 0), (22, 0)), ((0, 202, 10), (3, 111)), ((0, 209, 1), (3, 75)), ((0, 215, 0), (0, 5)), ((0, 223, 0), (0, 8)), ((0, 226, 0), (0, 10)), ((0, 229, 0), (0, 11)), ((0, 235, 1), (3, 79)), ((0, 247, 0), (3, 14)), ((0, 251, 0), (3, 15)), ((0, 256, 2), (3, 82)), ((0, 259, 0), (0, 17)), ((0, 262, 0), (3, 22)), ((0, 266, 0), (0, 26)), ((0, 273, 22), (4, 242)), ((0, 273, 23), (4, 245)), ((0, 273, 25), (4, 248)), ((0, 273, 26), (4, 250)), ((0, 279, 0), (3, 25)), ((0, 282, 13), (4, 131)), ((0, 289, 2), (3, 84)), ((0, 301, 0), (3, 32)), ((0, 314, 0), (3, 38)), ((0, 317, 27), (2, 251)), ((0, 321, 0), (3, 41)), ((0, 327, 14), (4, 131)), ((0, 332, 15), (4, 131)), ((0, 336, 0), (3, 50)), ((0, 339, 0), (0, 46)), ((0, 342, 16), (3, 139)), ((0, 346, 0), (3, 47)), ((0, 350, 0), (0, 48)), ((0, 354, 0), (3, 49)), ((0, 364, 16), (3, 140)), ((0, 369, 0), (0, 54)), ((0, 373, 0), (3, 53)), ((0, 377, 0), (3, 57)), ((0, 381, 0), (3, 58)), ((0, 385, 0), (3, 59)), ((0, 389, 0), (3, 60)), ((0, 393, 0), (3, 56)), ((0, 406, 4), (4, 90)), ((0, 406, 5), (4, 94)), ((0, 406, 6), (4, 98)), ((0, 406, 7), (4, 102)), ((0, 406, 8), (4, 106)), ((0, 406, 9), (4, 109)), ((0, 413, 0), (0, 62)), ((0, 418, 28), (3, 253)), ((0, 418, 29), (4, 253)), ((0, 418, 30), (4, 253)), ((0, 418, 31), (4, 253)), ((0, 418, 32), (4, 253)), ((0, 418, 33), (4, 253)), ((0, 423, 31), (4, 253)), ((0, 423, 33), (4, 253)), ((0, 426, 29), (4, 253)), ((0, 426, 30), (4, 253)), ((0, 429, 30), (4, 253)), ((0, 432, 33), (4, 253)), ((0, 435, 32), (4, 253)), ((0, 436, 0), (0, 66)), ((0, 440, 0), (3, 64)), ((0, 444, 0), (0, 65)), ((0, 447, 28), (11, 254)), ((0, 447, 29), (11, 259)), ((0, 447, 30), (11, 262)), ((0, 447, 31), (11, 254)), ((0, 447, 32), (11, 254)), ((0, 447, 33), (11, 270)), ((0, 452, 28), (11, 255)), ((0, 452, 29), (11, 255)), ((0, 452, 30), (11, 263)), ((0, 452, 31), (11, 265)), ((0, 452, 32), (11, 255)), ((0, 452, 33), (11, 265)), ((0, 455, 28), (11, 256)), ((0, 455, 29), (11, 256)), ((0, 455, 30), (11, 256)), ((0, 455, 31), (11, 256)), ((0, 455, 32), (11, 267)), ((0, 455, 33), (11, 271)), ((0, 458, 28), (8, 257)), ((0, 458, 29), (8, 260)), ((0, 458, 30), (8, 260)), ((0, 458, 31), (8, 257)), ((0, 458, 32), (8, 268)), ((0, 458, 33), (8, 257)), ((0, 461, 0), (0, 68)), ((0, 467, 1), (3, 80)), ((1, 3, 0), (20, 0)), ((1, 42, 2), (2, 81)), ((1, 47, 0), (23, 0)), ((1, 56, 0), (0, 76)), ((1, 63, 1), (3, 75)), ((1, 67, 2), (3, 84)), ((1, 71, 1), (3, 77)), ((2, 3, 0), (20, 0)), ((3, 7, 0), (20, 0)), ((4, 9, 4), (2, 85)), ((4, 9, 5), (2, 85)), ((4, 9, 6), (2, 85)), ((4, 9, 7), (2, 85)), ((4, 9, 8), (2, 85)), ((4, 9, 9), (2, 85)), ((4, 15, 2), (3, 82)), ((4, 25, 1), (3, 79)), ((4, 33, 28), (1, 252)), ((4, 33, 29), (1, 252)), ((4, 33, 30), (1, 252)), ((4, 33, 31), (1, 252)), ((4, 33, 32), (1, 252)), ((4, 33, 33), (1, 252)), ((5, 7, 4), (2, 87)), ((5, 7, 5), (2, 87)), ((5, 7, 6), (2, 87)), ((5, 7, 7), (2, 87)), ((5, 7, 8), (2, 87)), ((5, 7, 9), (2, 87)), ((5, 13, 5), (7, 88)), ((5, 13, 8), (7, 88)), ((5, 17, 5), (7, 89)), ((5, 17, 8), (7, 89)), ((5, 23, 31), (1, 264)), ((5, 23, 33), (1, 264)), ((6, 7, 4), (2, 87)), ((6, 7, 5), (2, 87)), ((6, 7, 6), (2, 87)), ((6, 7, 7), (2, 87)), ((6, 7, 8), (2, 87)), ((6, 7, 9), (2, 87)), ((6, 13, 6), (7, 88)), ((6, 13, 7), (7, 88)), ((6, 17, 6), (7, 89)), ((6, 17, 7), (7, 89)), ((6, 23, 29), (1, 258)), ((6, 23, 30), (1, 258)), ((7, 7, 6), (2, 95)), ((7, 7, 7), (2, 95)), ((7, 13, 7), (7, 96)), ((7, 17, 7), (7, 97)), ((7, 23, 30), (1, 261)), ((8, 7, 5), (2, 91)), ((8, 7, 8), (2, 91)), ((8, 13, 8), (7, 93)), ((8, 17, 8), (9, 86)), ((8, 23, 33), (1, 269)), ((9, 7, 4), (2, 87)), ((9, 7, 5), (2, 87)), ((9, 7, 6), (2, 87)), ((9, 7, 7), (2, 87)), ((9, 7, 8), (2, 87)), ((9, 7, 9), (2, 87)), ((9, 13, 9), (7, 89)), ((9, 19, 32), (1, 266)), ((10, 3, 0), (20, 0)), ((10, 42, 11), (1, 128)), ((10, 65, 10), (3, 114)), ((10, 69, 0), (0, 115)), ((10, 73, 0), (0, 116)), ((10, 76, 11), (3, 129)), ((10, 80, 0), (24, 0)), ((10, 83, 0), (25, 0)), ((10, 87, 10), (3, 118)), ((10, 91, 10), (3, 113)), ((10, 94, 10), (3, 119)), ((10, 98, 0), (6, 2)), ((10, 102, 10), (3, 127)), ((10, 106, 10), (3, 126)), ((10, 111, 10), (3, 124)), ((10, 119, 10), (3, 121)), ((10, 125, 10), (3, 120)), ((10, 129, 10), (3, 125)), ((10, 134, 22), (1, 241)), ((10, 139, 23), (1, 244)), ((10, 142, 10), (3, 123)), ((10, 149, 25), (1, 247)), ((10, 152, 10), (3, 122)), ((10, 159, 26), (1, 249)), ((10, 178, 10), (3, 112)), ((10, 182, 10), (3, 117)), ((11, 1, 0), (26, 0)), ((12, 9, 0), (20, 0)), ((12, 15, 2), (3, 82)), ((12, 28, 2), (3, 83)), ((12, 32, 0), (5, 25)), ((12, 49, 1), (3, 78)), ((12, 53, 0), (5, 22)), ((12, 57, 13), (4, 133)), ((12, 57, 14), (4, 135)), ((12, 57, 15), (4, 137)), ((13, 7, 13), (2, 130)), ((13, 7, 14), (2, 130)), ((13, 7, 15), (2, 130)), ((14, 7, 13), (2, 130)), ((14, 7, 14), (2, 130)), ((14, 7, 15), (2, 130)), ((14, 17, 0), (5, 28)), ((14, 34, 2), (3, 82)), ((15, 9, 13), (2, 130)), ((15, 9, 14), (2, 130)), ((15, 9, 15), (2, 130)), ((15, 37, 2), (3, 82)), ((16, 1, 0), (20, 0)), ((17, 1, 0), (26, 0)), ((18, 1, 0), (26, 0)), ((19, 1, 0), (20, 0)), ((20, 1, 0), (20, 0)), ((20, 100, 0), (0, 146)), ((20, 118, 20), (3, 149)), ((20, 122, 0), (0, 150)), ((20, 126, 0), (0, 151)), ((20, 147, 20), (3, 154)), ((20, 167, 20), (3, 163)), ((20, 170, 20), (3, 161)), ((20, 174, 20), (3, 160)), ((20, 182, 20), (3, 148)), ((20, 185, 20), (3, 159)), ((20, 188, 20), (3, 157)), ((20, 192, 20), (3, 162)), ((20, 198, 20), (3, 156)), ((20, 202, 20), (3, 158)), ((20, 217, 20), (3, 153)), ((20, 228, 20), (3, 155)), ((20, 232, 20), (3, 152)), ((20, 238, 0), (0, 165)), ((20, 242, 20), (3, 169)), ((20, 246, 0), (0, 168)), ((20, 249, 20), (3, 170)), ((20, 252, 20), (3, 173)), ((20, 255, 20), (3, 177)), ((20, 260, 20), (3, 176)), ((20, 263, 20), (3, 178)), ((20, 267, 0), (0, 179)), ((20, 270, 20), (3, 181)), ((20, 273, 20), (3, 183)), ((20, 276, 20), (3, 185)), ((20, 279, 0), (0, 189)), ((20, 282, 20), (3, 190)), ((20, 286, 20), (3, 188)), ((20, 292, 20), (3, 192)), ((20, 295, 20), (3, 194)), ((20, 299, 20), (3, 198)), ((20, 311, 20), (3, 197)), ((20, 318, 20), (3, 204)), ((20, 321, 20), (3, 207)), ((20, 327, 20), (3, 209)), ((20, 331, 0), (0, 213)), ((20, 334, 20), (3, 214)), ((20, 341, 20), (3, 219)), ((20, 344, 20), (3, 221)), ((20, 347, 0), (0, 222)), ((20, 353, 20), (3, 226)), ((20, 359, 20), (3, 227)), ((20, 365, 20), (3, 225)), ((20, 368, 20), (3, 224)), ((20, 371, 20), (3, 229)), ((20, 380, 20), (3, 231)), ((20, 383, 20), (3, 228)), ((20, 386, 20), (3, 233)), ((20, 389, 20), (3, 230)), ((20, 392, 20), (3, 232)), ((20, 398, 20), (3, 238)), ((20, 402, 20), (3, 237)), ((21, 1, 0), (20, 0)), ((22, 1, 22), (2, 240)), ((22, 1, 23), (2, 240)), ((22, 1, 25), (2, 240)), ((22, 1, 26), (2, 240)), ((22, 19, 0), (0, 243)), ((23, 1, 22), (2, 240)), ((23, 1, 23), (2, 240)), ((23, 1, 25), (2, 240)), ((23, 1, 26), (2, 240)), ((23, 13, 22), (4, 242)), ((23, 13, 23), (4, 245)), ((23, 13, 25), (4, 248)), ((23, 13, 26), (4, 250)), ((24, 1, 22), (2, 240)), ((24, 1, 23), (2, 240)), ((24, 1, 25), (2, 240)), ((24, 1, 26), (2, 240)), ((25, 1, 25), (1, 246)), ((25, 1, 26), (1, 246)), ((25, 13, 22), (4, 242)), ((25, 13, 23), (4, 245)), ((25, 13, 25), (4, 248)), ((25, 13, 26), (4, 250)), ((26, 1, 25), (1, 246)), ((26, 1, 26), (1, 246)), ((26, 13, 22), (4, 242)), ((26, 13, 23), (4, 245)), ((26, 13, 25), (4, 248)), ((26, 13, 26), (4, 250)), ((27, 1, 0), (20, 0)), ((28, 7, 0), (20, 0)), ((28, 20, 0), (5, 69)), ((28, 26, 28), (10, 272)), ((28, 26, 29), (10, 272)), ((28, 26, 30), (10, 272)), ((28, 26, 31), (10, 272)), ((28, 26, 32), (10, 272)), ((28, 26, 33), (10, 272)), ((28, 32, 28), (3, 255)), ((28, 32, 29), (4, 255)), ((28, 32, 30), (4, 263)), ((28, 32, 31), (4, 265)), ((28, 32, 32), (4, 255)), ((28, 32, 33), (4, 265)), ((29, 7, 28), (1, 252)), ((29, 7, 29), (1, 252)), ((29, 7, 30), (1, 252)), ((29, 7, 31), (1, 252)), ((29, 7, 32), (1, 252)), ((29, 7, 33), (1, 252)), ((29, 13, 0), (5, 69)), ((29, 19, 29), (7, 254)), ((29, 19, 30), (7, 254)), ((29, 23, 29), (7, 257)), ((29, 23, 30), (7, 257)), ((29, 30, 29), (4, 256)), ((29, 30, 30), (4, 256)), ((30, 7, 29), (1, 258)), ((30, 7, 30), (1, 258)), ((30, 13, 0), (5, 69)), ((30, 19, 30), (7, 259)), ((30, 23, 30), (9, 255)), ((30, 30, 30), (3, 262)), ((31, 7, 28), (1, 252)), ((31, 7, 29), (1, 252)), ((31, 7, 30), (1, 252)), ((31, 7, 31), (1, 252)), ((31, 7, 32), (1, 252)), ((31, 7, 33), (1, 252)), ((31, 13, 0), (5, 69)), ((31, 19, 31), (7, 255)), ((31, 19, 33), (7, 255)), ((32, 7, 28), (1, 252)), ((32, 7, 29), (1, 252)), ((32, 7, 30), (1, 252)), ((32, 7, 31), (1, 252)), ((32, 7, 32), (1, 252)), ((32, 7, 33), (1, 252)), ((32, 13, 0), (5, 69)), ((32, 19, 32), (7, 257)), ((32, 23, 32), (7, 256)), ((32, 30, 32), (4, 254)), ((33, 7, 31), (1, 264)), ((33, 7, 33), (1, 264)), ((33, 13, 0), (5, 69)), ((33, 19, 33), (9, 256)), ((33, 23, 33), (9, 254)), ((34, 1, 28), (8, 254)), ((34, 1, 29), (8, 259)), ((34, 1, 30), (8, 262)), ((34, 1, 31), (8, 254)), ((34, 1, 32), (8, 254)), ((34, 1, 33), (8, 270)), ((37, 9, 0), (1, 0)), ((37, 12, 20), (1, 144)), ((37, 15, 0), (3, 1)), ((37, 19, 20), (3, 145)), ((37, 20, 0), (3, 3)), ((37, 24, 20), (3, 147)), ((37, 25, 0), (3, 4)), ((37, 29, 20), (3, 164)), ((37, 30, 0), (3, 6)), ((37, 33, 20), (3, 166)), ((37, 34, 0), (3, 7)), ((37, 38, 20), (3, 167)), ((37, 39, 0), (3, 9)), ((37, 42, 20), (3, 171)), ((37, 43, 0), (3, 12)), ((37, 47, 20), (3, 172)), ((37, 48, 0), (3, 13)), ((37, 51, 20), (3, 174)), ((37, 52, 0), (3, 16)), ((37, 55, 20), (3, 175)), ((37, 56, 0), (3, 18)), ((37, 59, 20), (3, 180)), ((37, 60, 0), (3, 20)), ((37, 63, 20), (3, 182)), ((37, 64, 0), (3, 21)), ((37, 67, 20), (3, 184)), ((37, 68, 0), (3, 23)), ((37, 71, 20), (3, 186)), ((37, 72, 0), (3, 24)), ((37, 75, 20), (3, 187)), ((37, 76, 0), (3, 27)), ((37, 79, 20), (3, 191)), ((37, 80, 0), (3, 29)), ((37, 83, 20), (3, 193)), ((37, 84, 0), (3, 30)), ((37, 87, 20), (3, 195)), ((37, 88, 0), (3, 31)), ((37, 91, 20), (3, 196)), ((37, 92, 0), (3, 33)), ((37, 95, 20), (3, 199)), ((37, 96, 0), (3, 34)), ((37, 99, 20), (3, 200)), ((37, 100, 0), (3, 35)), ((37, 103, 20), (3, 201)), ((37, 104, 0), (3, 36)), ((37, 107, 20), (3, 202)), ((37, 108, 0), (3, 37)), ((37, 111, 20), (3, 203)), ((37, 112, 0), (3, 39)), ((37, 115, 20), (3, 205)), ((37, 116, 0), (3, 43)), ((37, 119, 20), (3, 206)), ((37, 120, 0), (3, 40)), ((37, 123, 20), (3, 208)), ((37, 124, 0), (3, 42)), ((37, 127, 20), (3, 210)), ((37, 128, 0), (3, 44)), ((37, 131, 20), (3, 211)), ((37, 132, 0), (3, 45)), ((37, 136, 20), (3, 212)), ((37, 137, 0), (3, 51)), ((37, 140, 20), (3, 215)), ((37, 141, 0), (3, 52)), ((37, 144, 20), (3, 216)), ((37, 145, 0), (3, 55)), ((37, 148, 20), (3, 217)), ((37, 149, 0), (3, 61)), ((37, 152, 20), (3, 218)), ((37, 153, 0), (3, 63)), ((37, 156, 20), (3, 220)), ((37, 157, 0), (3, 67)), ((37, 160, 20), (3, 223)), ((37, 161, 0), (3, 70)), ((37, 164, 20), (3, 234)), ((37, 165, 0), (3, 71)), ((37, 168, 20), (3, 235)), ((37, 169, 0), (3, 72)), ((37, 172, 20), (3, 236)), ((37, 173, 0), (3, 73)), ((37, 176, 20), (3, 239))]
def mx_inv (o i c : Nat) : Option (Nat × Nat) := mx_invT.lookup (o, i, c)
def mx_newT : List ((Nat × Nat) × Nat) := [((0, 19), 1), ((0, 32), 2), ((0, 44), 4), ((0, 49), 5), ((0, 52), 6), ((0, 55), 7), ((0, 58), 8), ((0, 61), 9), ((0, 72), 10), ((0, 85), 13), ((0, 92), 27), ((0, 98), 14), ((0, 105), 15), ((0, 112), 16), ((0, 119), 17), ((0, 126), 18), ((0, 136), 19), ((1, 40), 2), ((4, 31), 28), ((5, 21), 31), ((6, 21), 29), ((7, 21), 30), ((8, 21), 33), ((9, 17), 32), ((10, 40), 11), ((10, 132), 22), ((10, 137), 23), ((10, 147), 25), ((10, 157), 26), ((37, 7), 0), ((37, 10), 20)]
def mx_newc (o i : Nat) : Option Nat := mx_newT.lookup (o, i)
def mx_anewT : List ((Nat × Nat) × Nat) := [((0, 42), 6), ((0, 92), 8), ((0, 112), 9), ((0, 136), 10), ((1, 34), 5), ((10, 9), 7)]
def mx_anewc (o i : Nat) : Option Nat := mx_anewT.lookup (o, i)
def mx_tgtT : List ((Nat × Nat) × Nat) := [((0, 334), 102), ((0, 360), 101), ((0, 361), 103), ((0, 363), 100), ((0, 416), 28), ((0, 421), 31), ((0, 424), 29), ((0, 427), 30), ((0, 430), 33), ((0, 433), 32), ((0, 448), 36)]
def mx_tgt (o i : Nat) : Option Nat := mx_tgtT.lookup (o, i)
def mx_ldcT : List ((Nat × Nat) × Int32) := [((0, 219), -2147483648), ((0, 308), 1103515245), ((20, 191), 40002), ((20, 201), 40003), ((20, 205), 40000), ((20, 206), 40001), ((20, 241), -2147483648), ((20, 314), 1103515245)]
def mx_ldcs : List ((Nat × Nat) × Nat) := [((10, 11), 0), ((10, 13), 1), ((10, 15), 2), ((10, 17), 3), ((10, 19), 4), ((10, 21), 5), ((10, 29), 6), ((10, 31), 7), ((10, 33), 8), ((10, 35), 9), ((10, 109), 10), ((10, 114), 11), ((10, 123), 12), ((10, 145), 13), ((10, 155), 14), ((10, 160), 15), ((10, 167), 16), ((10, 176), 17)]
def mx_ldc2 : List ((Nat × Nat) × Int64) := [((0, 254), 1000000), ((20, 110), 255), ((20, 139), 27), ((20, 141), 96), ((20, 143), -1), ((20, 145), 456500), ((20, 151), 247663), ((20, 153), 4421), ((20, 155), 12257559), ((20, 157), 116794), ((20, 159), 11522), ((20, 207), 453740), ((20, 209), 379948), ((20, 211), 1887), ((20, 213), 95839637), ((20, 215), 110319223), ((20, 220), 249), ((20, 222), 10631), ((20, 224), 1111), ((20, 226), 423), ((20, 258), 1000000), ((20, 337), -20), ((20, 339), 30), ((37, 13), 4294967295)]
def mx_castT : List ((Nat × Nat) × Bool) := [((28, 28), true), ((28, 29), false), ((28, 30), false), ((28, 31), false), ((28, 32), false), ((28, 33), false), ((28, 36), true), ((28, 100), false), ((28, 101), false), ((28, 102), false), ((28, 103), false), ((29, 28), true), ((29, 29), true), ((29, 30), false), ((29, 31), false), ((29, 32), false), ((29, 33), false), ((29, 36), true), ((29, 100), false), ((29, 101), false), ((29, 102), false), ((29, 103), false), ((30, 28), true), ((30, 29), true), ((30, 30), true), ((30, 31), false), ((30, 32), false), ((30, 33), false), ((30, 36), true), ((30, 100), false), ((30, 101), false), ((30, 102), false), ((30, 103), false), ((31, 28), true), ((31, 29), false), ((31, 30), false), ((31, 31), true), ((31, 32), false), ((31, 33), false), ((31, 36), true), ((31, 100), false), ((31, 101), false), ((31, 102), false), ((31, 103), false), ((32, 28), true), ((32, 29), false), ((32, 30), false), ((32, 31), false), ((32, 32), true), ((32, 33), false), ((32, 36), true), ((32, 100), false), ((32, 101), false), ((32, 102), false), ((32, 103), false), ((33, 28), true), ((33, 29), false), ((33, 30), false), ((33, 31), true), ((33, 32), false), ((33, 33), true), ((33, 36), true), ((33, 100), false), ((33, 101), false), ((33, 102), false), ((33, 103), false), ((100, 28), false), ((100, 29), false), ((100, 30), false), ((100, 31), false), ((100, 32), false), ((100, 33), false), ((100, 36), false), ((100, 100), true), ((100, 101), false), ((100, 102), false), ((100, 103), false), ((101, 28), false), ((101, 29), false), ((101, 30), false), ((101, 31), false), ((101, 32), false), ((101, 33), false), ((101, 36), false), ((101, 100), false), ((101, 101), true), ((101, 102), false), ((101, 103), false), ((102, 28), false), ((102, 29), false), ((102, 30), false), ((102, 31), false), ((102, 32), false), ((102, 33), false), ((102, 36), false), ((102, 100), false), ((102, 101), false), ((102, 102), true), ((102, 103), false), ((103, 28), false), ((103, 29), false), ((103, 30), false), ((103, 31), false), ((103, 32), false), ((103, 33), false), ((103, 36), false), ((103, 100), false), ((103, 101), false), ((103, 102), false), ((103, 103), true)]
def mx_cast (s t : Nat) : Option Bool := mx_castT.lookup (s, t)
/-- which class may be stored in which array (99: a String) -/
def mx_astT : List (Nat × Nat) := [(22, 5), (23, 5), (25, 5), (26, 5), (4, 6), (5, 6), (6, 6), (7, 6), (8, 6), (9, 6), (27, 8), (16, 9), (19, 10), (99, 7)]
def mx_fty : Nat → Nat → FieldType := fun c k => match c with
  | 0 => tyX0 k
  | 1 => tyX1 k
  | 2 => tyX2 k
  | 4 => tyX4 k
  | 5 => tyX5 k
  | 6 => tyX6 k
  | 7 => tyX7 k
  | 8 => tyX8 k
  | 9 => tyX9 k
  | 10 => tyX10 k
  | 11 => tyX11 k
  | 13 => tyX13 k
  | 14 => tyX14 k
  | 15 => tyX15 k
  | 16 => tyX16 k
  | 17 => tyX17 k
  | 18 => tyX18 k
  | 19 => tyX19 k
  | 20 => tyX20 k
  | 22 => tyX22 k
  | 23 => tyX23 k
  | 25 => tyX25 k
  | 26 => tyX26 k
  | 27 => tyX27 k
  | 28 => tyX28 k
  | 29 => tyX29 k
  | 30 => tyX30 k
  | 31 => tyX31 k
  | 32 => tyX32 k
  | 33 => tyX33 k
  | _ => .int
def mx_fin : Nat → Nat → Bool := fun c k => match c with
  | 0 => (TX0 k).2.2.2
  | 1 => (TX1 k).2.2.2
  | 2 => (TX2 k).2.2.2
  | 4 => (TX4 k).2.2.2
  | 5 => (TX5 k).2.2.2
  | 6 => (TX6 k).2.2.2
  | 7 => (TX7 k).2.2.2
  | 8 => (TX8 k).2.2.2
  | 9 => (TX9 k).2.2.2
  | 10 => (TX10 k).2.2.2
  | 11 => (TX11 k).2.2.2
  | 13 => (TX13 k).2.2.2
  | 14 => (TX14 k).2.2.2
  | 15 => (TX15 k).2.2.2
  | 16 => (TX16 k).2.2.2
  | 17 => (TX17 k).2.2.2
  | 18 => (TX18 k).2.2.2
  | 19 => (TX19 k).2.2.2
  | 20 => (TX20 k).2.2.2
  | 22 => (TX22 k).2.2.2
  | 23 => (TX23 k).2.2.2
  | 25 => (TX25 k).2.2.2
  | 26 => (TX26 k).2.2.2
  | 27 => (TX27 k).2.2.2
  | 28 => (TX28 k).2.2.2
  | 29 => (TX29 k).2.2.2
  | 30 => (TX30 k).2.2.2
  | 31 => (TX31 k).2.2.2
  | 32 => (TX32 k).2.2.2
  | 33 => (TX33 k).2.2.2
  | _ => false
def mx_dcl : Nat → Nat → String := fun c k => match c with
  | 0 => (TX0 k).1
  | 1 => (TX1 k).1
  | 2 => (TX2 k).1
  | 4 => (TX4 k).1
  | 5 => (TX5 k).1
  | 6 => (TX6 k).1
  | 7 => (TX7 k).1
  | 8 => (TX8 k).1
  | 9 => (TX9 k).1
  | 10 => (TX10 k).1
  | 11 => (TX11 k).1
  | 13 => (TX13 k).1
  | 14 => (TX14 k).1
  | 15 => (TX15 k).1
  | 16 => (TX16 k).1
  | 17 => (TX17 k).1
  | 18 => (TX18 k).1
  | 19 => (TX19 k).1
  | 20 => (TX20 k).1
  | 22 => (TX22 k).1
  | 23 => (TX23 k).1
  | 25 => (TX25 k).1
  | 26 => (TX26 k).1
  | 27 => (TX27 k).1
  | 28 => (TX28 k).1
  | 29 => (TX29 k).1
  | 30 => (TX30 k).1
  | 31 => (TX31 k).1
  | 32 => (TX32 k).1
  | 33 => (TX33 k).1
  | _ => ""
def mx_nf (c : Nat) : Nat := ((mx_cl[c]?).map fun r => r.2.2).getD 0
