/-! the winter, the row that is worked on, a week that goes: ColdBoxModel -/
set_option maxRecDepth 100000
section MXP3
variable {d : Nat} {h : mx_H} {q : mx_Q} {S : mx_Sg} {tl : List mx_E} {o n : Nat} {w v t a b : Int32} {y pc : Nat} {lo : mx_L} {st : List Value}
theorem ite_ev {c : Prop} [Decidable c] : (if c then ev d y pc lo (.int a :: st) h else ev d y pc lo (.int b :: st) h) = ev d y pc lo (.int (if c then a else b) :: st) h := by split <;> rfl
theorem m_in {v a b : Int32} : evM d 146 [.int v, .int a, .int b] h = some (.inl (some (.int (zb (decide (a ≤ v ∧ v ≤ b))))), h) := by
  simp only [en146, u146_0, es_ldI0, u146_1, es_ldI1, u146_2, ek_lt_, u146_5, u146_6, es_ldI2, u146_7, ek_gt_, u146_10, u146_11, u146_14, u146_15, ei_iretz, rt146]
  by_cases c1 : v < a
  · have c2 : ¬ a ≤ v := Int32.not_le.mpr c1
    simp [c1, c2, zb]
  · have c2 : a ≤ v := Int32.not_lt.mp c1
    by_cases c3 : v ≤ b
    · simp [c1, c2, c3, zb, Int32.not_lt.mpr c3]
    · simp [c1, c2, c3, zb, Int32.not_le.mp c3]
theorem m_isWeek {v : Int32} : evM (d + 1) 165 [.int v] h = some (.inl (some (.int (zb (decide (0 ≤ v ∧ v ≤ 23))))), h) := by
  simp only [en165, u165_0, es_ldI0, u165_1, u165_2, u165_4, eis_3, evV_row, csz_0, csz_i, csz_r, csz_n, csz_f, csz_l, iv20_100_0, eca_u, mm146, Nat.reduceAdd, Nat.reduceLeDiff, if_true, if_false, ezk_n, ezk_v, ezk_s, ezk_x, ezk_if, u165_7, ei_iretz, rt165, m_in, zb_ok, if_true]
theorem m_isPlace {v : Int32} : evM (d + 1) 168 [.int v] h = some (.inl (some (.int (zb (decide (0 ≤ v ∧ v ≤ 3))))), h) := by
  simp only [en168, u168_0, es_ldI0, u168_1, u168_2, u168_3, eis_3, evV_row, csz_0, csz_i, csz_r, csz_n, csz_f, csz_l, iv20_100_0, eca_u, mm146, Nat.reduceAdd, Nat.reduceLeDiff, if_true, if_false, ezk_n, ezk_v, ezk_s, ezk_x, ezk_if, u168_6, ei_iretz, rt168, m_in, zb_ok, if_true]
theorem m_isShelf {v : Int32} : evM (d + 1) 213 [.int v] h = some (.inl (some (.int (zb (decide (0 ≤ v ∧ v ≤ 3))))), h) := by
  simp only [en213, u213_0, es_ldI0, u213_1, u213_2, u213_3, eis_3, evV_row, csz_0, csz_i, csz_r, csz_n, csz_f, csz_l, iv20_100_0, eca_u, mm146, Nat.reduceAdd, Nat.reduceLeDiff, if_true, if_false, ezk_n, ezk_v, ezk_s, ezk_x, ezk_if, u213_6, ei_iretz, rt213, m_in, zb_ok, if_true]
theorem inb_nI {k n : Nat} (h : k < n) (hn : n < 2 ^ 31) : mx_inb (nI k) n = true := by
  unfold mx_inb
  rw [decide_eq_true_iff]
  exact nI_in h hn
/-- the row that is worked on: at is nI o -/
def bM (S : mx_Sg) (o : Nat) : Nat → Int32 := fun k => sA S 61 (o + k)
theorem ix_0 (ho : o ≤ 14) : mx_inb (nI o + 0) 21 = true ∧ (nI o + 0).toNatClampNeg = o + 0 := by
  have e : nI o + 0 = nI (o + 0) := nI_add o 0
  rw [e]
  exact ⟨inb_nI (by omega) (by decide), nI_clamp (by omega)⟩
theorem its_0 (hat : sP S 60 1 = nI o) (ho : o ≤ 14) : evM d 177 [.ref 60, .int 0] (HH q S tl) = some (.inl (some (.int (sA S 61 (o + 0)))), HH q S tl) := by
  simp only [en177, u177_0, es_ldA0, es_ldN0, es_ldF0, u177_1, es_gf, eg1, eg2, fl20_7_20, u177_4, u177_5, fl20_104_20, u177_8, es_ldI1, u177_9, ei_iadd, u177_10, ei_iald, ea_row, ei_scr, u177_11, ei_ireti, rt177, ob60, of60_0, og20_1, sI_P, hat, ar61, (ix_0 ho).1, (ix_0 ho).2, if_true, if_false, not_true_eq_false, not_false_eq_true, and_self, and_true, true_and, and_false, false_and, or_true, true_or, or_false, false_or, or_self]
theorem ix_1 (ho : o ≤ 14) : mx_inb (nI o + 1) 21 = true ∧ (nI o + 1).toNatClampNeg = o + 1 := by
  have e : nI o + 1 = nI (o + 1) := nI_add o 1
  rw [e]
  exact ⟨inb_nI (by omega) (by decide), nI_clamp (by omega)⟩
theorem its_1 (hat : sP S 60 1 = nI o) (ho : o ≤ 14) : evM d 177 [.ref 60, .int 1] (HH q S tl) = some (.inl (some (.int (sA S 61 (o + 1)))), HH q S tl) := by
  simp only [en177, u177_0, es_ldA0, es_ldN0, es_ldF0, u177_1, es_gf, eg1, eg2, fl20_7_20, u177_4, u177_5, fl20_104_20, u177_8, es_ldI1, u177_9, ei_iadd, u177_10, ei_iald, ea_row, ei_scr, u177_11, ei_ireti, rt177, ob60, of60_0, og20_1, sI_P, hat, ar61, (ix_1 ho).1, (ix_1 ho).2, if_true, if_false, not_true_eq_false, not_false_eq_true, and_self, and_true, true_and, and_false, false_and, or_true, true_or, or_false, false_or, or_self]
theorem ix_2 (ho : o ≤ 14) : mx_inb (nI o + 2) 21 = true ∧ (nI o + 2).toNatClampNeg = o + 2 := by
  have e : nI o + 2 = nI (o + 2) := nI_add o 2
  rw [e]
  exact ⟨inb_nI (by omega) (by decide), nI_clamp (by omega)⟩
theorem its_2 (hat : sP S 60 1 = nI o) (ho : o ≤ 14) : evM d 177 [.ref 60, .int 2] (HH q S tl) = some (.inl (some (.int (sA S 61 (o + 2)))), HH q S tl) := by
  simp only [en177, u177_0, es_ldA0, es_ldN0, es_ldF0, u177_1, es_gf, eg1, eg2, fl20_7_20, u177_4, u177_5, fl20_104_20, u177_8, es_ldI1, u177_9, ei_iadd, u177_10, ei_iald, ea_row, ei_scr, u177_11, ei_ireti, rt177, ob60, of60_0, og20_1, sI_P, hat, ar61, (ix_2 ho).1, (ix_2 ho).2, if_true, if_false, not_true_eq_false, not_false_eq_true, and_self, and_true, true_and, and_false, false_and, or_true, true_or, or_false, false_or, or_self]
theorem ix_3 (ho : o ≤ 14) : mx_inb (nI o + 3) 21 = true ∧ (nI o + 3).toNatClampNeg = o + 3 := by
  have e : nI o + 3 = nI (o + 3) := nI_add o 3
  rw [e]
  exact ⟨inb_nI (by omega) (by decide), nI_clamp (by omega)⟩
theorem its_3 (hat : sP S 60 1 = nI o) (ho : o ≤ 14) : evM d 177 [.ref 60, .int 3] (HH q S tl) = some (.inl (some (.int (sA S 61 (o + 3)))), HH q S tl) := by
  simp only [en177, u177_0, es_ldA0, es_ldN0, es_ldF0, u177_1, es_gf, eg1, eg2, fl20_7_20, u177_4, u177_5, fl20_104_20, u177_8, es_ldI1, u177_9, ei_iadd, u177_10, ei_iald, ea_row, ei_scr, u177_11, ei_ireti, rt177, ob60, of60_0, og20_1, sI_P, hat, ar61, (ix_3 ho).1, (ix_3 ho).2, if_true, if_false, not_true_eq_false, not_false_eq_true, and_self, and_true, true_and, and_false, false_and, or_true, true_or, or_false, false_or, or_self]
theorem ix_4 (ho : o ≤ 14) : mx_inb (nI o + 4) 21 = true ∧ (nI o + 4).toNatClampNeg = o + 4 := by
  have e : nI o + 4 = nI (o + 4) := nI_add o 4
  rw [e]
  exact ⟨inb_nI (by omega) (by decide), nI_clamp (by omega)⟩
theorem its_4 (hat : sP S 60 1 = nI o) (ho : o ≤ 14) : evM d 177 [.ref 60, .int 4] (HH q S tl) = some (.inl (some (.int (sA S 61 (o + 4)))), HH q S tl) := by
  simp only [en177, u177_0, es_ldA0, es_ldN0, es_ldF0, u177_1, es_gf, eg1, eg2, fl20_7_20, u177_4, u177_5, fl20_104_20, u177_8, es_ldI1, u177_9, ei_iadd, u177_10, ei_iald, ea_row, ei_scr, u177_11, ei_ireti, rt177, ob60, of60_0, og20_1, sI_P, hat, ar61, (ix_4 ho).1, (ix_4 ho).2, if_true, if_false, not_true_eq_false, not_false_eq_true, and_self, and_true, true_and, and_false, false_and, or_true, true_or, or_false, false_or, or_self]
theorem ix_5 (ho : o ≤ 14) : mx_inb (nI o + 5) 21 = true ∧ (nI o + 5).toNatClampNeg = o + 5 := by
  have e : nI o + 5 = nI (o + 5) := nI_add o 5
  rw [e]
  exact ⟨inb_nI (by omega) (by decide), nI_clamp (by omega)⟩
theorem its_5 (hat : sP S 60 1 = nI o) (ho : o ≤ 14) : evM d 177 [.ref 60, .int 5] (HH q S tl) = some (.inl (some (.int (sA S 61 (o + 5)))), HH q S tl) := by
  simp only [en177, u177_0, es_ldA0, es_ldN0, es_ldF0, u177_1, es_gf, eg1, eg2, fl20_7_20, u177_4, u177_5, fl20_104_20, u177_8, es_ldI1, u177_9, ei_iadd, u177_10, ei_iald, ea_row, ei_scr, u177_11, ei_ireti, rt177, ob60, of60_0, og20_1, sI_P, hat, ar61, (ix_5 ho).1, (ix_5 ho).2, if_true, if_false, not_true_eq_false, not_false_eq_true, and_self, and_true, true_and, and_false, false_and, or_true, true_or, or_false, false_or, or_self]
theorem ix_6 (ho : o ≤ 14) : mx_inb (nI o + 6) 21 = true ∧ (nI o + 6).toNatClampNeg = o + 6 := by
  have e : nI o + 6 = nI (o + 6) := nI_add o 6
  rw [e]
  exact ⟨inb_nI (by omega) (by decide), nI_clamp (by omega)⟩
theorem its_6 (hat : sP S 60 1 = nI o) (ho : o ≤ 14) : evM d 177 [.ref 60, .int 6] (HH q S tl) = some (.inl (some (.int (sA S 61 (o + 6)))), HH q S tl) := by
  simp only [en177, u177_0, es_ldA0, es_ldN0, es_ldF0, u177_1, es_gf, eg1, eg2, fl20_7_20, u177_4, u177_5, fl20_104_20, u177_8, es_ldI1, u177_9, ei_iadd, u177_10, ei_iald, ea_row, ei_scr, u177_11, ei_ireti, rt177, ob60, of60_0, og20_1, sI_P, hat, ar61, (ix_6 ho).1, (ix_6 ho).2, if_true, if_false, not_true_eq_false, not_false_eq_true, and_self, and_true, true_and, and_false, false_and, or_true, true_or, or_false, false_or, or_self]
theorem m_warmthOf (hw : mx_inb w 24 = true) : evM d 169 [.ref 60, .int w, .int v] (HH q S tl) = some (.inl (some (.int (wmt (sA S 64) (sA S 66) w v))), HH q S tl) := by
  simp only [en169, u169_0, es_ldA0, es_ldN0, es_ldF0, u169_1, es_gf, eg1, eg2, fl20_19_20, u169_4, es_ldI1, u169_5, ei_iald, ea_row, ei_scr, u169_6, es_stI3, mx_dw_s, mx_dw_n, mx_dw_i, mx_dw_r, mx_dw_u, mx_dw_l, mx_dw_f, u169_7, es_ldI2, u169_8, ej_ne, u169_11, es_ldI3, u169_12, u169_15, u169_16, u169_17, ek_ne_, u169_20, u169_21, u169_22, ei_idiv, u169_23, u169_24, ei_iadd, u169_25, u169_28, u169_29, u169_30, u169_33, u169_34, fl20_25_20, u169_37, u169_38, u169_39, u169_42, u169_43, u169_44, u169_45, u169_47, u169_48, ei_ireti, rt169, ob60, of60_4, of60_6, ar64, ar66, hw, tn0, tn1, tn2, tn3, tn4, tn5, tn6, tn7, tn8, tn9, tn10, tn11, tn12, tn13, tn14, tn15, tn16, tn17, tn18, tn19, tn20, tn21, tn22, tn23, tn24, tn25, tn26, tn27, tn28, tn29, tn30, ib0_3, ib1_3, ib2_3, ib0_4, ib1_4, ib2_4, ib3_4, ib0_5, ib1_5, ib2_5, ib3_5, ib4_5, ib0_6, ib1_6, ib2_6, ib3_6, ib4_6, ib5_6, ib0_7, ib1_7, ib2_7, ib3_7, ib4_7, ib5_7, ib6_7, ib0_8, ib1_8, ib2_8, ib3_8, ib4_8, ib5_8, ib6_8, ib7_8, ib0_10, ib1_10, ib2_10, ib3_10, ib4_10, ib5_10, ib6_10, ib7_10, ib0_21, ib1_21, ib2_21, ib3_21, ib4_21, ib5_21, ib6_21, ib7_21, ib0_24, ib1_24, ib2_24, ib3_24, ib4_24, ib5_24, ib6_24, ib7_24, nz2, nz3, nz4, nz10, nz1000, if_true, if_false, not_true_eq_false, not_false_eq_true, and_self, and_true, true_and, and_false, false_and, or_true, true_or, or_false, false_or, or_self]
  unfold wmt
  by_cases c0 : v = 0
  · simp only [c0, if_true, if_false, not_true_eq_false, not_false_eq_true, and_self, and_true, true_and, and_false, false_and, or_true, true_or, or_false, false_or, or_self]
  · by_cases c1 : v = 1
    · simp [c0, c1]
    · by_cases c2 : v = 2
      · simp [c0, c1, c2]
      · simp [c0, c1, c2]
theorem m_kindOf (hw : mx_inb w 24 = true) : evM (d + 1) 170 [.ref 60, .int w, .int v] (HH q S tl) = some (.inl (some (.int (kndF (sA S 64) (sA S 65) (sA S 66) w v))), HH q S tl) := by
  simp only [en170, u170_0, es_ldA0, es_ldN0, es_ldF0, u170_1, es_ldI1, u170_2, es_ldI2, u170_3, eiv_3, evV_row, csz_0, csz_i, csz_r, csz_n, csz_f, csz_l, iv20_242_20, eca_u, mm169, Nat.reduceAdd, Nat.reduceLeDiff, if_true, if_false, ezk_n, ezk_v, ezk_s, ezk_x, ezk_if, u170_6, es_stI3, mx_dw_s, mx_dw_n, mx_dw_i, mx_dw_r, mx_dw_u, mx_dw_l, mx_dw_f, u170_7, es_ldI3, u170_8, u170_9, es_gf, eg1, eg2, fl20_25_20, u170_12, u170_13, ei_iald, ea_row, ei_scr, u170_14, ek_ge_, u170_17, u170_18, ei_ireti, rt170, u170_19, u170_20, u170_21, u170_24, u170_25, u170_26, ek_lt_, u170_29, u170_30, u170_31, u170_34, u170_35, u170_36, u170_39, u170_40, u170_43, u170_44, u170_45, u170_46, u170_47, u170_50, u170_51, u170_52, u170_55, u170_56, u170_59, u170_60, fl20_22_20, u170_63, u170_64, u170_65, u170_66, u170_69, u170_70, u170_73, u170_74, u170_76, u170_79, u170_80, u170_83, u170_84, kd60, ob60, of60_5, of60_6, ar65, ar66, m_warmthOf hw, hw, tn0, tn1, tn2, tn3, tn4, tn5, tn6, tn7, tn8, tn9, tn10, tn11, tn12, tn13, tn14, tn15, tn16, tn17, tn18, tn19, tn20, tn21, tn22, tn23, tn24, tn25, tn26, tn27, tn28, tn29, tn30, ib0_3, ib1_3, ib2_3, ib0_4, ib1_4, ib2_4, ib3_4, ib0_5, ib1_5, ib2_5, ib3_5, ib4_5, ib0_6, ib1_6, ib2_6, ib3_6, ib4_6, ib5_6, ib0_7, ib1_7, ib2_7, ib3_7, ib4_7, ib5_7, ib6_7, ib0_8, ib1_8, ib2_8, ib3_8, ib4_8, ib5_8, ib6_8, ib7_8, ib0_10, ib1_10, ib2_10, ib3_10, ib4_10, ib5_10, ib6_10, ib7_10, ib0_21, ib1_21, ib2_21, ib3_21, ib4_21, ib5_21, ib6_21, ib7_21, ib0_24, ib1_24, ib2_24, ib3_24, ib4_24, ib5_24, ib6_24, ib7_24, nz2, nz3, nz4, nz10, nz1000, if_true, if_false, not_true_eq_false, not_false_eq_true, and_self, and_true, true_and, and_false, false_and, or_true, true_or, or_false, false_or, or_self]
  unfold kndF
  by_cases c1 : wmt (sA S 64) (sA S 66) w v < sA S 66 2
  · simp only [c1, Int32.not_le.mpr c1, if_true, if_false, not_true_eq_false, not_false_eq_true, and_self, and_true, true_and, and_false, false_and, or_true, true_or, or_false, false_or, or_self]
  · by_cases c2 : sA S 66 4 ≤ wmt (sA S 64) (sA S 66) w v
    · by_cases c3 : sA S 66 3 ≤ wmt (sA S 64) (sA S 66) w v
      · simp only [c1, c2, c3, Int32.not_lt.mp c1, Int32.not_lt.mpr c2, Int32.not_lt.mpr c3, if_true, if_false, not_true_eq_false, not_false_eq_true, and_self, and_true, true_and, and_false, false_and, or_true, true_or, or_false, false_or, or_self]
      · simp only [c1, c2, c3, Int32.not_lt.mp c1, Int32.not_lt.mpr c2, Int32.not_le.mp c3, if_true, if_false, not_true_eq_false, not_false_eq_true, and_self, and_true, true_and, and_false, false_and, or_true, true_or, or_false, false_or, or_self]
    · by_cases c3 : sA S 66 3 ≤ wmt (sA S 64) (sA S 66) w v
      · simp only [c1, c2, c3, Int32.not_lt.mp c1, Int32.not_le.mp c2, Int32.not_lt.mpr c3, if_true, if_false, not_true_eq_false, not_false_eq_true, and_self, and_true, true_and, and_false, false_and, or_true, true_or, or_false, false_or, or_self]
      · by_cases c4 : sA S 65 w.toNatClampNeg < 3
        · simp only [c1, c2, c3, c4, Int32.not_lt.mp c1, Int32.not_le.mp c2, Int32.not_le.mp c3, Int32.not_le.mpr c4, if_true, if_false, not_true_eq_false, not_false_eq_true, and_self, and_true, true_and, and_false, false_and, or_true, true_or, or_false, false_or, or_self]
        · by_cases c5 : wmt (sA S 64) (sA S 66) w v < 6
          · simp only [c1, c2, c3, c4, c5, Int32.not_lt.mp c1, Int32.not_le.mp c2, Int32.not_le.mp c3, Int32.not_lt.mp c4, Int32.not_le.mpr c5, if_true, if_false, not_true_eq_false, not_false_eq_true, and_self, and_true, true_and, and_false, false_and, or_true, true_or, or_false, false_or, or_self]
          · simp only [c1, c2, c3, c4, c5, Int32.not_lt.mp c1, Int32.not_le.mp c2, Int32.not_le.mp c3, Int32.not_lt.mp c4, Int32.not_lt.mp c5, if_true, if_false, not_true_eq_false, not_false_eq_true, and_self, and_true, true_and, and_false, false_and, or_true, true_or, or_false, false_or, or_self]
theorem m_rateAt : evM d 173 [.ref 60, .int t] (HH q S tl) = some (.inl (some (.int (rtF (sA S 66) t))), HH q S tl) := by
  simp only [en173, u173_0, es_ldI1, u173_1, ej_ge, u173_4, es_ldA0, es_ldN0, es_ldF0, u173_5, es_gf, eg1, eg2, fl20_25_20, u173_8, u173_9, ei_iald, ea_row, ei_scr, u173_10, u173_11, ei_idiv, u173_12, u173_15, u173_16, u173_19, u173_20, u173_21, u173_22, u173_24, u173_25, ei_ishl, u173_26, u173_28, u173_29, u173_31, ei_irem, u173_32, ei_iadd, u173_33, ei_imul, u173_34, u173_36, u173_37, ei_ireti, rt173, ob60, of60_6, ar66, tn0, tn1, tn2, tn3, tn4, tn5, tn6, tn7, tn8, tn9, tn10, tn11, tn12, tn13, tn14, tn15, tn16, tn17, tn18, tn19, tn20, tn21, tn22, tn23, tn24, tn25, tn26, tn27, tn28, tn29, tn30, ib0_3, ib1_3, ib2_3, ib0_4, ib1_4, ib2_4, ib3_4, ib0_5, ib1_5, ib2_5, ib3_5, ib4_5, ib0_6, ib1_6, ib2_6, ib3_6, ib4_6, ib5_6, ib0_7, ib1_7, ib2_7, ib3_7, ib4_7, ib5_7, ib6_7, ib0_8, ib1_8, ib2_8, ib3_8, ib4_8, ib5_8, ib6_8, ib7_8, ib0_10, ib1_10, ib2_10, ib3_10, ib4_10, ib5_10, ib6_10, ib7_10, ib0_21, ib1_21, ib2_21, ib3_21, ib4_21, ib5_21, ib6_21, ib7_21, ib0_24, ib1_24, ib2_24, ib3_24, ib4_24, ib5_24, ib6_24, ib7_24, nz2, nz3, nz4, nz10, nz1000, if_true, if_false, not_true_eq_false, not_false_eq_true, and_self, and_true, true_and, and_false, false_and, or_true, true_or, or_false, false_or, or_self]
  unfold rtF
  by_cases c0 : t < 0
  · simp only [c0, Int32.not_le.mpr c0, if_true, if_false, not_true_eq_false, not_false_eq_true, and_self, and_true, true_and, and_false, false_and, or_true, true_or, or_false, false_or, or_self]
  · simp only [c0, Int32.not_lt.mp c0, if_true, if_false, not_true_eq_false, not_false_eq_true, and_self, and_true, true_and, and_false, false_and, or_true, true_or, or_false, false_or, or_self]
theorem m_weight (hat : sP S 60 1 = nI o) (ho : o ≤ 14) : evM (d + 1) 176 [.ref 60] (HH q S tl) = some (.inl (some (.int (wgt (bM S o)))), HH q S tl) := by
  simp only [en176, u176_0, es_ldA0, es_ldN0, es_ldF0, u176_1, u176_2, eiv_2, evV_row, csz_0, csz_i, csz_r, csz_n, csz_f, csz_l, iv20_255_20, eca_u, mm177, Nat.reduceAdd, Nat.reduceLeDiff, if_true, if_false, ezk_n, ezk_v, ezk_s, ezk_x, ezk_if, u176_5, u176_6, u176_7, u176_10, ei_iadd, u176_11, u176_12, u176_13, u176_16, u176_17, ei_ireti, rt176, kd60, its_1 hat ho, its_2 hat ho, its_3 hat ho, if_true, if_false, not_true_eq_false, not_false_eq_true, and_self, and_true, true_and, and_false, false_and, or_true, true_or, or_false, false_or, or_self]
  rfl
theorem m_isAlive (hat : sP S 60 1 = nI o) (ho : o ≤ 14) : evM (d + 1) 178 [.ref 60] (HH q S tl) = some (.inl (some (.int (zb (alv (bM S o))))), HH q S tl) := by
  simp only [en178, u178_0, es_ldA0, es_ldN0, es_ldF0, u178_1, u178_2, eiv_2, evV_row, csz_0, csz_i, csz_r, csz_n, csz_f, csz_l, iv20_255_20, eca_u, mm177, Nat.reduceAdd, Nat.reduceLeDiff, if_true, if_false, ezk_n, ezk_v, ezk_s, ezk_x, ezk_if, u178_5, ej_le, u178_8, u178_9, u178_10, u178_13, u178_16, u178_17, u178_20, u178_21, ei_iretz, rt178, kd60, its_1 hat ho, its_2 hat ho, if_true, if_false, not_true_eq_false, not_false_eq_true, and_self, and_true, true_and, and_false, false_and, or_true, true_or, or_false, false_or, or_self]
  unfold alv bM
  by_cases c1 : 0 < sA S 61 (o + 1)
  · by_cases c2 : 0 < sA S 61 (o + 2)
    · simp [c1, c2, Int32.not_le.mpr c1, Int32.not_le.mpr c2, zb]
    · simp [c1, c2, Int32.not_le.mpr c1, Int32.not_lt.mp c2, zb]
  · simp [c1, Int32.not_lt.mp c1, zb]
theorem four_mul (x : Int32) : 4 * x = 2 * (2 * x) := by
  rw [← Int32.mul_assoc]
  rfl
theorem m_usesOf (hat : sP S 60 1 = nI o) (ho : o ≤ 14) (hw : mx_inb w 24 = true) : evM (d + 2) 181 [.ref 60, .int w, .int v] (HH q S tl) = some (.inl (some (.int (usK (wgt (bM S o) * rtF (sA S 66) (wmt (sA S 64) (sA S 66) w v) / 1000) (kndF (sA S 64) (sA S 65) (sA S 66) w v)))), HH q S tl) := by
  rcases knd_cases (sA S 64) (sA S 65) (sA S 66) w v with e | e | e | e | e | e <;>
  · simp only [en181, u181_0, es_ldA0, es_ldN0, es_ldF0, u181_1, eiv_1, evV_row, csz_0, csz_i, csz_r, csz_n, csz_f, csz_l, iv20_260_20, eca_u, mm176, Nat.reduceAdd, Nat.reduceLeDiff, if_true, if_false, ezk_n, ezk_v, ezk_s, ezk_x, ezk_if, u181_4, u181_5, u181_6, es_ldI1, u181_7, es_ldI2, u181_8, eiv_3, iv20_242_20, mm169, u181_11, eiv_2, iv20_252_20, mm173, u181_14, ei_imul, u181_15, u181_18, ei_idiv, u181_19, es_stI3, mx_dw_s, mx_dw_n, mx_dw_i, mx_dw_r, mx_dw_u, mx_dw_l, mx_dw_f, u181_20, u181_21, u181_22, u181_23, iv20_249_20, mm170, u181_26, ets, esw_n, esw_c, u181_56, es_ldI3, u181_57, u181_58, u181_59, u181_60, u181_61, ei_ireti, rt181, u181_62, u181_63, u181_64, u181_65, u181_66, u181_67, u181_68, u181_69, u181_70, u181_71, kd60, m_weight hat ho, m_rateAt, m_warmthOf hw, m_kindOf hw, e, four_mul, tn0, tn1, tn2, tn3, tn4, tn5, tn6, tn7, tn8, tn9, tn10, tn11, tn12, tn13, tn14, tn15, tn16, tn17, tn18, tn19, tn20, tn21, tn22, tn23, tn24, tn25, tn26, tn27, tn28, tn29, tn30, ib0_3, ib1_3, ib2_3, ib0_4, ib1_4, ib2_4, ib3_4, ib0_5, ib1_5, ib2_5, ib3_5, ib4_5, ib0_6, ib1_6, ib2_6, ib3_6, ib4_6, ib5_6, ib0_7, ib1_7, ib2_7, ib3_7, ib4_7, ib5_7, ib6_7, ib0_8, ib1_8, ib2_8, ib3_8, ib4_8, ib5_8, ib6_8, ib7_8, ib0_10, ib1_10, ib2_10, ib3_10, ib4_10, ib5_10, ib6_10, ib7_10, ib0_21, ib1_21, ib2_21, ib3_21, ib4_21, ib5_21, ib6_21, ib7_21, ib0_24, ib1_24, ib2_24, ib3_24, ib4_24, ib5_24, ib6_24, ib7_24, nz2, nz3, nz4, nz10, nz1000, if_true, if_false, not_true_eq_false, not_false_eq_true, and_self, and_true, true_and, and_false, false_and, or_true, true_or, or_false, false_or, or_self]
    simp [usK]
theorem m_driesOf (hw : mx_inb w 24 = true) : evM (d + 2) 183 [.ref 60, .int w, .int v] (HH q S tl) = some (.inl (some (.int (drK (sA S 65 w.toNatClampNeg) (kndF (sA S 64) (sA S 65) (sA S 66) w v)))), HH q S tl) := by
  have e25 : ∀ x : Int32, x + 5 + 20 = x + 25 := fun x => by rw [Int32.add_assoc]; rfl
  rcases knd_cases (sA S 64) (sA S 65) (sA S 66) w v with e | e | e | e | e | e <;>
  · simp only [en183, u183_0, u183_1, u183_3, es_ldA0, es_ldN0, es_ldF0, u183_4, es_gf, eg1, eg2, fl20_22_20, u183_7, es_ldI1, u183_8, ei_iald, ea_row, ei_scr, u183_9, ei_isub, u183_10, ei_imul, u183_11, es_stI3, mx_dw_s, mx_dw_n, mx_dw_i, mx_dw_r, mx_dw_u, mx_dw_l, mx_dw_f, u183_12, u183_13, u183_14, es_ldI2, u183_15, eiv_3, evV_row, csz_0, csz_i, csz_r, csz_n, csz_f, csz_l, iv20_249_20, eca_u, mm170, Nat.reduceAdd, Nat.reduceLeDiff, if_true, if_false, ezk_n, ezk_v, ezk_s, ezk_x, ezk_if, u183_18, ets, esw_n, esw_c, u183_52, es_ldI3, u183_53, u183_54, ei_idiv, u183_55, ei_ireti, rt183, u183_56, u183_57, u183_58, u183_59, u183_60, ei_iadd, u183_61, u183_62, u183_63, u183_64, u183_65, u183_66, u183_67, u183_69, u183_70, u183_71, u183_72, u183_73, u183_74, u183_75, u183_76, kd60, ob60, of60_5, ar65, m_kindOf hw, hw, e, tn0, tn1, tn2, tn3, tn4, tn5, tn6, tn7, tn8, tn9, tn10, tn11, tn12, tn13, tn14, tn15, tn16, tn17, tn18, tn19, tn20, tn21, tn22, tn23, tn24, tn25, tn26, tn27, tn28, tn29, tn30, ib0_3, ib1_3, ib2_3, ib0_4, ib1_4, ib2_4, ib3_4, ib0_5, ib1_5, ib2_5, ib3_5, ib4_5, ib0_6, ib1_6, ib2_6, ib3_6, ib4_6, ib5_6, ib0_7, ib1_7, ib2_7, ib3_7, ib4_7, ib5_7, ib6_7, ib0_8, ib1_8, ib2_8, ib3_8, ib4_8, ib5_8, ib6_8, ib7_8, ib0_10, ib1_10, ib2_10, ib3_10, ib4_10, ib5_10, ib6_10, ib7_10, ib0_21, ib1_21, ib2_21, ib3_21, ib4_21, ib5_21, ib6_21, ib7_21, ib0_24, ib1_24, ib2_24, ib3_24, ib4_24, ib5_24, ib6_24, ib7_24, nz2, nz3, nz4, nz10, nz1000, if_true, if_false, not_true_eq_false, not_false_eq_true, and_self, and_true, true_and, and_false, false_and, or_true, true_or, or_false, false_or, or_self]
    simp [drK, e25, Int32.mul_comm 2 (10 - sA S 65 w.toNatClampNeg)]
theorem mx0_sub2 {x u : Nat} (hx : x < 2 ^ 30) (hu : u < 2 ^ 31) : (if nI u ≤ nI x then nI x - nI u else 0) = nI (x - u) := by
  by_cases h : u ≤ x
  · rw [if_pos (nI_le h (by omega)), pk_sub h]
  · rw [if_neg (nI_ge (by omega) hu), Nat.sub_eq_zero_of_le (by omega)]
    rfl
/-- the array of rows with one row put in -/
def rowP (f : Nat → Int32) (o : Nat) (g : Nat → Int32) : Nat → Int32 := fun j => if o ≤ j ∧ j < o + 7 then g (j - o) else f j
theorem m_weekGoes (hat : sP S 60 1 = nI o) (ho : o ≤ 14) (hW : WK (sA S 64) (sA S 65) (sA S 66)) (hb : BK (bM S o)) (hw : rg (bM S o 6) 0 23) :
    evM (d + 3) 185 [.ref 60] (HH q S tl) = some (.inl none, HH q (stA S 61 (rowP (sA S 61) o (psF (sA S 64) (sA S 65) (sA S 66) (bM S o)))) tl) := by
  have hi : mx_inb (sA S 61 (o + 6)) 24 = true := hw.inb (by decide) (by decide)
  have hne : ∀ j k : Nat, j ≠ k → ¬ o + j = o + k := fun j k h z => h (Nat.add_left_cancel z)
  cases ha : alv (bM S o) with
  | false =>
    have ha2 : alv (bM (stA S 61 (upd (sA S 61) (o + 6) (sA S 61 (o + 6) + 1))) o) = false := by
      rw [← ha]
      unfold alv bM
      rw [sA_stA1, upd_ap, upd_ap, if_neg (hne 1 6 (by decide)), if_neg (hne 2 6 (by decide))]
    simp only [en185, u185_0, es_ldA0, es_ldN0, es_ldF0, u185_1, u185_3, eiv_2, evV_row, csz_0, csz_i, csz_r, csz_n, csz_f, csz_l, iv20_255_20, eca_u, mm177, Nat.reduceAdd, Nat.reduceLeDiff, if_true, if_false, ezk_n, ezk_v, ezk_s, ezk_x, ezk_if, u185_6, es_stI1, mx_dw_s, mx_dw_n, mx_dw_i, mx_dw_r, mx_dw_u, mx_dw_l, mx_dw_f, u185_7, u185_8, es_gf, eg1, eg2, fl20_7_20, u185_11, u185_12, fl20_104_20, u185_15, u185_17, ei_iadd, u185_18, ei_dup2, u185_19, ei_iald, ea_row, ei_scr, u185_20, u185_21, u185_22, ei_iast, ew_row, u185_23, u185_24, eiv_1, iv20_263_20, mm178, u185_27, ej_ne, u185_30, ei_ret, rt185, u185_31, u185_32, es_ldI1, u185_33, u185_34, u185_35, u185_38, eiv_3, iv20_270_20, mm181, u185_41, es_stI2, u185_42, u185_43, u185_44, u185_45, u185_46, u185_49, iv20_273_20, mm183, u185_52, es_stI3, u185_53, u185_54, u185_57, u185_58, u185_61, u185_62, u185_63, u185_64, u185_65, u185_68, es_ldI2, u185_69, ek_ge_, u185_72, u185_73, u185_76, u185_77, u185_78, u185_81, u185_82, ei_isub, u185_83, u185_84, u185_85, u185_88, u185_89, u185_92, u185_93, u185_94, u185_95, u185_96, u185_99, es_ldI3, u185_100, u185_103, u185_104, u185_107, u185_108, u185_109, u185_112, u185_113, u185_114, u185_115, u185_116, u185_117, u185_118, u185_119, u185_122, iv20_249_20, mm170, u185_125, u185_126, ek_ne_, u185_129, u185_130, u185_131, u185_134, u185_136, u185_139, u185_140, u185_143, u185_144, u185_147, u185_148, u185_149, u185_150, u185_151, u185_152, u185_153, u185_154, kd60, its_6 hat ho, ob60, of60_0, og20_1, sI_P, sP_stA, hat, ar61, wa61, (ix_6 ho).1, (ix_6 ho).2, m_isAlive (S := stA S 61 (upd (sA S 61) (o + 6) (sA S 61 (o + 6) + 1))) hat ho, ha2, zb_f, z0, if_true, if_false, not_true_eq_false, not_false_eq_true, and_self, and_true, true_and, and_false, false_and, or_true, true_or, or_false, false_or, or_self]
    refine congrArg (fun z => some (Sum.inl none, HH q (stA S 61 z) tl)) (funext fun j => ?_)
    unfold rowP psF upd
    rw [ha]
    by_cases c : j = o + 6
    · subst c
      simp [bM]
    · rw [if_neg c]
      split
      · rename_i c2
        rw [if_neg (by omega), if_neg (by decide)]
        unfold bM
        rw [show o + (j - o) = j by omega]
      · rfl
  | true =>
    have hat' : ∀ f, sP (stA S 61 f) 60 1 = nI o := fun _ => hat
    have hbm : ∀ f, bM (stA S 61 f) o = fun k => f (o + k) := fun f => by
      unfold bM
      rw [sA_stA1]
    have ha2 : alv (bM (stA S 61 (upd (sA S 61) (o + 6) (sA S 61 (o + 6) + 1))) o) = true := by
      rw [← ha]
      unfold alv bM
      rw [sA_stA1, upd_ap, upd_ap, if_neg (hne 1 6 (by decide)), if_neg (hne 2 6 (by decide))]
    have hw2 : wgt (bM (stA S 61 (upd (sA S 61) (o + 6) (sA S 61 (o + 6) + 1))) o) = wgt (bM S o) := by
      unfold wgt bM
      rw [sA_stA1, upd_ap, upd_ap, upd_ap, if_neg (hne 1 6 (by decide)), if_neg (hne 2 6 (by decide)), if_neg (hne 3 6 (by decide))]
    have h64 : ∀ f, sA (stA S 61 f) 64 = sA S 64 := fun _ => rfl
    have h65 : ∀ f, sA (stA S 61 f) 65 = sA S 65 := fun _ => rfl
    have h66 : ∀ f, sA (stA S 61 f) 66 = sA S 66 := fun _ => rfl
    have n16 := hne 1 6 (by decide)
    have n26 := hne 2 6 (by decide)
    have n46 := hne 4 6 (by decide)
    have n56 := hne 5 6 (by decide)
    have n21 := hne 2 1 (by decide)
    have n41 := hne 4 1 (by decide)
    have n51 := hne 5 1 (by decide)
    have n42 := hne 4 2 (by decide)
    have n52 := hne 5 2 (by decide)
    simp only [en185, u185_0, es_ldA0, es_ldN0, es_ldF0, u185_1, u185_3, eiv_2, evV_row, csz_0, csz_i, csz_r, csz_n, csz_f, csz_l, iv20_255_20, eca_u, mm177, Nat.reduceAdd, Nat.reduceLeDiff, if_true, if_false, ezk_n, ezk_v, ezk_s, ezk_x, ezk_if, u185_6, es_stI1, mx_dw_s, mx_dw_n, mx_dw_i, mx_dw_r, mx_dw_u, mx_dw_l, mx_dw_f, u185_7, u185_8, es_gf, eg1, eg2, fl20_7_20, u185_11, u185_12, fl20_104_20, u185_15, u185_17, ei_iadd, u185_18, ei_dup2, u185_19, ei_iald, ea_row, ei_scr, u185_20, u185_21, u185_22, ei_iast, ew_row, u185_23, u185_24, eiv_1, iv20_263_20, mm178, u185_27, ej_ne, u185_30, ei_ret, rt185, u185_31, u185_32, es_ldI1, u185_33, u185_34, u185_35, u185_38, eiv_3, iv20_270_20, mm181, u185_41, es_stI2, u185_42, u185_43, u185_44, u185_45, u185_46, u185_49, iv20_273_20, mm183, u185_52, es_stI3, u185_53, u185_54, u185_57, u185_58, u185_61, u185_62, u185_63, u185_64, u185_65, u185_68, es_ldI2, u185_69, ek_ge_, u185_72, u185_73, u185_76, u185_77, u185_78, u185_81, u185_82, ei_isub, u185_84, u185_85, u185_88, u185_89, u185_92, u185_93, u185_94, u185_95, u185_96, u185_99, es_ldI3, u185_100, u185_103, u185_104, u185_107, u185_108, u185_109, u185_112, u185_113, u185_115, u185_116, u185_117, u185_118, u185_119, u185_122, iv20_249_20, mm170, u185_125, u185_126, ek_ne_, u185_129, u185_130, u185_131, u185_134, u185_136, u185_139, u185_140, u185_143, u185_144, u185_147, u185_148, u185_149, u185_150, u185_151, u185_152, u185_153, u185_154, kd60, its_6 hat ho, its_5 (hat' _) ho, its_1 (hat' _) ho, ob60, of60_0, og20_1, sI_P, sP_stA, hat, ar61, wa61, (ix_6 ho).1, (ix_6 ho).2, m_isAlive (hat' _) ho, ha2, zb_t, z1, m_usesOf (hat' _) ho hi, m_driesOf hi, hw2, sA_stA1, h64, h65, h66, upd_ap, n16, n56, ite_ev, if_true, if_false, not_true_eq_false, not_false_eq_true, and_self, and_true, true_and, and_false, false_and, or_true, true_or, or_false, false_or, or_self]
    simp only [u185_0, es_ldA0, es_ldN0, es_ldF0, u185_1, u185_3, eiv_2, evV_row, csz_0, csz_i, csz_r, csz_n, csz_f, csz_l, iv20_255_20, eca_u, mm177, Nat.reduceAdd, Nat.reduceLeDiff, if_true, if_false, ezk_n, ezk_v, ezk_s, ezk_x, ezk_if, u185_6, es_stI1, mx_dw_s, mx_dw_n, mx_dw_i, mx_dw_r, mx_dw_u, mx_dw_l, mx_dw_f, u185_7, u185_8, es_gf, eg1, eg2, fl20_7_20, u185_11, u185_12, fl20_104_20, u185_15, u185_17, ei_iadd, u185_18, ei_dup2, u185_19, ei_iald, ea_row, ei_scr, u185_20, u185_21, u185_22, ei_iast, ew_row, u185_23, u185_24, eiv_1, iv20_263_20, mm178, u185_27, ej_ne, u185_30, ei_ret, rt185, u185_31, u185_32, es_ldI1, u185_33, u185_34, u185_35, u185_38, eiv_3, iv20_270_20, mm181, u185_41, es_stI2, u185_42, u185_43, u185_44, u185_45, u185_46, u185_49, iv20_273_20, mm183, u185_52, es_stI3, u185_53, u185_54, u185_57, u185_58, u185_61, u185_62, u185_63, u185_64, u185_65, u185_68, es_ldI2, u185_69, ek_ge_, u185_72, u185_73, u185_76, u185_77, u185_78, u185_81, u185_82, ei_isub, u185_83, u185_84, u185_85, u185_88, u185_89, u185_92, u185_93, u185_94, u185_95, u185_96, u185_99, es_ldI3, u185_100, u185_103, u185_104, u185_107, u185_108, u185_109, u185_112, u185_113, u185_115, u185_116, u185_117, u185_118, u185_119, u185_122, iv20_249_20, mm170, u185_125, u185_126, ek_ne_, u185_129, u185_130, u185_131, u185_134, u185_136, u185_139, u185_140, u185_143, u185_144, u185_147, u185_148, u185_149, u185_150, u185_151, u185_152, u185_153, u185_154, kd60, its_2 (hat' _) ho, ob60, of60_0, og20_1, sI_P, sP_stA, hat, ar61, wa61, stA_stA, sA_stA1, (ix_1 ho).1, (ix_1 ho).2, upd_ap, n26, n21, ite_ev, if_true, if_false, not_true_eq_false, not_false_eq_true, and_self, and_true, true_and, and_false, false_and, or_true, true_or, or_false, false_or, or_self]
    simp only [u185_0, es_ldA0, es_ldN0, es_ldF0, u185_1, u185_3, eiv_2, evV_row, csz_0, csz_i, csz_r, csz_n, csz_f, csz_l, iv20_255_20, eca_u, mm177, Nat.reduceAdd, Nat.reduceLeDiff, if_true, if_false, ezk_n, ezk_v, ezk_s, ezk_x, ezk_if, u185_6, es_stI1, mx_dw_s, mx_dw_n, mx_dw_i, mx_dw_r, mx_dw_u, mx_dw_l, mx_dw_f, u185_7, u185_8, es_gf, eg1, eg2, fl20_7_20, u185_11, u185_12, fl20_104_20, u185_15, u185_17, ei_iadd, u185_18, ei_dup2, u185_19, ei_iald, ea_row, ei_scr, u185_20, u185_21, u185_22, ei_iast, ew_row, u185_23, u185_24, eiv_1, iv20_263_20, mm178, u185_27, ej_ne, u185_30, ei_ret, rt185, u185_31, u185_32, es_ldI1, u185_33, u185_34, u185_35, u185_38, eiv_3, iv20_270_20, mm181, u185_41, es_stI2, u185_42, u185_43, u185_44, u185_45, u185_46, u185_49, iv20_273_20, mm183, u185_52, es_stI3, u185_53, u185_54, u185_57, u185_58, u185_61, u185_62, u185_63, u185_64, u185_65, u185_68, es_ldI2, u185_69, ek_ge_, u185_72, u185_73, u185_76, u185_77, u185_78, u185_81, u185_82, ei_isub, u185_83, u185_84, u185_85, u185_88, u185_89, u185_92, u185_93, u185_94, u185_95, u185_96, u185_99, es_ldI3, u185_100, u185_103, u185_104, u185_107, u185_108, u185_109, u185_112, u185_113, u185_114, u185_115, u185_116, u185_117, u185_118, u185_119, u185_122, iv20_249_20, mm170, u185_125, u185_126, ek_ne_, u185_129, u185_130, u185_131, u185_134, u185_136, u185_139, u185_140, u185_143, u185_144, u185_147, u185_148, u185_149, u185_150, u185_151, u185_152, u185_153, u185_154, kd60, its_5 (hat' _) ho, its_4 (hat' _) ho, m_kindOf hi, ob60, of60_0, og20_1, sI_P, sP_stA, hat, ar61, wa61, stA_stA, sA_stA1, h64, h65, h66, (ix_2 ho).1, (ix_2 ho).2, (ix_4 ho).1, (ix_4 ho).2, upd_ap, n46, n56, n41, n51, n42, n52, if_true, if_false, not_true_eq_false, not_false_eq_true, and_self, and_true, true_and, and_false, false_and, or_true, true_or, or_false, false_or, or_self]
    obtain ⟨u, hu, eu⟩ := us_nI hW hb hw
    obtain ⟨v, hv, ev⟩ := dr_nI (b := bM S o) hW hw
    obtain ⟨x, -, hx, -, ex, -⟩ := hb.2.1.nI (by decide)
    obtain ⟨y, -, hy, -, ey, -⟩ := hb.2.2.1.nI (by decide)
    have e1 : (if usK (wgt (bM S o) * rtF (sA S 66) (wmt (sA S 64) (sA S 66) (sA S 61 (o + 6)) (sA S 61 (o + 5))) / 1000) (kndF (sA S 64) (sA S 65) (sA S 66) (sA S 61 (o + 6)) (sA S 61 (o + 5))) ≤ sA S 61 (o + 1) then sA S 61 (o + 1) - usK (wgt (bM S o) * rtF (sA S 66) (wmt (sA S 64) (sA S 66) (sA S 61 (o + 6)) (sA S 61 (o + 5))) / 1000) (kndF (sA S 64) (sA S 65) (sA S 66) (sA S 61 (o + 6)) (sA S 61 (o + 5))) else 0) = mx0 (bM S o 1 - usF (sA S 64) (sA S 65) (sA S 66) (bM S o)) := by
      show (if usF (sA S 64) (sA S 65) (sA S 66) (bM S o) ≤ bM S o 1 then bM S o 1 - usF (sA S 64) (sA S 65) (sA S 66) (bM S o) else 0) = _
      rw [ex, eu, (mx0_sub (by omega) (by omega)).1, mx0_sub2 (by omega) (by omega)]
    have e2 : (if drK (sA S 65 (sA S 61 (o + 6)).toNatClampNeg) (kndF (sA S 64) (sA S 65) (sA S 66) (sA S 61 (o + 6)) (sA S 61 (o + 5))) ≤ sA S 61 (o + 2) then sA S 61 (o + 2) - drK (sA S 65 (sA S 61 (o + 6)).toNatClampNeg) (kndF (sA S 64) (sA S 65) (sA S 66) (sA S 61 (o + 6)) (sA S 61 (o + 5))) else 0) = mx0 (bM S o 2 - drF (sA S 64) (sA S 65) (sA S 66) (bM S o)) := by
      show (if drF (sA S 64) (sA S 65) (sA S 66) (bM S o) ≤ bM S o 2 then bM S o 2 - drF (sA S 64) (sA S 65) (sA S 66) (bM S o) else 0) = _
      rw [ey, ev, (mx0_sub (by omega) (by omega)).1, mx0_sub2 (by omega) (by omega)]
    simp only [e1, e2]
    have fin : ∀ (z : Int32), z = mn9 (bM S o 4 + hrK (kndF (sA S 64) (sA S 65) (sA S 66) (bM S o 6) (bM S o 5))) → ∀ j, (if j = o + 4 then z else if j = o + 2 then mx0 (bM S o 2 - drF (sA S 64) (sA S 65) (sA S 66) (bM S o)) else if j = o + 1 then mx0 (bM S o 1 - usF (sA S 64) (sA S 65) (sA S 66) (bM S o)) else if j = o + 6 then sA S 61 (o + 6) + 1 else sA S 61 j) = rowP (sA S 61) o (psF (sA S 64) (sA S 65) (sA S 66) (bM S o)) j := by
      intro z hz j
      unfold rowP psF
      rw [ha, hz]
      by_cases c : o ≤ j ∧ j < o + 7
      · rw [if_pos c]
        obtain ⟨k, rfl⟩ : ∃ k, j = o + k := ⟨j - o, by omega⟩
        rw [Nat.add_sub_cancel_left]
        simp only [Nat.add_left_cancel_iff]
        by_cases c6 : k = 6
        · subst c6; simp [bM]
        · by_cases c4 : k = 4
          · subst c4; simp
          · by_cases c2 : k = 2
            · subst c2; simp
            · by_cases c1 : k = 1
              · subst c1; simp
              · simp [c6, c4, c2, c1, bM]
      · rw [if_neg c, if_neg (by omega), if_neg (by omega), if_neg (by omega), if_neg (by omega)]
    have h4 := hb.2.2.2.2.1
    have h4m : mn9 (bM S o 4) = bM S o 4 := by
      unfold mn9
      split
      · rfl
      · rename_i c
        obtain ⟨z, -, hz, hz3, ez, -⟩ := h4.nI (by decide)
        rw [ez] at c ⊢
        have : ¬ z < 9 := fun h => c (nI_lt h (by decide))
        have : z = 9 := by omega
        rw [this]; rfl
    by_cases k4 : kndF (sA S 64) (sA S 65) (sA S 66) (sA S 61 (o + 6)) (sA S 61 (o + 5)) = 4
    · have k4' : kndF (sA S 64) (sA S 65) (sA S 66) (bM S o 6) (bM S o 5) = 4 := k4
      by_cases c9 : sA S 61 (o + 4) < 9
      · simp only [k4, c9, Int32.not_le.mpr c9, if_true, if_false, not_true_eq_false, not_false_eq_true, and_self, and_true, true_and, and_false, false_and, or_true, true_or, or_false, false_or, or_self]
        refine congrArg (fun z => some (Sum.inl none, HH q (stA S 61 z) tl)) (funext fun j => ?_)
        refine Eq.trans ?_ (fin (sA S 61 (o + 4) + 1) ?_ j)
        · simp only [upd_ap]
        · rw [k4']
          obtain ⟨z, -, hz, hz3, ez, -⟩ := h4.nI (by decide)
          have ez : sA S 61 (o + 4) = nI z := ez
          show _ = mn9 (sA S 61 (o + 4) + hrK 4)
          unfold mn9 hrK
          rw [if_pos rfl]
          split
          · rfl
          · rename_i c
            rw [ez] at c c9 ⊢
            have e : nI z + 1 = nI (z + 1) := nI_add z 1
            rw [e] at c ⊢
            have h1 : z < 9 := (nI_ltI (by omega) (by decide)).mp c9
            have h2 : ¬ z + 1 < 9 := fun h => c (nI_lt h (by decide))
            have : z + 1 = 9 := by omega
            rw [this]; rfl
      · simp only [k4, c9, Int32.not_lt.mp c9, if_true, if_false, not_true_eq_false, not_false_eq_true, and_self, and_true, true_and, and_false, false_and, or_true, true_or, or_false, false_or, or_self]
        refine congrArg (fun z => some (Sum.inl none, HH q (stA S 61 z) tl)) (funext fun j => ?_)
        refine Eq.trans ?_ (fin (sA S 61 (o + 4)) ?_ j)
        · simp only [upd_ap]
          by_cases c4 : j = o + 4
          · subst c4
            rw [if_pos rfl, if_neg n42, if_neg n41, if_neg n46]
          · rw [if_neg c4]
        · rw [k4']
          obtain ⟨z, -, hz, hz3, ez, -⟩ := h4.nI (by decide)
          have ez : sA S 61 (o + 4) = nI z := ez
          show _ = mn9 (sA S 61 (o + 4) + hrK 4)
          unfold mn9 hrK
          rw [if_pos rfl]
          rw [ez] at c9 ⊢
          have h1 : ¬ z < 9 := fun h => c9 (nI_lt h (by decide))
          have : z = 9 := by omega
          subst this
          rfl
    · have k4' : ¬ kndF (sA S 64) (sA S 65) (sA S 66) (bM S o 6) (bM S o 5) = 4 := k4
      simp only [k4, if_true, if_false, not_true_eq_false, not_false_eq_true, and_self, and_true, true_and, and_false, false_and, or_true, true_or, or_false, false_or, or_self]
      refine congrArg (fun z => some (Sum.inl none, HH q (stA S 61 z) tl)) (funext fun j => ?_)
      refine Eq.trans ?_ (fin (sA S 61 (o + 4)) ?_ j)
      · simp only [upd_ap]
        by_cases c4 : j = o + 4
        · subst c4
          rw [if_pos rfl, if_neg n42, if_neg n41, if_neg n46]
        · rw [if_neg c4]
      · unfold hrK
        rw [if_neg k4', Int32.add_zero, h4m]
        rfl
end MXP3
