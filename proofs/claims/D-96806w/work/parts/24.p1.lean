/-! the pure half: first methods -/
set_option maxRecDepth 100000
section MXP1
variable {d : Nat} {h : mx_H} {q : mx_Q} {S : mx_Sg} {tl : List mx_E}
variable {y pc np : Nat} {lo : mx_L}
theorem eca_u {d' y' kd : Nat} {args rest : List Value} : evCa (d' + 1) y pc np lo args rest h kd y' = if mx_csz rest ≤ 8 then (if 20 ≤ kd then evPr (d' + 1) y np lo rest (mx_prim kd args h) else if mx_csz args ≤ mx_max y' then evZK (d' + 1) y pc np lo rest (evM d' y' args h) else none) else none := by
  by_cases c : mx_csz rest ≤ 8
  · rw [if_pos c]
    by_cases k : 20 ≤ kd
    · rw [if_pos k, eca_p k c]
    · rw [if_neg k]
      by_cases e : mx_csz args ≤ mx_max y'
      · rw [if_pos e, eca_m k c e]
      · rw [if_neg e]
        unfold evCa
        rw [if_neg (by omega), if_neg k]
        dsimp only
        rw [if_pos (by omega)]
  · rw [if_neg c]
    unfold evCa
    rw [if_pos (by omega)]
theorem eca_20 {y' : Nat} {args rest : List Value} : evCa d y pc np lo args rest h 20 y' = if mx_csz rest ≤ 8 then evPr d y np lo rest (mx_prim 20 args h) else none := by
  by_cases c : mx_csz rest ≤ 8
  · rw [if_pos c, eca_p (by decide) c]
  · rw [if_neg c]
    unfold evCa
    rw [if_pos (by omega)]
theorem eca_21 {y' : Nat} {args rest : List Value} : evCa d y pc np lo args rest h 21 y' = if mx_csz rest ≤ 8 then evPr d y np lo rest (mx_prim 21 args h) else none := by
  by_cases c : mx_csz rest ≤ 8
  · rw [if_pos c, eca_p (by decide) c]
  · rw [if_neg c]
    unfold evCa
    rw [if_pos (by omega)]
theorem eca_22 {y' : Nat} {args rest : List Value} : evCa d y pc np lo args rest h 22 y' = if mx_csz rest ≤ 8 then evPr d y np lo rest (mx_prim 22 args h) else none := by
  by_cases c : mx_csz rest ≤ 8
  · rw [if_pos c, eca_p (by decide) c]
  · rw [if_neg c]
    unfold evCa
    rw [if_pos (by omega)]
theorem eca_23 {y' : Nat} {args rest : List Value} : evCa d y pc np lo args rest h 23 y' = if mx_csz rest ≤ 8 then evPr d y np lo rest (mx_prim 23 args h) else none := by
  by_cases c : mx_csz rest ≤ 8
  · rw [if_pos c, eca_p (by decide) c]
  · rw [if_neg c]
    unfold evCa
    rw [if_pos (by omega)]
theorem eca_24 {y' : Nat} {args rest : List Value} : evCa d y pc np lo args rest h 24 y' = if mx_csz rest ≤ 8 then evPr d y np lo rest (mx_prim 24 args h) else none := by
  by_cases c : mx_csz rest ≤ 8
  · rw [if_pos c, eca_p (by decide) c]
  · rw [if_neg c]
    unfold evCa
    rw [if_pos (by omega)]
theorem eca_25 {y' : Nat} {args rest : List Value} : evCa d y pc np lo args rest h 25 y' = if mx_csz rest ≤ 8 then evPr d y np lo rest (mx_prim 25 args h) else none := by
  by_cases c : mx_csz rest ≤ 8
  · rw [if_pos c, eca_p (by decide) c]
  · rw [if_neg c]
    unfold evCa
    rw [if_pos (by omega)]
theorem eca_26 {y' : Nat} {args rest : List Value} : evCa d y pc np lo args rest h 26 y' = if mx_csz rest ≤ 8 then evPr d y np lo rest (mx_prim 26 args h) else none := by
  by_cases c : mx_csz rest ≤ 8
  · rw [if_pos c, eca_p (by decide) c]
  · rw [if_neg c]
    unfold evCa
    rw [if_pos (by omega)]
theorem pr_20 {p : Nat} : mx_prim 20 [.ref p] h = some (none, h) := rfl
theorem pr_21 {x y : Int32} : mx_prim 21 [.int x, .int y] h = some (some (.int (if x < y then y else x)), h) := rfl
theorem pr_22 {x y : Int32} : mx_prim 22 [.int x, .int y] h = some (some (.int (if y < x then y else x)), h) := rfl
theorem pr_24 {p : UInt32} : mx_prim 24 [.float p] h = (mx_len p.toNat).map fun l => (some (.int (Int32.ofNat l.length)), h) := rfl
theorem pr_25 {p : UInt32} {i : Int32} : mx_prim 25 [.float p, .int i] h = (mx_len p.toNat).bind fun l => if mx_inb i l.length then some (some (.int (l.getD i.toNatClampNeg 0)), h) else none := rfl
theorem pr_26 {p : Nat} {a b : Int32} : mx_prim 26 [.ref p, .null, .null, .int a, .int b] h = match mx_obj h p with
    | some (c, F) => if a = 0 ∧ b = 0 ∧ (c = 11 ∨ c = 17 ∨ c = 18) then some (none, mx_set h p (.inr (c, va_up (va_up (va_up (va_up F 0 .null) 1 .null) 2 .null) 3 .null))) else none
    | none => none := rfl
/-! the ints of an object, as one function -/
def sP (S : mx_Sg) (p : Nat) : Nat → Int32 := S.1 p
def stP (S : mx_Sg) (p : Nat) (f : Nat → Int32) : mx_Sg := (fun p' => if p' = p then f else S.1 p', S.2)
theorem sI_P {S : mx_Sg} {p k : Nat} : sI S p k = sP S p k := rfl
theorem stI_P {S : mx_Sg} {p k : Nat} {v : Int32} : stI S p k v = stP S p (upd (sP S p) k v) := by
  unfold stI stP upd sP
  refine congrArg (fun z => (z, S.2)) (funext fun p' => ?_)
  by_cases h : p' = p
  · subst h
    rw [if_pos rfl]
    funext k'
    by_cases h2 : k' = k
    · rw [if_pos ⟨rfl, h2⟩, if_pos h2]
    · rw [if_neg (fun z => h2 z.2), if_neg h2]
  · rw [if_neg h]
    funext k'
    rw [if_neg (fun z => h z.1)]
theorem sP_stP {S : mx_Sg} {p p' : Nat} {f : Nat → Int32} : sP (stP S p f) p' = if p' = p then f else sP S p' := rfl
theorem sP_stP1 {S : mx_Sg} {p : Nat} {f : Nat → Int32} : sP (stP S p f) p = f := if_pos rfl
theorem stP_stP {S : mx_Sg} {p : Nat} {f g : Nat → Int32} : stP (stP S p f) p g = stP S p g := by
  unfold stP
  refine congrArg (fun z => (z, S.2)) (funext fun p' => ?_)
  by_cases h : p' = p
  · rw [if_pos h, if_pos h]
  · rw [if_neg h, if_neg h]
    exact if_neg h
theorem stA_stA {S : mx_Sg} {p : Nat} {f g : Nat → Int32} : stA (stA S p f) p g = stA S p g := by
  unfold stA
  refine congrArg (fun z => (S.1, S.2.1, S.2.2.1, z, S.2.2.2.2)) (funext fun p' => ?_)
  by_cases h : p' = p
  · rw [if_pos h, if_pos h]
  · rw [if_neg h, if_neg h]
    exact if_neg h
theorem sR_stP {S : mx_Sg} {p p' k' : Nat} {f : Nat → Int32} : sR (stP S p f) p' k' = sR S p' k' := rfl
theorem sL_stP {S : mx_Sg} {p p' k' : Nat} {f : Nat → Int32} : sL (stP S p f) p' k' = sL S p' k' := rfl
theorem sA_stP {S : mx_Sg} {p p' : Nat} {f : Nat → Int32} : sA (stP S p f) p' = sA S p' := rfl
theorem sB_stP {S : mx_Sg} {p p' : Nat} {f : Nat → Int32} : sB (stP S p f) p' = sB S p' := rfl
theorem sQ_stP {S : mx_Sg} {p p' : Nat} {f : Nat → Int32} : sQ (stP S p f) p' = sQ S p' := rfl
theorem sP_stA {S : mx_Sg} {p p' : Nat} {f : Nat → Int32} : sP (stA S p f) p' = sP S p' := rfl
theorem sP_stR {S : mx_Sg} {p k p' : Nat} {f : Value} : sP (stR S p k f) p' = sP S p' := rfl
theorem sP_stL {S : mx_Sg} {p k p' : Nat} {f : Int64} : sP (stL S p k f) p' = sP S p' := rfl
theorem sP_stB {S : mx_Sg} {p p' : Nat} {f : Nat → Int64} : sP (stB S p f) p' = sP S p' := rfl
theorem sP_stQ {S : mx_Sg} {p p' : Nat} {f : Nat → Option Nat} : sP (stQ S p f) p' = sP S p' := rfl
theorem sA_stA1 {S : mx_Sg} {p : Nat} {f : Nat → Int32} : sA (stA S p f) p = f := if_pos rfl
theorem stP_self {S : mx_Sg} {p : Nat} : stP S p (sP S p) = S := by
  unfold stP sP
  refine congrArg (fun z => (z, S.2)) (funext fun p' => ?_)
  by_cases h : p' = p
  · rw [if_pos h, h]
  · rw [if_neg h]
theorem upd_ap {f : Nat → Int32} {k j : Nat} {x : Int32} : upd f k x j = if j = k then x else f j := rfl
theorem z0 : ((0 : Int32) = 0) = True := eq_self 0
theorem z1 : ((1 : Int32) = 0) = False := eq_false (by decide)
theorem p_in {v a b : Int32} : evM d 2 [.int v, .int a, .int b] h = some (.inl (some (.int (zb (decide (a ≤ v ∧ v ≤ b))))), h) := by
  simp only [en2, u2_0, es_ldI0, u2_1, es_ldI1, u2_2, ek_lt_, u2_5, u2_6, es_ldI2, u2_7, ek_gt_, u2_10, u2_11, u2_14, u2_15, ei_iretz, rt2]
  by_cases c1 : v < a
  · have c2 : ¬ a ≤ v := Int32.not_le.mpr c1
    simp [c1, c2, zb]
  · have c2 : a ≤ v := Int32.not_lt.mp c1
    by_cases c3 : v ≤ b
    · simp [c1, c2, c3, zb, Int32.not_lt.mpr c3]
    · simp [c1, c2, c3, zb, Int32.not_le.mp c3]
theorem p_isWeek {v : Int32} : evM (d + 1) 5 [.int v] h = some (.inl (some (.int (zb (decide (0 ≤ v ∧ v ≤ 23))))), h) := by
  simp only [en5, u5_0, es_ldI0, u5_1, u5_2, u5_4, eis_3, evV_row, csz_0, csz_i, csz_r, csz_n, csz_f, csz_l, iv0_143_0, eca_u, mm2, Nat.reduceAdd, Nat.reduceLeDiff, if_true, if_false, ezk_n, ezk_v, ezk_s, ezk_x, ezk_if, u5_7, ei_iretz, rt5, p_in, zb_ok, if_true]
theorem zb_0 {p : Prop} [Decidable p] : zb (decide p) = 0 ↔ ¬ p := by
  by_cases c : p <;> simp [zb, c]
theorem nn_of {i : Int32} (h : 0 ≤ i) : (i.toNatClampNeg : Int) = i.toInt := by
  have h0 : (0 : Int) ≤ i.toInt := by simpa using Int32.le_iff_toInt_le.mp h
  show ((i.toInt.toNat : Nat) : Int) = i.toInt
  omega
theorem inb_of {i : Int32} {n : Nat} {k : Int32} (hk : k.toInt < n) (h0 : 0 ≤ i) (h1 : i ≤ k) : mx_inb i n = true := by
  unfold mx_inb
  have a := nn_of h0
  have b := Int32.le_iff_toInt_le.mp h1
  rw [decide_eq_true_iff]
  rintro (c | c)
  · exact Int32.not_lt.mpr h0 c
  · omega
theorem p_out {w v : Int32} : evM (d + 2) 4 [.ref 0, .int w, .int v] (HH q S tl) = if (0 ≤ w ∧ w ≤ 23) ∧ (-20 ≤ v ∧ v ≤ 30) then some (.inl (some (.int (sA S 2 w.toNatClampNeg))), HH q (stA S 2 (upd (sA S 2) w.toNatClampNeg v)) tl) else some (.inl (some (.int (-2147483648))), HH q S tl) := by
  simp only [en4, u4_0, es_ldI1, u4_1, eis_1, evV_row, csz_0, csz_i, csz_r, csz_n, csz_f, csz_l, iv0_215_0, eca_u, mm5, Nat.reduceAdd, Nat.reduceLeDiff, if_true, if_false, ezk_n, ezk_v, ezk_s, ezk_x, ezk_if, u4_4, ej_eq, u4_7, es_ldI2, u4_8, u4_10, u4_12, eis_3, iv0_143_0, mm2, u4_15, ej_ne, u4_18, u4_20, ei_ireti, rt4, u4_21, es_ldA0, es_ldN0, es_ldF0, u4_22, es_gf, eg1, eg2, fl0_22_0, u4_25, fl0_220_1, u4_28, u4_29, ei_iald, ea_row, ei_scr, u4_30, es_stI3, mx_dw_s, mx_dw_n, mx_dw_i, mx_dw_r, mx_dw_u, mx_dw_l, mx_dw_f, u4_31, u4_32, u4_35, u4_38, u4_39, u4_40, ei_iast, ew_row, u4_41, es_ldI3, u4_42, p_in, p_isWeek, ob0, ob1, of0_0, of1_3, ar2, wa2]
  by_cases c1 : 0 ≤ w ∧ w ≤ 23
  · have c3 : mx_inb w 24 = true := inb_of (k := 23) (by decide) c1.1 c1.2
    by_cases c2 : -20 ≤ v ∧ v ≤ 30
    · simp only [zb_0, c1, c2, c3, if_true, if_false, not_true_eq_false, not_false_eq_true, and_self, and_true, true_and, and_false, false_and, or_true, true_or, or_false, false_or, or_self]
    · simp only [zb_0, c1, c2, c3, if_true, if_false, not_true_eq_false, not_false_eq_true, and_self, and_true, true_and, and_false, false_and, or_true, true_or, or_false, false_or, or_self]
  · simp only [zb_0, c1, if_true, if_false, not_true_eq_false, not_false_eq_true, and_self, and_true, true_and, and_false, false_and, or_true, true_or, or_false, false_or, or_self]
end MXP1
