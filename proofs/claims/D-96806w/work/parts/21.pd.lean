/-! fields that are written, by program (gen_pd.py) -/
set_option maxRecDepth 100000
/-- a boolean as the machine holds it -/
def zb (b : Bool) : Int32 := if b then 1 else 0
theorem zb_ok (b : Bool) : zb b = 0 ∨ zb b = 1 := by cases b <;> simp [zb]
theorem zb_t : zb true = 1 := rfl
theorem zb_f : zb false = 0 := rfl
theorem zb_d {p : Prop} [Decidable p] : (if p then (1 : Int32) else 0) = zb (decide p) := by by_cases h : p <;> simp [zb, h]
theorem pd0_22_0 {v : Nat} : mx_pfd 0 22 0 true (.ref v) = some 0 := rfl
theorem pd0_22_0n : mx_pfd 0 22 0 true (.null) = some 0 := rfl
theorem pd0_26_0 {v : Nat} : mx_pfd 0 26 0 true (.ref v) = some 1 := rfl
theorem pd0_26_0n : mx_pfd 0 26 0 true (.null) = some 1 := rfl
theorem pd0_29_0 {v : Nat} : mx_pfd 0 29 0 true (.ref v) = some 2 := rfl
theorem pd0_29_0n : mx_pfd 0 29 0 true (.null) = some 2 := rfl
theorem pd0_35_0 {v : Nat} : mx_pfd 0 35 0 true (.ref v) = some 3 := rfl
theorem pd0_35_0n : mx_pfd 0 35 0 true (.null) = some 3 := rfl
theorem pd0_39_0 {v : Nat} : mx_pfd 0 39 0 true (.ref v) = some 4 := rfl
theorem pd0_39_0n : mx_pfd 0 39 0 true (.null) = some 4 := rfl
theorem pd0_64_0 {v : Nat} : mx_pfd 0 64 0 true (.ref v) = some 6 := rfl
theorem pd0_64_0n : mx_pfd 0 64 0 true (.null) = some 6 := rfl
theorem pd0_68_0 {v : Nat} : mx_pfd 0 68 0 true (.ref v) = some 7 := rfl
theorem pd0_68_0n : mx_pfd 0 68 0 true (.null) = some 7 := rfl
theorem pd0_77_0 {v : Nat} : mx_pfd 0 77 0 true (.ref v) = some 9 := rfl
theorem pd0_77_0n : mx_pfd 0 77 0 true (.null) = some 9 := rfl
theorem pd0_81_0 {v : Nat} : mx_pfd 0 81 0 true (.ref v) = some 10 := rfl
theorem pd0_81_0n : mx_pfd 0 81 0 true (.null) = some 10 := rfl
theorem pd0_88_0 {v : Nat} : mx_pfd 0 88 0 true (.ref v) = some 11 := rfl
theorem pd0_88_0n : mx_pfd 0 88 0 true (.null) = some 11 := rfl
theorem pd0_94_0 {v : Nat} : mx_pfd 0 94 0 true (.ref v) = some 15 := rfl
theorem pd0_94_0n : mx_pfd 0 94 0 true (.null) = some 15 := rfl
theorem pd0_101_0 {v : Nat} : mx_pfd 0 101 0 true (.ref v) = some 17 := rfl
theorem pd0_101_0n : mx_pfd 0 101 0 true (.null) = some 17 := rfl
theorem pd0_108_0 {v : Nat} : mx_pfd 0 108 0 true (.ref v) = some 18 := rfl
theorem pd0_108_0n : mx_pfd 0 108 0 true (.null) = some 18 := rfl
theorem pd0_115_0 {v : Nat} : mx_pfd 0 115 0 true (.ref v) = some 19 := rfl
theorem pd0_115_0n : mx_pfd 0 115 0 true (.null) = some 19 := rfl
theorem pd0_122_0 {v : Nat} : mx_pfd 0 122 0 true (.ref v) = some 20 := rfl
theorem pd0_122_0n : mx_pfd 0 122 0 true (.null) = some 20 := rfl
theorem pd0_129_0 {v : Nat} : mx_pfd 0 129 0 true (.ref v) = some 21 := rfl
theorem pd0_129_0n : mx_pfd 0 129 0 true (.null) = some 21 := rfl
theorem pd0_133_0 {v : Nat} : mx_pfd 0 133 0 true (.ref v) = some 22 := rfl
theorem pd0_133_0n : mx_pfd 0 133 0 true (.null) = some 22 := rfl
theorem pd0_139_0 {v : Nat} : mx_pfd 0 139 0 true (.ref v) = some 24 := rfl
theorem pd0_139_0n : mx_pfd 0 139 0 true (.null) = some 24 := rfl
theorem pd0_155_2 {ini : Bool} {v : Int32} : mx_pfd 0 155 2 ini (.int v) = some 6 := rfl
theorem pd0_159_2 {ini : Bool} {v : Int32} : mx_pfd 0 159 2 ini (.int v) = some 5 := rfl
theorem pd0_166_2 {ini : Bool} {v : Int32} : mx_pfd 0 166 2 ini (.int v) = some 1 := rfl
theorem pd0_176_2 {ini : Bool} {v : Int32} : mx_pfd 0 176 2 ini (.int v) = some 2 := rfl
theorem pd0_189_2 {ini : Bool} {v : Int32} : mx_pfd 0 189 2 ini (.int v) = some 4 := rfl
theorem pd0_199_0 {ini : Bool} {v : Int32} : mx_pfd 0 199 0 ini (.int v) = some 8 := rfl
theorem pd0_241_2 {ini : Bool} {v : Int32} : mx_pfd 0 241 2 ini (.int v) = some 0 := rfl
theorem pd0_244_2 {ini : Bool} {v : Int32} : mx_pfd 0 244 2 ini (.int v) = some 3 := rfl
theorem pd0_292_0 {ini : Bool} {v : Int32} : mx_pfd 0 292 0 ini (.int v) = some 14 := rfl
theorem pd0_295_0 {ini : Bool} {v : Int32} : mx_pfd 0 295 0 ini (.int v) = some 13 := rfl
theorem pd0_298_0 {ini : Bool} {v : Int32} : mx_pfd 0 298 0 ini (.int v) = some 12 := rfl
theorem pd0_305_1 {ini : Bool} {v : Int32} : mx_pfd 0 305 1 ini (.int v) = some 2 := rfl
theorem pd0_309_1 {ini : Bool} {v : Int32} : mx_pfd 0 309 1 ini (.int v) = some 1 := rfl
theorem pd0_318_0 {ini : Bool} {v : Int32} : mx_pfd 0 318 0 ini (.int v) = some 16 := rfl
theorem pd0_329_15 {ini : Bool} {v : Int32} : mx_pfd 0 329 15 ini (.int v) = some 2 := rfl
theorem pd0_397_0 {ini : Bool} {v : Int32} : mx_pfd 0 397 0 ini (.int v) = some 23 := rfl
theorem pd0_400_19 {ini : Bool} {v : Int32} : mx_pfd 0 400 19 ini (.int v) = some 0 := rfl
theorem pd0_403_19 {ini : Bool} {v : Int32} : mx_pfd 0 403 19 ini (.int v) = some 1 := rfl
theorem pd0_410_19 {ini : Bool} {v : Nat} : mx_pfd 0 410 19 ini (.ref v) = some 2 := rfl
theorem pd0_410_19n {ini : Bool} : mx_pfd 0 410 19 ini (.null) = some 2 := rfl
theorem pd0_469_0 {ini : Bool} : mx_pfd 0 469 0 ini (.int 0) = some 5 := rfl
theorem pd0_469_0t {ini : Bool} : mx_pfd 0 469 0 ini (.int 1) = some 5 := rfl
theorem pd0_469_0z {ini : Bool} {v : Bool} : mx_pfd 0 469 0 ini (.int (zb v)) = some 5 := by cases v <;> rfl
theorem pd1_9_1 {ini : Bool} {v : Int32} : mx_pfd 1 9 1 ini (.int v) = some 2 := rfl
theorem pd1_15_1 {v : Nat} : mx_pfd 1 15 1 true (.ref v) = some 3 := rfl
theorem pd1_15_1n : mx_pfd 1 15 1 true (.null) = some 3 := rfl
theorem pd1_19_1 {v : Nat} : mx_pfd 1 19 1 true (.ref v) = some 4 := rfl
theorem pd1_19_1n : mx_pfd 1 19 1 true (.null) = some 4 := rfl
theorem pd1_22_1 {v : Nat} : mx_pfd 1 22 1 true (.ref v) = some 5 := rfl
theorem pd1_22_1n : mx_pfd 1 22 1 true (.null) = some 5 := rfl
theorem pd1_25_1 {v : Nat} : mx_pfd 1 25 1 true (.ref v) = some 6 := rfl
theorem pd1_25_1n : mx_pfd 1 25 1 true (.null) = some 6 := rfl
theorem pd1_28_1 {v : Nat} : mx_pfd 1 28 1 true (.ref v) = some 7 := rfl
theorem pd1_28_1n : mx_pfd 1 28 1 true (.null) = some 7 := rfl
theorem pd1_31_1 {v : Nat} : mx_pfd 1 31 1 true (.ref v) = some 8 := rfl
theorem pd1_31_1n : mx_pfd 1 31 1 true (.null) = some 8 := rfl
theorem pd1_36_1 {v : Nat} : mx_pfd 1 36 1 true (.ref v) = some 9 := rfl
theorem pd1_36_1n : mx_pfd 1 36 1 true (.null) = some 9 := rfl
theorem pd1_43_1 {v : Nat} : mx_pfd 1 43 1 true (.ref v) = some 10 := rfl
theorem pd1_43_1n : mx_pfd 1 43 1 true (.null) = some 10 := rfl
theorem pd1_53_1 {ini : Bool} {v : Int32} : mx_pfd 1 53 1 ini (.int v) = some 0 := rfl
theorem pd1_60_1 {ini : Bool} {v : Int32} : mx_pfd 1 60 1 ini (.int v) = some 1 := rfl
theorem pd2_9_2 {ini : Bool} {v : Int32} : mx_pfd 2 9 2 ini (.int v) = some 0 := rfl
theorem pd2_15_2 {ini : Bool} {v : Int32} : mx_pfd 2 15 2 ini (.int v) = some 1 := rfl
theorem pd2_18_2 {ini : Bool} {v : Int32} : mx_pfd 2 18 2 ini (.int v) = some 2 := rfl
theorem pd2_21_2 {ini : Bool} {v : Int32} : mx_pfd 2 21 2 ini (.int v) = some 3 := rfl
theorem pd2_24_2 {ini : Bool} {v : Int32} : mx_pfd 2 24 2 ini (.int v) = some 5 := rfl
theorem pd2_27_2 {ini : Bool} {v : Int32} : mx_pfd 2 27 2 ini (.int v) = some 4 := rfl
theorem pd2_30_2 {ini : Bool} {v : Int32} : mx_pfd 2 30 2 ini (.int v) = some 6 := rfl
theorem pd3_1_4 {v : Nat} : mx_pfd 3 1 4 true (.ref v) = some 0 := rfl
theorem pd3_1_4n : mx_pfd 3 1 4 true (.null) = some 0 := rfl
theorem pd3_1_5 {v : Nat} : mx_pfd 3 1 5 true (.ref v) = some 0 := rfl
theorem pd3_1_5n : mx_pfd 3 1 5 true (.null) = some 0 := rfl
theorem pd3_1_6 {v : Nat} : mx_pfd 3 1 6 true (.ref v) = some 0 := rfl
theorem pd3_1_6n : mx_pfd 3 1 6 true (.null) = some 0 := rfl
theorem pd3_1_7 {v : Nat} : mx_pfd 3 1 7 true (.ref v) = some 0 := rfl
theorem pd3_1_7n : mx_pfd 3 1 7 true (.null) = some 0 := rfl
theorem pd3_1_8 {v : Nat} : mx_pfd 3 1 8 true (.ref v) = some 0 := rfl
theorem pd3_1_8n : mx_pfd 3 1 8 true (.null) = some 0 := rfl
theorem pd3_1_9 {v : Nat} : mx_pfd 3 1 9 true (.ref v) = some 0 := rfl
theorem pd3_1_9n : mx_pfd 3 1 9 true (.null) = some 0 := rfl
theorem pd4_3_4 {v : Nat} : mx_pfd 4 3 4 true (.ref v) = some 1 := rfl
theorem pd4_3_4n : mx_pfd 4 3 4 true (.null) = some 1 := rfl
theorem pd4_3_5 {v : Nat} : mx_pfd 4 3 5 true (.ref v) = some 1 := rfl
theorem pd4_3_5n : mx_pfd 4 3 5 true (.null) = some 1 := rfl
theorem pd4_3_6 {v : Nat} : mx_pfd 4 3 6 true (.ref v) = some 1 := rfl
theorem pd4_3_6n : mx_pfd 4 3 6 true (.null) = some 1 := rfl
theorem pd4_3_7 {v : Nat} : mx_pfd 4 3 7 true (.ref v) = some 1 := rfl
theorem pd4_3_7n : mx_pfd 4 3 7 true (.null) = some 1 := rfl
theorem pd4_3_8 {v : Nat} : mx_pfd 4 3 8 true (.ref v) = some 1 := rfl
theorem pd4_3_8n : mx_pfd 4 3 8 true (.null) = some 1 := rfl
theorem pd4_3_9 {v : Nat} : mx_pfd 4 3 9 true (.ref v) = some 1 := rfl
theorem pd4_3_9n : mx_pfd 4 3 9 true (.null) = some 1 := rfl
theorem pd5_1_5 {v : Nat} : mx_pfd 5 1 5 true (.ref v) = some 2 := rfl
theorem pd5_1_5n : mx_pfd 5 1 5 true (.null) = some 2 := rfl
theorem pd5_1_8 {v : Nat} : mx_pfd 5 1 8 true (.ref v) = some 2 := rfl
theorem pd5_1_8n : mx_pfd 5 1 8 true (.null) = some 2 := rfl
theorem pd6_1_6 {v : Nat} : mx_pfd 6 1 6 true (.ref v) = some 2 := rfl
theorem pd6_1_6n : mx_pfd 6 1 6 true (.null) = some 2 := rfl
theorem pd6_1_7 {v : Nat} : mx_pfd 6 1 7 true (.ref v) = some 2 := rfl
theorem pd6_1_7n : mx_pfd 6 1 7 true (.null) = some 2 := rfl
theorem pd7_1_7 {v : Nat} : mx_pfd 7 1 7 true (.ref v) = some 3 := rfl
theorem pd7_1_7n : mx_pfd 7 1 7 true (.null) = some 3 := rfl
theorem pd8_1_8 {v : Nat} : mx_pfd 8 1 8 true (.ref v) = some 3 := rfl
theorem pd8_1_8n : mx_pfd 8 1 8 true (.null) = some 3 := rfl
theorem pd9_1_9 {v : Nat} : mx_pfd 9 1 9 true (.ref v) = some 2 := rfl
theorem pd9_1_9n : mx_pfd 9 1 9 true (.null) = some 2 := rfl
theorem pd10_23_10 {v : Nat} : mx_pfd 10 23 10 true (.ref v) = some 0 := rfl
theorem pd10_23_10n : mx_pfd 10 23 10 true (.null) = some 0 := rfl
theorem pd10_37_10 {v : Nat} : mx_pfd 10 37 10 true (.ref v) = some 1 := rfl
theorem pd10_37_10n : mx_pfd 10 37 10 true (.null) = some 1 := rfl
theorem pd10_43_10 {v : Nat} : mx_pfd 10 43 10 true (.ref v) = some 3 := rfl
theorem pd10_43_10n : mx_pfd 10 43 10 true (.null) = some 3 := rfl
theorem pd10_47_10 {v : Nat} : mx_pfd 10 47 10 true (.ref v) = some 4 := rfl
theorem pd10_47_10n : mx_pfd 10 47 10 true (.null) = some 4 := rfl
theorem pd10_51_10 {ini : Bool} {v : Int32} : mx_pfd 10 51 10 ini (.int v) = some 7 := rfl
theorem pd10_55_10 {ini : Bool} {v : Int32} : mx_pfd 10 55 10 ini (.int v) = some 6 := rfl
theorem pd10_58_10 {ini : Bool} {v : Nat} : mx_pfd 10 58 10 ini (.ref v) = some 5 := rfl
theorem pd10_58_10n {ini : Bool} : mx_pfd 10 58 10 ini (.null) = some 5 := rfl
theorem pd10_62_10 {ini : Bool} {v : Int32} : mx_pfd 10 62 10 ini (.int v) = some 8 := rfl
theorem pd10_116_10 {ini : Bool} {v : Int32} : mx_pfd 10 116 10 ini (.int v) = some 2 := rfl
theorem pd10_162_1 {ini : Bool} {v : Int32} : mx_pfd 10 162 1 ini (.int v) = some 0 := rfl
theorem pd11_7_11 {ini : Bool} {v : Int32} : mx_pfd 11 7 11 ini (.int v) = some 6 := rfl
theorem pd12_3_13 {v : Nat} : mx_pfd 12 3 13 true (.ref v) = some 1 := rfl
theorem pd12_3_13n : mx_pfd 12 3 13 true (.null) = some 1 := rfl
theorem pd12_3_14 {v : Nat} : mx_pfd 12 3 14 true (.ref v) = some 1 := rfl
theorem pd12_3_14n : mx_pfd 12 3 14 true (.null) = some 1 := rfl
theorem pd12_3_15 {v : Nat} : mx_pfd 12 3 15 true (.ref v) = some 1 := rfl
theorem pd12_3_15n : mx_pfd 12 3 15 true (.null) = some 1 := rfl
theorem pd12_21_13 {ini : Bool} {v : Int32} : mx_pfd 12 21 13 ini (.int v) = some 0 := rfl
theorem pd12_21_14 {ini : Bool} {v : Int32} : mx_pfd 12 21 14 ini (.int v) = some 0 := rfl
theorem pd12_21_15 {ini : Bool} {v : Int32} : mx_pfd 12 21 15 ini (.int v) = some 0 := rfl
theorem pd12_46_2 {ini : Bool} {v : Int32} : mx_pfd 12 46 2 ini (.int v) = some 5 := rfl
theorem pd13_1_13 {v : Nat} : mx_pfd 13 1 13 true (.ref v) = some 2 := rfl
theorem pd13_1_13n : mx_pfd 13 1 13 true (.null) = some 2 := rfl
theorem pd14_1_14 {v : Nat} : mx_pfd 14 1 14 true (.ref v) = some 2 := rfl
theorem pd14_1_14n : mx_pfd 14 1 14 true (.null) = some 2 := rfl
theorem pd15_3_15 {v : Nat} : mx_pfd 15 3 15 true (.ref v) = some 3 := rfl
theorem pd15_3_15n : mx_pfd 15 3 15 true (.null) = some 3 := rfl
theorem pd15_41_15 {ini : Bool} {v : Int32} : mx_pfd 15 41 15 ini (.int v) = some 2 := rfl
theorem pd16_7_16 {ini : Bool} {v : Int32} : mx_pfd 16 7 16 ini (.int v) = some 4 := rfl
theorem pd16_13_16 {ini : Bool} {v : Nat} : mx_pfd 16 13 16 ini (.ref v) = some 0 := rfl
theorem pd16_13_16n {ini : Bool} : mx_pfd 16 13 16 ini (.null) = some 0 := rfl
theorem pd16_17_16 {ini : Bool} {v : Nat} : mx_pfd 16 17 16 ini (.ref v) = some 1 := rfl
theorem pd16_17_16n {ini : Bool} : mx_pfd 16 17 16 ini (.null) = some 1 := rfl
theorem pd16_21_16 {ini : Bool} {v : Nat} : mx_pfd 16 21 16 ini (.ref v) = some 2 := rfl
theorem pd16_21_16n {ini : Bool} : mx_pfd 16 21 16 ini (.null) = some 2 := rfl
theorem pd16_25_16 {ini : Bool} {v : Nat} : mx_pfd 16 25 16 ini (.ref v) = some 3 := rfl
theorem pd16_25_16n {ini : Bool} : mx_pfd 16 25 16 ini (.null) = some 3 := rfl
theorem pd19_7_19 {ini : Bool} {v : Int32} : mx_pfd 19 7 19 ini (.int v) = some 0 := rfl
theorem pd20_7_20 {v : Nat} : mx_pfd 20 7 20 true (.ref v) = some 0 := rfl
theorem pd20_7_20n : mx_pfd 20 7 20 true (.null) = some 0 := rfl
theorem pd20_13_20 {v : Nat} : mx_pfd 20 13 20 true (.ref v) = some 2 := rfl
theorem pd20_13_20n : mx_pfd 20 13 20 true (.null) = some 2 := rfl
theorem pd20_16_20 {v : Nat} : mx_pfd 20 16 20 true (.ref v) = some 3 := rfl
theorem pd20_16_20n : mx_pfd 20 16 20 true (.null) = some 3 := rfl
theorem pd20_19_20 {v : Nat} : mx_pfd 20 19 20 true (.ref v) = some 4 := rfl
theorem pd20_19_20n : mx_pfd 20 19 20 true (.null) = some 4 := rfl
theorem pd20_22_20 {v : Nat} : mx_pfd 20 22 20 true (.ref v) = some 5 := rfl
theorem pd20_22_20n : mx_pfd 20 22 20 true (.null) = some 5 := rfl
theorem pd20_25_20 {v : Nat} : mx_pfd 20 25 20 true (.ref v) = some 6 := rfl
theorem pd20_25_20n : mx_pfd 20 25 20 true (.null) = some 6 := rfl
theorem pd20_28_20 {v : Nat} : mx_pfd 20 28 20 true (.ref v) = some 7 := rfl
theorem pd20_28_20n : mx_pfd 20 28 20 true (.null) = some 7 := rfl
theorem pd20_31_20 {v : Nat} : mx_pfd 20 31 20 true (.ref v) = some 8 := rfl
theorem pd20_31_20n : mx_pfd 20 31 20 true (.null) = some 8 := rfl
theorem pd20_34_20 {v : Nat} : mx_pfd 20 34 20 true (.ref v) = some 10 := rfl
theorem pd20_34_20n : mx_pfd 20 34 20 true (.null) = some 10 := rfl
theorem pd20_37_20 {v : Nat} : mx_pfd 20 37 20 true (.ref v) = some 12 := rfl
theorem pd20_37_20n : mx_pfd 20 37 20 true (.null) = some 12 := rfl
theorem pd20_40_20 {v : Nat} : mx_pfd 20 40 20 true (.ref v) = some 13 := rfl
theorem pd20_40_20n : mx_pfd 20 40 20 true (.null) = some 13 := rfl
theorem pd20_43_20 {ini : Bool} {v : Int32} : mx_pfd 20 43 20 ini (.int v) = some 14 := rfl
theorem pd20_47_20 {v : Nat} : mx_pfd 20 47 20 true (.ref v) = some 15 := rfl
theorem pd20_47_20n : mx_pfd 20 47 20 true (.null) = some 15 := rfl
theorem pd20_50_20 {v : Nat} : mx_pfd 20 50 20 true (.ref v) = some 23 := rfl
theorem pd20_50_20n : mx_pfd 20 50 20 true (.null) = some 23 := rfl
theorem pd20_53_20 {v : Nat} : mx_pfd 20 53 20 true (.ref v) = some 24 := rfl
theorem pd20_53_20n : mx_pfd 20 53 20 true (.null) = some 24 := rfl
theorem pd20_56_20 {v : Nat} : mx_pfd 20 56 20 true (.ref v) = some 25 := rfl
theorem pd20_56_20n : mx_pfd 20 56 20 true (.null) = some 25 := rfl
theorem pd20_59_20 {v : Nat} : mx_pfd 20 59 20 true (.ref v) = some 29 := rfl
theorem pd20_59_20n : mx_pfd 20 59 20 true (.null) = some 29 := rfl
theorem pd20_63_20 {v : Nat} : mx_pfd 20 63 20 true (.ref v) = some 30 := rfl
theorem pd20_63_20n : mx_pfd 20 63 20 true (.null) = some 30 := rfl
theorem pd20_66_20 {v : Nat} : mx_pfd 20 66 20 true (.ref v) = some 31 := rfl
theorem pd20_66_20n : mx_pfd 20 66 20 true (.null) = some 31 := rfl
theorem pd20_69_20 {v : Nat} : mx_pfd 20 69 20 true (.ref v) = some 36 := rfl
theorem pd20_69_20n : mx_pfd 20 69 20 true (.null) = some 36 := rfl
theorem pd20_72_20 {v : Nat} : mx_pfd 20 72 20 true (.ref v) = some 38 := rfl
theorem pd20_72_20n : mx_pfd 20 72 20 true (.null) = some 38 := rfl
theorem pd20_75_20 {v : Nat} : mx_pfd 20 75 20 true (.ref v) = some 39 := rfl
theorem pd20_75_20n : mx_pfd 20 75 20 true (.null) = some 39 := rfl
theorem pd20_78_20 {v : Nat} : mx_pfd 20 78 20 true (.ref v) = some 40 := rfl
theorem pd20_78_20n : mx_pfd 20 78 20 true (.null) = some 40 := rfl
theorem pd20_82_20 {v : Nat} : mx_pfd 20 82 20 true (.ref v) = some 41 := rfl
theorem pd20_82_20n : mx_pfd 20 82 20 true (.null) = some 41 := rfl
theorem pd20_85_20 {v : Nat} : mx_pfd 20 85 20 true (.ref v) = some 42 := rfl
theorem pd20_85_20n : mx_pfd 20 85 20 true (.null) = some 42 := rfl
theorem pd20_88_20 {v : Nat} : mx_pfd 20 88 20 true (.ref v) = some 43 := rfl
theorem pd20_88_20n : mx_pfd 20 88 20 true (.null) = some 43 := rfl
theorem pd20_91_20 {v : Nat} : mx_pfd 20 91 20 true (.ref v) = some 47 := rfl
theorem pd20_91_20n : mx_pfd 20 91 20 true (.null) = some 47 := rfl
theorem pd20_94_20 {v : Nat} : mx_pfd 20 94 20 true (.ref v) = some 51 := rfl
theorem pd20_94_20n : mx_pfd 20 94 20 true (.null) = some 51 := rfl
theorem pd20_97_20 {v : Nat} : mx_pfd 20 97 20 true (.ref v) = some 53 := rfl
theorem pd20_97_20n : mx_pfd 20 97 20 true (.null) = some 53 := rfl
theorem pd20_104_20 {ini : Bool} {v : Int32} : mx_pfd 20 104 20 ini (.int v) = some 1 := rfl
theorem pd20_107_20 {ini : Bool} {v : Int32} : mx_pfd 20 107 20 ini (.int v) = some 16 := rfl
theorem pd20_112_20 {ini : Bool} {v : Int32} : mx_pfd 20 112 20 ini (.int v) = some 19 := rfl
theorem pd20_115_20 {ini : Bool} {v : Int32} : mx_pfd 20 115 20 ini (.int v) = some 18 := rfl
theorem pd20_129_20 {ini : Bool} {v : Int32} : mx_pfd 20 129 20 ini (.int v) = some 17 := rfl
theorem pd20_132_20 {ini : Bool} {v : Int64} : mx_pfd 20 132 20 ini (.long v) = some 20 := rfl
theorem pd20_136_20 {ini : Bool} {v : Int32} : mx_pfd 20 136 20 ini (.int v) = some 21 := rfl
theorem pd20_161_20 {ini : Bool} {v : Int32} : mx_pfd 20 161 20 ini (.int v) = some 26 := rfl
theorem pd20_164_20 {ini : Bool} {v : Int32} : mx_pfd 20 164 20 ini (.int v) = some 27 := rfl
theorem pd20_178_20 {ini : Bool} : mx_pfd 20 178 20 ini (.int 0) = some 22 := rfl
theorem pd20_178_20t {ini : Bool} : mx_pfd 20 178 20 ini (.int 1) = some 22 := rfl
theorem pd20_178_20z {ini : Bool} {v : Bool} : mx_pfd 20 178 20 ini (.int (zb v)) = some 22 := by cases v <;> rfl
theorem pd20_195_20 {ini : Bool} {v : Int32} : mx_pfd 20 195 20 ini (.int v) = some 28 := rfl
theorem pd20_235_20 {ini : Bool} {v : Int32} : mx_pfd 20 235 20 ini (.int v) = some 11 := rfl
theorem pd20_289_20 {ini : Bool} {v : Int32} : mx_pfd 20 289 20 ini (.int v) = some 32 := rfl
theorem pd20_302_20 {ini : Bool} {v : Int32} : mx_pfd 20 302 20 ini (.int v) = some 33 := rfl
theorem pd20_305_20 {ini : Bool} {v : Int32} : mx_pfd 20 305 20 ini (.int v) = some 34 := rfl
theorem pd20_308_20 {ini : Bool} {v : Int32} : mx_pfd 20 308 20 ini (.int v) = some 35 := rfl
theorem pd20_315_20 {ini : Bool} {v : Int32} : mx_pfd 20 315 20 ini (.int v) = some 9 := rfl
theorem pd20_324_20 {ini : Bool} {v : Int32} : mx_pfd 20 324 20 ini (.int v) = some 37 := rfl
theorem pd20_350_20 {ini : Bool} {v : Int32} : mx_pfd 20 350 20 ini (.int v) = some 48 := rfl
theorem pd20_356_20 {ini : Bool} {v : Int32} : mx_pfd 20 356 20 ini (.int v) = some 45 := rfl
theorem pd20_362_20 {ini : Bool} {v : Int32} : mx_pfd 20 362 20 ini (.int v) = some 44 := rfl
theorem pd20_374_20 {ini : Bool} {v : Int32} : mx_pfd 20 374 20 ini (.int v) = some 46 := rfl
theorem pd20_377_20 {ini : Bool} : mx_pfd 20 377 20 ini (.int 0) = some 49 := rfl
theorem pd20_377_20t {ini : Bool} : mx_pfd 20 377 20 ini (.int 1) = some 49 := rfl
theorem pd20_377_20z {ini : Bool} {v : Bool} : mx_pfd 20 377 20 ini (.int (zb v)) = some 49 := by cases v <;> rfl
theorem pd20_395_20 {ini : Bool} {v : Int32} : mx_pfd 20 395 20 ini (.int v) = some 52 := rfl
theorem pd20_406_20 {ini : Bool} : mx_pfd 20 406 20 ini (.int 0) = some 50 := rfl
theorem pd20_406_20t {ini : Bool} : mx_pfd 20 406 20 ini (.int 1) = some 50 := rfl
theorem pd20_406_20z {ini : Bool} {v : Bool} : mx_pfd 20 406 20 ini (.int (zb v)) = some 50 := by cases v <;> rfl
theorem pd22_7_22 {v : Int32} : mx_pfd 22 7 22 true (.int v) = some 0 := rfl
theorem pd22_13_22 {v : Int32} : mx_pfd 22 13 22 true (.int v) = some 1 := rfl
theorem pd22_16_22 {v : Int32} : mx_pfd 22 16 22 true (.int v) = some 2 := rfl
theorem pd23_7_23 {v : Nat} : mx_pfd 23 7 23 true (.ref v) = some 0 := rfl
theorem pd23_7_23n : mx_pfd 23 7 23 true (.null) = some 0 := rfl
theorem pd24_7_25 {v : Nat} : mx_pfd 24 7 25 true (.ref v) = some 0 := rfl
theorem pd24_7_25n : mx_pfd 24 7 25 true (.null) = some 0 := rfl
theorem pd24_7_26 {v : Nat} : mx_pfd 24 7 26 true (.ref v) = some 0 := rfl
theorem pd24_7_26n : mx_pfd 24 7 26 true (.null) = some 0 := rfl
theorem pd24_13_25 {v : Nat} : mx_pfd 24 13 25 true (.ref v) = some 1 := rfl
theorem pd24_13_25n : mx_pfd 24 13 25 true (.null) = some 1 := rfl
theorem pd24_13_26 {v : Nat} : mx_pfd 24 13 26 true (.ref v) = some 1 := rfl
theorem pd24_13_26n : mx_pfd 24 13 26 true (.null) = some 1 := rfl
theorem pd27_7_27 {v : Nat} : mx_pfd 27 7 27 true (.ref v) = some 0 := rfl
theorem pd27_7_27n : mx_pfd 27 7 27 true (.null) = some 0 := rfl
theorem pd28_1_28 {v : Nat} : mx_pfd 28 1 28 true (.ref v) = some 2 := rfl
theorem pd28_1_28n : mx_pfd 28 1 28 true (.null) = some 2 := rfl
theorem pd28_1_29 {v : Nat} : mx_pfd 28 1 29 true (.ref v) = some 2 := rfl
theorem pd28_1_29n : mx_pfd 28 1 29 true (.null) = some 2 := rfl
theorem pd28_1_30 {v : Nat} : mx_pfd 28 1 30 true (.ref v) = some 2 := rfl
theorem pd28_1_30n : mx_pfd 28 1 30 true (.null) = some 2 := rfl
theorem pd28_1_31 {v : Nat} : mx_pfd 28 1 31 true (.ref v) = some 2 := rfl
theorem pd28_1_31n : mx_pfd 28 1 31 true (.null) = some 2 := rfl
theorem pd28_1_32 {v : Nat} : mx_pfd 28 1 32 true (.ref v) = some 2 := rfl
theorem pd28_1_32n : mx_pfd 28 1 32 true (.null) = some 2 := rfl
theorem pd28_1_33 {v : Nat} : mx_pfd 28 1 33 true (.ref v) = some 2 := rfl
theorem pd28_1_33n : mx_pfd 28 1 33 true (.null) = some 2 := rfl
theorem pd28_13_28 {v : Int32} : mx_pfd 28 13 28 true (.int v) = some 0 := rfl
theorem pd28_13_29 {v : Int32} : mx_pfd 28 13 29 true (.int v) = some 0 := rfl
theorem pd28_13_30 {v : Int32} : mx_pfd 28 13 30 true (.int v) = some 0 := rfl
theorem pd28_13_31 {v : Int32} : mx_pfd 28 13 31 true (.int v) = some 0 := rfl
theorem pd28_13_32 {v : Int32} : mx_pfd 28 13 32 true (.int v) = some 0 := rfl
theorem pd28_13_33 {v : Int32} : mx_pfd 28 13 33 true (.int v) = some 0 := rfl
theorem pd28_17_28 {v : Int32} : mx_pfd 28 17 28 true (.int v) = some 1 := rfl
theorem pd28_17_29 {v : Int32} : mx_pfd 28 17 29 true (.int v) = some 1 := rfl
theorem pd28_17_30 {v : Int32} : mx_pfd 28 17 30 true (.int v) = some 1 := rfl
theorem pd28_17_31 {v : Int32} : mx_pfd 28 17 31 true (.int v) = some 1 := rfl
theorem pd28_17_32 {v : Int32} : mx_pfd 28 17 32 true (.int v) = some 1 := rfl
theorem pd28_17_33 {v : Int32} : mx_pfd 28 17 33 true (.int v) = some 1 := rfl
theorem pd29_1_29 {v : Nat} : mx_pfd 29 1 29 true (.ref v) = some 3 := rfl
theorem pd29_1_29n : mx_pfd 29 1 29 true (.null) = some 3 := rfl
theorem pd29_1_30 {v : Nat} : mx_pfd 29 1 30 true (.ref v) = some 3 := rfl
theorem pd29_1_30n : mx_pfd 29 1 30 true (.null) = some 3 := rfl
theorem pd30_1_30 {v : Nat} : mx_pfd 30 1 30 true (.ref v) = some 4 := rfl
theorem pd30_1_30n : mx_pfd 30 1 30 true (.null) = some 4 := rfl
theorem pd31_1_31 {v : Nat} : mx_pfd 31 1 31 true (.ref v) = some 3 := rfl
theorem pd31_1_31n : mx_pfd 31 1 31 true (.null) = some 3 := rfl
theorem pd31_1_33 {v : Nat} : mx_pfd 31 1 33 true (.ref v) = some 3 := rfl
theorem pd31_1_33n : mx_pfd 31 1 33 true (.null) = some 3 := rfl
theorem pd32_1_32 {v : Nat} : mx_pfd 32 1 32 true (.ref v) = some 3 := rfl
theorem pd32_1_32n : mx_pfd 32 1 32 true (.null) = some 3 := rfl
theorem pd33_1_33 {v : Nat} : mx_pfd 33 1 33 true (.ref v) = some 4 := rfl
theorem pd33_1_33n : mx_pfd 33 1 33 true (.null) = some 4 := rfl
theorem rv_n {t : Nat} : mx_rv t none = .null := rfl
theorem rv_5 {k : Nat} : mx_rv 5 (some k) = .ref k := rfl
theorem rv_6 {k : Nat} : mx_rv 6 (some k) = .ref k := rfl
theorem rv_8 {k : Nat} : mx_rv 8 (some k) = .ref k := rfl
theorem rv_9 {k : Nat} : mx_rv 9 (some k) = .ref k := rfl
theorem rv_10 {k : Nat} : mx_rv 10 (some k) = .ref k := rfl
theorem rv_7 {k : Nat} : mx_rv 7 (some k) = .float (UInt32.ofNat k) := rfl
