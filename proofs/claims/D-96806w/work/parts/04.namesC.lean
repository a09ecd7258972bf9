/-! ColdBoxModel -/
set_option maxRecDepth 100000
def RX20 : String := "ColdBoxModel"
def TX20 : u_T := fun k => match k with
  | 0 => ("ColdBoxModel", "row", "[I", true)
  | 1 => ("ColdBoxModel", "at", "I", false)
  | 2 => ("ColdBoxModel", "leastOf", "[I", true)
  | 3 => ("ColdBoxModel", "mostOf", "[I", true)
  | 4 => ("ColdBoxModel", "outs", "[I", true)
  | 5 => ("ColdBoxModel", "airs", "[I", true)
  | 6 => ("ColdBoxModel", "rules", "[I", true)
  | 7 => ("ColdBoxModel", "leastRule", "[I", true)
  | 8 => ("ColdBoxModel", "mostRule", "[I", true)
  | 9 => ("ColdBoxModel", "others", "I", false)
  | 10 => ("ColdBoxModel", "other", "[I", true)
  | 11 => ("ColdBoxModel", "clauses", "I", false)
  | 12 => ("ColdBoxModel", "clause", "[I", true)
  | 13 => ("ColdBoxModel", "signs", "[I", true)
  | 14 => ("ColdBoxModel", "z", "I", false)
  | 15 => ("ColdBoxModel", "tape", "[I", true)
  | 16 => ("ColdBoxModel", "tapeMany", "I", false)
  | 17 => ("ColdBoxModel", "sort", "I", false)
  | 18 => ("ColdBoxModel", "begins", "I", false)
  | 19 => ("ColdBoxModel", "tokenEnds", "I", false)
  | 20 => ("ColdBoxModel", "word", "J", false)
  | 21 => ("ColdBoxModel", "value", "I", false)
  | 22 => ("ColdBoxModel", "good", "Z", false)
  | 23 => ("ColdBoxModel", "facts", "[I", true)
  | 24 => ("ColdBoxModel", "fresh", "[I", true)
  | 25 => ("ColdBoxModel", "pending", "[I", true)
  | 26 => ("ColdBoxModel", "freshMany", "I", false)
  | 27 => ("ColdBoxModel", "pendingMany", "I", false)
  | 28 => ("ColdBoxModel", "open", "I", false)
  | 29 => ("ColdBoxModel", "pile", "[Z", true)
  | 30 => ("ColdBoxModel", "freshClause", "[I", true)
  | 31 => ("ColdBoxModel", "must", "[I", true)
  | 32 => ("ColdBoxModel", "mustMany", "I", false)
  | 33 => ("ColdBoxModel", "bestEyes", "I", false)
  | 34 => ("ColdBoxModel", "bestLeft", "I", false)
  | 35 => ("ColdBoxModel", "bestDigits", "I", false)
  | 36 => ("ColdBoxModel", "rows", "[I", true)
  | 37 => ("ColdBoxModel", "rowMany", "I", false)
  | 38 => ("ColdBoxModel", "sorts", "[I", true)
  | 39 => ("ColdBoxModel", "sizes", "[I", true)
  | 40 => ("ColdBoxModel", "sheets", "[J", true)
  | 41 => ("ColdBoxModel", "held", "[I", true)
  | 42 => ("ColdBoxModel", "heldNumber", "[I", true)
  | 43 => ("ColdBoxModel", "heldSize", "[I", true)
  | 44 => ("ColdBoxModel", "kind", "I", false)
  | 45 => ("ColdBoxModel", "number", "I", false)
  | 46 => ("ColdBoxModel", "own", "I", false)
  | 47 => ("ColdBoxModel", "traced", "[I", true)
  | 48 => ("ColdBoxModel", "bodies", "I", false)
  | 49 => ("ColdBoxModel", "isParted", "Z", false)
  | 50 => ("ColdBoxModel", "isKept", "Z", false)
  | 51 => ("ColdBoxModel", "keptRow", "[I", true)
  | 52 => ("ColdBoxModel", "movedTo", "I", false)
  | _ => ("ColdBoxModel", "single", "[I", true)
def tyX20 : Nat → FieldType := fun k => match k with
  | 0 => .array .int
  | 1 => .int
  | 2 => .array .int
  | 3 => .array .int
  | 4 => .array .int
  | 5 => .array .int
  | 6 => .array .int
  | 7 => .array .int
  | 8 => .array .int
  | 9 => .int
  | 10 => .array .int
  | 11 => .int
  | 12 => .array .int
  | 13 => .array .int
  | 14 => .int
  | 15 => .array .int
  | 16 => .int
  | 17 => .int
  | 18 => .int
  | 19 => .int
  | 20 => .long
  | 21 => .int
  | 22 => .boolean
  | 23 => .array .int
  | 24 => .array .int
  | 25 => .array .int
  | 26 => .int
  | 27 => .int
  | 28 => .int
  | 29 => .array .boolean
  | 30 => .array .int
  | 31 => .array .int
  | 32 => .int
  | 33 => .int
  | 34 => .int
  | 35 => .int
  | 36 => .array .int
  | 37 => .int
  | 38 => .array .int
  | 39 => .array .int
  | 40 => .array .long
  | 41 => .array .int
  | 42 => .array .int
  | 43 => .array .int
  | 44 => .int
  | 45 => .int
  | 46 => .int
  | 47 => .array .int
  | 48 => .int
  | 49 => .boolean
  | 50 => .boolean
  | 51 => .array .int
  | 52 => .int
  | _ => .array .int
abbrev wsX200 : List Cond := u_ws RX20 TX20 54
set_option maxRecDepth 100000 in
theorem nmX20 : ∀ a, a < 54 → ∀ b, b < 54 → a ≠ b → (TX20 a).2.1 ≠ (TX20 b).2.1 := by decide +kernel
set_option maxRecDepth 100000 in
theorem tyX20_ok : ∀ k, k < 54 → parseFieldDescriptor (TX20 k).2.2.1 = some (tyX20 k) := by decide +kernel
abbrev cX20_init : ByteArray := prog_38_method_1_code
def yX20_init : MethodName := ⟨RX20, "<init>", "()V"⟩
def dkwX20_init_31 : List UInt8 := [181, 0, 97, 177]
abbrev dktX20_init_31 : List UInt8 := dkwX20_init_31 ++ []
def dkwX20_init_30 : List UInt8 := [181, 0, 88, 42, 16, 30, 188, 10, 181, 0, 91, 42, 17, 1, 54, 188, 10, 181, 0, 94, 42, 6, 188, 10]
abbrev dktX20_init_30 : List UInt8 := dkwX20_init_30 ++ dktX20_init_31
def dkwX20_init_29 : List UInt8 := [2, 79, 89, 5, 2, 79, 89, 6, 2, 79, 181, 0, 82, 42, 7, 188, 10, 181, 0, 85, 42, 7, 188, 10]
abbrev dktX20_init_29 : List UInt8 := dkwX20_init_29 ++ dktX20_init_30
def dkwX20_init_28 : List UInt8 := [188, 10, 181, 0, 75, 42, 17, 0, 160, 188, 11, 181, 0, 78, 42, 7, 188, 10, 89, 3, 2, 79, 89, 4]
abbrev dktX20_init_28 : List UInt8 := dkwX20_init_28 ++ dktX20_init_29
def dkwX20_init_27 : List UInt8 := [7, 188, 10, 89, 3, 2, 79, 89, 4, 2, 79, 89, 5, 2, 79, 89, 6, 2, 79, 181, 0, 72, 42, 7]
abbrev dktX20_init_27 : List UInt8 := dkwX20_init_27 ++ dktX20_init_28
def dkwX20_init_26 : List UInt8 := [16, 24, 188, 10, 181, 0, 63, 42, 16, 72, 188, 10, 181, 0, 66, 42, 16, 72, 188, 10, 181, 0, 69, 42]
abbrev dktX20_init_26 : List UInt8 := dkwX20_init_26 ++ dktX20_init_27
def dkwX20_init_25 : List UInt8 := [188, 10, 181, 0, 53, 42, 17, 0, 200, 188, 10, 181, 0, 56, 42, 16, 100, 188, 4, 181, 0, 59, 42]
abbrev dktX20_init_25 : List UInt8 := dkwX20_init_25 ++ dktX20_init_26
def dkwX20_init_24 : List UInt8 := [181, 0, 43, 42, 17, 0, 200, 188, 10, 181, 0, 47, 42, 16, 6, 188, 10, 181, 0, 50, 42, 17, 0, 200]
abbrev dktX20_init_24 : List UInt8 := dkwX20_init_24 ++ dktX20_init_25
def dkwX20_init_23 : List UInt8 := [181, 0, 34, 42, 16, 24, 188, 10, 181, 0, 37, 42, 17, 0, 200, 188, 10, 181, 0, 40, 42, 4]
abbrev dktX20_init_23 : List UInt8 := dkwX20_init_23 ++ dktX20_init_24
def dkwX20_init_22 : List UInt8 := [79, 89, 5, 8, 79, 89, 6, 16, 14, 79, 89, 7, 16, 20, 79, 181, 0, 31, 42, 16, 20, 188, 10]
abbrev dktX20_init_22 : List UInt8 := dkwX20_init_22 ++ dktX20_init_23
def dkwX20_init_21 : List UInt8 := [16, 6, 79, 89, 7, 16, 8, 79, 181, 0, 28, 42, 8, 188, 10, 89, 3, 16, 15, 79, 89, 4, 16, 50]
abbrev dktX20_init_21 : List UInt8 := dkwX20_init_21 ++ dktX20_init_22
def dkwX20_init_20 : List UInt8 := [79, 181, 0, 25, 42, 8, 188, 10, 89, 3, 3, 79, 89, 4, 4, 79, 89, 5, 16, 251, 79, 89, 6]
abbrev dktX20_init_20 : List UInt8 := dkwX20_init_20 ++ dktX20_init_21
def dkwX20_init_19 : List UInt8 := [188, 10, 89, 3, 8, 79, 89, 4, 16, 10, 79, 89, 5, 5, 79, 89, 6, 16, 8, 79, 89, 7, 16, 12]
abbrev dktX20_init_19 : List UInt8 := dkwX20_init_19 ++ dktX20_init_20
def dkwX20_init_18 : List UInt8 := [16, 20, 8, 79, 89, 16, 21, 8, 79, 89, 16, 22, 8, 79, 89, 16, 23, 8, 79, 181, 0, 22, 42, 8]
abbrev dktX20_init_18 : List UInt8 := dkwX20_init_18 ++ dktX20_init_19
def dkwX20_init_17 : List UInt8 := [8, 79, 89, 16, 16, 8, 79, 89, 16, 17, 8, 79, 89, 16, 18, 8, 79, 89, 16, 19, 8, 79, 89]
abbrev dktX20_init_17 : List UInt8 := dkwX20_init_17 ++ dktX20_init_18
def dkwX20_init_16 : List UInt8 := [79, 89, 16, 11, 8, 79, 89, 16, 12, 8, 79, 89, 16, 13, 8, 79, 89, 16, 14, 8, 79, 89, 16, 15]
abbrev dktX20_init_16 : List UInt8 := dkwX20_init_16 ++ dktX20_init_17
def dkwX20_init_15 : List UInt8 := [89, 16, 6, 8, 79, 89, 16, 7, 8, 79, 89, 16, 8, 8, 79, 89, 16, 9, 8, 79, 89, 16, 10, 8]
abbrev dktX20_init_15 : List UInt8 := dkwX20_init_15 ++ dktX20_init_16
def dkwX20_init_14 : List UInt8 := [89, 3, 8, 79, 89, 4, 8, 79, 89, 5, 8, 79, 89, 6, 8, 79, 89, 7, 8, 79, 89, 8, 8, 79]
abbrev dktX20_init_14 : List UInt8 := dkwX20_init_14 ++ dktX20_init_15
def dkwX20_init_13 : List UInt8 := [79, 89, 16, 21, 8, 79, 89, 16, 22, 8, 79, 89, 16, 23, 8, 79, 181, 0, 19, 42, 16, 24, 188, 10]
abbrev dktX20_init_13 : List UInt8 := dkwX20_init_13 ++ dktX20_init_14
def dkwX20_init_12 : List UInt8 := [89, 16, 16, 8, 79, 89, 16, 17, 8, 79, 89, 16, 18, 8, 79, 89, 16, 19, 8, 79, 89, 16, 20, 8]
abbrev dktX20_init_12 : List UInt8 := dkwX20_init_12 ++ dktX20_init_13
def dkwX20_init_11 : List UInt8 := [16, 11, 8, 79, 89, 16, 12, 8, 79, 89, 16, 13, 8, 79, 89, 16, 14, 8, 79, 89, 16, 15, 8, 79]
abbrev dktX20_init_11 : List UInt8 := dkwX20_init_11 ++ dktX20_init_12
def dkwX20_init_10 : List UInt8 := [8, 79, 89, 16, 7, 8, 79, 89, 16, 8, 8, 79, 89, 16, 9, 8, 79, 89, 16, 10, 8, 79, 89]
abbrev dktX20_init_10 : List UInt8 := dkwX20_init_10 ++ dktX20_init_11
def dkwX20_init_9 : List UInt8 := [79, 89, 4, 8, 79, 89, 5, 8, 79, 89, 6, 8, 79, 89, 7, 8, 79, 89, 8, 8, 79, 89, 16, 6]
abbrev dktX20_init_9 : List UInt8 := dkwX20_init_9 ++ dktX20_init_10
def dkwX20_init_8 : List UInt8 := [16, 9, 79, 89, 8, 6, 79, 89, 16, 6, 16, 24, 79, 181, 0, 16, 42, 16, 24, 188, 10, 89, 3, 8]
abbrev dktX20_init_8 : List UInt8 := dkwX20_init_8 ++ dktX20_init_9
def dkwX20_init_7 : List UInt8 := [17, 1, 144, 79, 89, 4, 17, 7, 208, 79, 89, 5, 17, 7, 208, 79, 89, 6, 17, 11, 184, 79, 89, 7]
abbrev dktX20_init_7 : List UInt8 := dkwX20_init_7 ++ dktX20_init_8
def dkwX20_init_6 : List UInt8 := [7, 3, 79, 89, 8, 3, 79, 89, 16, 6, 3, 79, 181, 0, 13, 42, 16, 7, 188, 10, 89, 3]
abbrev dktX20_init_6 : List UInt8 := dkwX20_init_6 ++ dktX20_init_7
def dkwX20_init_5 : List UInt8 := [42, 16, 7, 188, 10, 89, 3, 16, 50, 79, 89, 4, 3, 79, 89, 5, 3, 79, 89, 6, 16, 100, 79, 89]
abbrev dktX20_init_5 : List UInt8 := dkwX20_init_5 ++ dktX20_init_6
def dkwX20_init_4 : List UInt8 := [79, 89, 16, 17, 3, 79, 89, 16, 18, 3, 79, 89, 16, 19, 3, 79, 89, 16, 20, 3, 79, 181, 0, 7]
abbrev dktX20_init_4 : List UInt8 := dkwX20_init_4 ++ dktX20_init_5
def dkwX20_init_3 : List UInt8 := [89, 16, 12, 3, 79, 89, 16, 13, 3, 79, 89, 16, 14, 3, 79, 89, 16, 15, 3, 79, 89, 16, 16, 3]
abbrev dktX20_init_3 : List UInt8 := dkwX20_init_3 ++ dktX20_init_4
def dkwX20_init_2 : List UInt8 := [16, 7, 3, 79, 89, 16, 8, 3, 79, 89, 16, 9, 3, 79, 89, 16, 10, 3, 79, 89, 16, 11, 3, 79]
abbrev dktX20_init_2 : List UInt8 := dkwX20_init_2 ++ dktX20_init_3
def dkwX20_init_1 : List UInt8 := [17, 1, 144, 79, 89, 6, 17, 1, 244, 79, 89, 7, 3, 79, 89, 8, 4, 79, 89, 16, 6, 3, 79, 89]
abbrev dktX20_init_1 : List UInt8 := dkwX20_init_1 ++ dktX20_init_2
def dkwX20_init_0 : List UInt8 := [42, 183, 0, 1, 42, 16, 21, 188, 10, 89, 3, 17, 0, 240, 79, 89, 4, 17, 1, 44, 79, 89, 5]
abbrev dktX20_init_0 : List UInt8 := dkwX20_init_0 ++ dktX20_init_1
theorem dksX20_init_0 : cX20_init.data.toList.drop 0 = dktX20_init_0 := by decide +kernel
theorem dksX20_init_1 : cX20_init.data.toList.drop 23 = dktX20_init_1 := dk_seg dksX20_init_0 23 rfl rfl
theorem dksX20_init_2 : cX20_init.data.toList.drop 47 = dktX20_init_2 := dk_seg dksX20_init_1 24 rfl rfl
theorem dksX20_init_3 : cX20_init.data.toList.drop 71 = dktX20_init_3 := dk_seg dksX20_init_2 24 rfl rfl
theorem dksX20_init_4 : cX20_init.data.toList.drop 95 = dktX20_init_4 := dk_seg dksX20_init_3 24 rfl rfl
theorem dksX20_init_5 : cX20_init.data.toList.drop 119 = dktX20_init_5 := dk_seg dksX20_init_4 24 rfl rfl
theorem dksX20_init_6 : cX20_init.data.toList.drop 143 = dktX20_init_6 := dk_seg dksX20_init_5 24 rfl rfl
theorem dksX20_init_7 : cX20_init.data.toList.drop 165 = dktX20_init_7 := dk_seg dksX20_init_6 22 rfl rfl
theorem dksX20_init_8 : cX20_init.data.toList.drop 189 = dktX20_init_8 := dk_seg dksX20_init_7 24 rfl rfl
theorem dksX20_init_9 : cX20_init.data.toList.drop 213 = dktX20_init_9 := dk_seg dksX20_init_8 24 rfl rfl
theorem dksX20_init_10 : cX20_init.data.toList.drop 237 = dktX20_init_10 := dk_seg dksX20_init_9 24 rfl rfl
theorem dksX20_init_11 : cX20_init.data.toList.drop 260 = dktX20_init_11 := dk_seg dksX20_init_10 23 rfl rfl
theorem dksX20_init_12 : cX20_init.data.toList.drop 284 = dktX20_init_12 := dk_seg dksX20_init_11 24 rfl rfl
theorem dksX20_init_13 : cX20_init.data.toList.drop 308 = dktX20_init_13 := dk_seg dksX20_init_12 24 rfl rfl
theorem dksX20_init_14 : cX20_init.data.toList.drop 332 = dktX20_init_14 := dk_seg dksX20_init_13 24 rfl rfl
theorem dksX20_init_15 : cX20_init.data.toList.drop 356 = dktX20_init_15 := dk_seg dksX20_init_14 24 rfl rfl
theorem dksX20_init_16 : cX20_init.data.toList.drop 380 = dktX20_init_16 := dk_seg dksX20_init_15 24 rfl rfl
theorem dksX20_init_17 : cX20_init.data.toList.drop 404 = dktX20_init_17 := dk_seg dksX20_init_16 24 rfl rfl
theorem dksX20_init_18 : cX20_init.data.toList.drop 427 = dktX20_init_18 := dk_seg dksX20_init_17 23 rfl rfl
theorem dksX20_init_19 : cX20_init.data.toList.drop 451 = dktX20_init_19 := dk_seg dksX20_init_18 24 rfl rfl
theorem dksX20_init_20 : cX20_init.data.toList.drop 475 = dktX20_init_20 := dk_seg dksX20_init_19 24 rfl rfl
theorem dksX20_init_21 : cX20_init.data.toList.drop 498 = dktX20_init_21 := dk_seg dksX20_init_20 23 rfl rfl
theorem dksX20_init_22 : cX20_init.data.toList.drop 522 = dktX20_init_22 := dk_seg dksX20_init_21 24 rfl rfl
theorem dksX20_init_23 : cX20_init.data.toList.drop 545 = dktX20_init_23 := dk_seg dksX20_init_22 23 rfl rfl
theorem dksX20_init_24 : cX20_init.data.toList.drop 567 = dktX20_init_24 := dk_seg dksX20_init_23 22 rfl rfl
theorem dksX20_init_25 : cX20_init.data.toList.drop 591 = dktX20_init_25 := dk_seg dksX20_init_24 24 rfl rfl
theorem dksX20_init_26 : cX20_init.data.toList.drop 614 = dktX20_init_26 := dk_seg dksX20_init_25 23 rfl rfl
theorem dksX20_init_27 : cX20_init.data.toList.drop 638 = dktX20_init_27 := dk_seg dksX20_init_26 24 rfl rfl
theorem dksX20_init_28 : cX20_init.data.toList.drop 662 = dktX20_init_28 := dk_seg dksX20_init_27 24 rfl rfl
theorem dksX20_init_29 : cX20_init.data.toList.drop 686 = dktX20_init_29 := dk_seg dksX20_init_28 24 rfl rfl
theorem dksX20_init_30 : cX20_init.data.toList.drop 710 = dktX20_init_30 := dk_seg dksX20_init_29 24 rfl rfl
theorem dksX20_init_31 : cX20_init.data.toList.drop 734 = dktX20_init_31 := dk_seg dksX20_init_30 24 rfl rfl
theorem dX20_init_0 : decode cX20_init 0 = .ok (.aload_n 0, 1) := dk_42 (dk_at dksX20_init_0 0 rfl rfl)
theorem dX20_init_1 : decode cX20_init 1 = .ok (.invokespecial 1, 3) := dk_183 0 1 (dk_at dksX20_init_0 1 rfl rfl)
theorem dX20_init_4 : decode cX20_init 4 = .ok (.aload_n 0, 1) := dk_42 (dk_at dksX20_init_0 4 rfl rfl)
theorem dX20_init_5 : decode cX20_init 5 = .ok (.bipush 21, 2) := dk_16 21 (dk_at dksX20_init_0 5 rfl rfl)
theorem dX20_init_7 : decode cX20_init 7 = .ok (.newarray .int, 2) := dk_188_10 (dk_at dksX20_init_0 7 rfl rfl)
theorem dX20_init_9 : decode cX20_init 9 = .ok (.dup, 1) := dk_89 (dk_at dksX20_init_0 9 rfl rfl)
theorem dX20_init_10 : decode cX20_init 10 = .ok (.iconst 0, 1) := dk_3 (dk_at dksX20_init_0 10 rfl rfl)
theorem dX20_init_11 : decode cX20_init 11 = .ok (.sipush 240, 3) := dk_17 0 240 (dk_at dksX20_init_0 11 rfl rfl)
theorem dX20_init_14 : decode cX20_init 14 = .ok (.iastore, 1) := dk_79 (dk_at dksX20_init_0 14 rfl rfl)
theorem dX20_init_15 : decode cX20_init 15 = .ok (.dup, 1) := dk_89 (dk_at dksX20_init_0 15 rfl rfl)
theorem dX20_init_16 : decode cX20_init 16 = .ok (.iconst 1, 1) := dk_4 (dk_at dksX20_init_0 16 rfl rfl)
theorem dX20_init_17 : decode cX20_init 17 = .ok (.sipush 300, 3) := dk_17 1 44 (dk_at dksX20_init_0 17 rfl rfl)
theorem dX20_init_20 : decode cX20_init 20 = .ok (.iastore, 1) := dk_79 (dk_at dksX20_init_0 20 rfl rfl)
theorem dX20_init_21 : decode cX20_init 21 = .ok (.dup, 1) := dk_89 (dk_at dksX20_init_0 21 rfl rfl)
theorem dX20_init_22 : decode cX20_init 22 = .ok (.iconst 2, 1) := dk_5 (dk_at dksX20_init_0 22 rfl rfl)
theorem dX20_init_23 : decode cX20_init 23 = .ok (.sipush 400, 3) := dk_17 1 144 (dk_at dksX20_init_1 0 rfl rfl)
theorem dX20_init_26 : decode cX20_init 26 = .ok (.iastore, 1) := dk_79 (dk_at dksX20_init_1 3 rfl rfl)
theorem dX20_init_27 : decode cX20_init 27 = .ok (.dup, 1) := dk_89 (dk_at dksX20_init_1 4 rfl rfl)
theorem dX20_init_28 : decode cX20_init 28 = .ok (.iconst 3, 1) := dk_6 (dk_at dksX20_init_1 5 rfl rfl)
theorem dX20_init_29 : decode cX20_init 29 = .ok (.sipush 500, 3) := dk_17 1 244 (dk_at dksX20_init_1 6 rfl rfl)
theorem dX20_init_32 : decode cX20_init 32 = .ok (.iastore, 1) := dk_79 (dk_at dksX20_init_1 9 rfl rfl)
theorem dX20_init_33 : decode cX20_init 33 = .ok (.dup, 1) := dk_89 (dk_at dksX20_init_1 10 rfl rfl)
theorem dX20_init_34 : decode cX20_init 34 = .ok (.iconst 4, 1) := dk_7 (dk_at dksX20_init_1 11 rfl rfl)
theorem dX20_init_35 : decode cX20_init 35 = .ok (.iconst 0, 1) := dk_3 (dk_at dksX20_init_1 12 rfl rfl)
theorem dX20_init_36 : decode cX20_init 36 = .ok (.iastore, 1) := dk_79 (dk_at dksX20_init_1 13 rfl rfl)
theorem dX20_init_37 : decode cX20_init 37 = .ok (.dup, 1) := dk_89 (dk_at dksX20_init_1 14 rfl rfl)
theorem dX20_init_38 : decode cX20_init 38 = .ok (.iconst 5, 1) := dk_8 (dk_at dksX20_init_1 15 rfl rfl)
theorem dX20_init_39 : decode cX20_init 39 = .ok (.iconst 1, 1) := dk_4 (dk_at dksX20_init_1 16 rfl rfl)
theorem dX20_init_40 : decode cX20_init 40 = .ok (.iastore, 1) := dk_79 (dk_at dksX20_init_1 17 rfl rfl)
theorem dX20_init_41 : decode cX20_init 41 = .ok (.dup, 1) := dk_89 (dk_at dksX20_init_1 18 rfl rfl)
theorem dX20_init_42 : decode cX20_init 42 = .ok (.bipush 6, 2) := dk_16 6 (dk_at dksX20_init_1 19 rfl rfl)
theorem dX20_init_44 : decode cX20_init 44 = .ok (.iconst 0, 1) := dk_3 (dk_at dksX20_init_1 21 rfl rfl)
theorem dX20_init_45 : decode cX20_init 45 = .ok (.iastore, 1) := dk_79 (dk_at dksX20_init_1 22 rfl rfl)
theorem dX20_init_46 : decode cX20_init 46 = .ok (.dup, 1) := dk_89 (dk_at dksX20_init_1 23 rfl rfl)
theorem dX20_init_47 : decode cX20_init 47 = .ok (.bipush 7, 2) := dk_16 7 (dk_at dksX20_init_2 0 rfl rfl)
theorem dX20_init_49 : decode cX20_init 49 = .ok (.iconst 0, 1) := dk_3 (dk_at dksX20_init_2 2 rfl rfl)
theorem dX20_init_50 : decode cX20_init 50 = .ok (.iastore, 1) := dk_79 (dk_at dksX20_init_2 3 rfl rfl)
theorem dX20_init_51 : decode cX20_init 51 = .ok (.dup, 1) := dk_89 (dk_at dksX20_init_2 4 rfl rfl)
theorem dX20_init_52 : decode cX20_init 52 = .ok (.bipush 8, 2) := dk_16 8 (dk_at dksX20_init_2 5 rfl rfl)
theorem dX20_init_54 : decode cX20_init 54 = .ok (.iconst 0, 1) := dk_3 (dk_at dksX20_init_2 7 rfl rfl)
theorem dX20_init_55 : decode cX20_init 55 = .ok (.iastore, 1) := dk_79 (dk_at dksX20_init_2 8 rfl rfl)
theorem dX20_init_56 : decode cX20_init 56 = .ok (.dup, 1) := dk_89 (dk_at dksX20_init_2 9 rfl rfl)
theorem dX20_init_57 : decode cX20_init 57 = .ok (.bipush 9, 2) := dk_16 9 (dk_at dksX20_init_2 10 rfl rfl)
theorem dX20_init_59 : decode cX20_init 59 = .ok (.iconst 0, 1) := dk_3 (dk_at dksX20_init_2 12 rfl rfl)
theorem dX20_init_60 : decode cX20_init 60 = .ok (.iastore, 1) := dk_79 (dk_at dksX20_init_2 13 rfl rfl)
theorem dX20_init_61 : decode cX20_init 61 = .ok (.dup, 1) := dk_89 (dk_at dksX20_init_2 14 rfl rfl)
theorem dX20_init_62 : decode cX20_init 62 = .ok (.bipush 10, 2) := dk_16 10 (dk_at dksX20_init_2 15 rfl rfl)
theorem dX20_init_64 : decode cX20_init 64 = .ok (.iconst 0, 1) := dk_3 (dk_at dksX20_init_2 17 rfl rfl)
theorem dX20_init_65 : decode cX20_init 65 = .ok (.iastore, 1) := dk_79 (dk_at dksX20_init_2 18 rfl rfl)
theorem dX20_init_66 : decode cX20_init 66 = .ok (.dup, 1) := dk_89 (dk_at dksX20_init_2 19 rfl rfl)
theorem dX20_init_67 : decode cX20_init 67 = .ok (.bipush 11, 2) := dk_16 11 (dk_at dksX20_init_2 20 rfl rfl)
theorem dX20_init_69 : decode cX20_init 69 = .ok (.iconst 0, 1) := dk_3 (dk_at dksX20_init_2 22 rfl rfl)
theorem dX20_init_70 : decode cX20_init 70 = .ok (.iastore, 1) := dk_79 (dk_at dksX20_init_2 23 rfl rfl)
theorem dX20_init_71 : decode cX20_init 71 = .ok (.dup, 1) := dk_89 (dk_at dksX20_init_3 0 rfl rfl)
theorem dX20_init_72 : decode cX20_init 72 = .ok (.bipush 12, 2) := dk_16 12 (dk_at dksX20_init_3 1 rfl rfl)
theorem dX20_init_74 : decode cX20_init 74 = .ok (.iconst 0, 1) := dk_3 (dk_at dksX20_init_3 3 rfl rfl)
theorem dX20_init_75 : decode cX20_init 75 = .ok (.iastore, 1) := dk_79 (dk_at dksX20_init_3 4 rfl rfl)
theorem dX20_init_76 : decode cX20_init 76 = .ok (.dup, 1) := dk_89 (dk_at dksX20_init_3 5 rfl rfl)
theorem dX20_init_77 : decode cX20_init 77 = .ok (.bipush 13, 2) := dk_16 13 (dk_at dksX20_init_3 6 rfl rfl)
theorem dX20_init_79 : decode cX20_init 79 = .ok (.iconst 0, 1) := dk_3 (dk_at dksX20_init_3 8 rfl rfl)
theorem dX20_init_80 : decode cX20_init 80 = .ok (.iastore, 1) := dk_79 (dk_at dksX20_init_3 9 rfl rfl)
theorem dX20_init_81 : decode cX20_init 81 = .ok (.dup, 1) := dk_89 (dk_at dksX20_init_3 10 rfl rfl)
theorem dX20_init_82 : decode cX20_init 82 = .ok (.bipush 14, 2) := dk_16 14 (dk_at dksX20_init_3 11 rfl rfl)
theorem dX20_init_84 : decode cX20_init 84 = .ok (.iconst 0, 1) := dk_3 (dk_at dksX20_init_3 13 rfl rfl)
theorem dX20_init_85 : decode cX20_init 85 = .ok (.iastore, 1) := dk_79 (dk_at dksX20_init_3 14 rfl rfl)
theorem dX20_init_86 : decode cX20_init 86 = .ok (.dup, 1) := dk_89 (dk_at dksX20_init_3 15 rfl rfl)
theorem dX20_init_87 : decode cX20_init 87 = .ok (.bipush 15, 2) := dk_16 15 (dk_at dksX20_init_3 16 rfl rfl)
theorem dX20_init_89 : decode cX20_init 89 = .ok (.iconst 0, 1) := dk_3 (dk_at dksX20_init_3 18 rfl rfl)
theorem dX20_init_90 : decode cX20_init 90 = .ok (.iastore, 1) := dk_79 (dk_at dksX20_init_3 19 rfl rfl)
theorem dX20_init_91 : decode cX20_init 91 = .ok (.dup, 1) := dk_89 (dk_at dksX20_init_3 20 rfl rfl)
theorem dX20_init_92 : decode cX20_init 92 = .ok (.bipush 16, 2) := dk_16 16 (dk_at dksX20_init_3 21 rfl rfl)
theorem dX20_init_94 : decode cX20_init 94 = .ok (.iconst 0, 1) := dk_3 (dk_at dksX20_init_3 23 rfl rfl)
theorem dX20_init_95 : decode cX20_init 95 = .ok (.iastore, 1) := dk_79 (dk_at dksX20_init_4 0 rfl rfl)
theorem dX20_init_96 : decode cX20_init 96 = .ok (.dup, 1) := dk_89 (dk_at dksX20_init_4 1 rfl rfl)
theorem dX20_init_97 : decode cX20_init 97 = .ok (.bipush 17, 2) := dk_16 17 (dk_at dksX20_init_4 2 rfl rfl)
theorem dX20_init_99 : decode cX20_init 99 = .ok (.iconst 0, 1) := dk_3 (dk_at dksX20_init_4 4 rfl rfl)
theorem dX20_init_100 : decode cX20_init 100 = .ok (.iastore, 1) := dk_79 (dk_at dksX20_init_4 5 rfl rfl)
theorem dX20_init_101 : decode cX20_init 101 = .ok (.dup, 1) := dk_89 (dk_at dksX20_init_4 6 rfl rfl)
theorem dX20_init_102 : decode cX20_init 102 = .ok (.bipush 18, 2) := dk_16 18 (dk_at dksX20_init_4 7 rfl rfl)
theorem dX20_init_104 : decode cX20_init 104 = .ok (.iconst 0, 1) := dk_3 (dk_at dksX20_init_4 9 rfl rfl)
theorem dX20_init_105 : decode cX20_init 105 = .ok (.iastore, 1) := dk_79 (dk_at dksX20_init_4 10 rfl rfl)
theorem dX20_init_106 : decode cX20_init 106 = .ok (.dup, 1) := dk_89 (dk_at dksX20_init_4 11 rfl rfl)
theorem dX20_init_107 : decode cX20_init 107 = .ok (.bipush 19, 2) := dk_16 19 (dk_at dksX20_init_4 12 rfl rfl)
theorem dX20_init_109 : decode cX20_init 109 = .ok (.iconst 0, 1) := dk_3 (dk_at dksX20_init_4 14 rfl rfl)
theorem dX20_init_110 : decode cX20_init 110 = .ok (.iastore, 1) := dk_79 (dk_at dksX20_init_4 15 rfl rfl)
theorem dX20_init_111 : decode cX20_init 111 = .ok (.dup, 1) := dk_89 (dk_at dksX20_init_4 16 rfl rfl)
theorem dX20_init_112 : decode cX20_init 112 = .ok (.bipush 20, 2) := dk_16 20 (dk_at dksX20_init_4 17 rfl rfl)
theorem dX20_init_114 : decode cX20_init 114 = .ok (.iconst 0, 1) := dk_3 (dk_at dksX20_init_4 19 rfl rfl)
theorem dX20_init_115 : decode cX20_init 115 = .ok (.iastore, 1) := dk_79 (dk_at dksX20_init_4 20 rfl rfl)
theorem dX20_init_116 : decode cX20_init 116 = .ok (.putfield 7, 3) := dk_181 0 7 (dk_at dksX20_init_4 21 rfl rfl)
theorem dX20_init_119 : decode cX20_init 119 = .ok (.aload_n 0, 1) := dk_42 (dk_at dksX20_init_5 0 rfl rfl)
theorem dX20_init_120 : decode cX20_init 120 = .ok (.bipush 7, 2) := dk_16 7 (dk_at dksX20_init_5 1 rfl rfl)
theorem dX20_init_122 : decode cX20_init 122 = .ok (.newarray .int, 2) := dk_188_10 (dk_at dksX20_init_5 3 rfl rfl)
theorem dX20_init_124 : decode cX20_init 124 = .ok (.dup, 1) := dk_89 (dk_at dksX20_init_5 5 rfl rfl)
theorem dX20_init_125 : decode cX20_init 125 = .ok (.iconst 0, 1) := dk_3 (dk_at dksX20_init_5 6 rfl rfl)
theorem dX20_init_126 : decode cX20_init 126 = .ok (.bipush 50, 2) := dk_16 50 (dk_at dksX20_init_5 7 rfl rfl)
theorem dX20_init_128 : decode cX20_init 128 = .ok (.iastore, 1) := dk_79 (dk_at dksX20_init_5 9 rfl rfl)
theorem dX20_init_129 : decode cX20_init 129 = .ok (.dup, 1) := dk_89 (dk_at dksX20_init_5 10 rfl rfl)
theorem dX20_init_130 : decode cX20_init 130 = .ok (.iconst 1, 1) := dk_4 (dk_at dksX20_init_5 11 rfl rfl)
theorem dX20_init_131 : decode cX20_init 131 = .ok (.iconst 0, 1) := dk_3 (dk_at dksX20_init_5 12 rfl rfl)
theorem dX20_init_132 : decode cX20_init 132 = .ok (.iastore, 1) := dk_79 (dk_at dksX20_init_5 13 rfl rfl)
theorem dX20_init_133 : decode cX20_init 133 = .ok (.dup, 1) := dk_89 (dk_at dksX20_init_5 14 rfl rfl)
theorem dX20_init_134 : decode cX20_init 134 = .ok (.iconst 2, 1) := dk_5 (dk_at dksX20_init_5 15 rfl rfl)
theorem dX20_init_135 : decode cX20_init 135 = .ok (.iconst 0, 1) := dk_3 (dk_at dksX20_init_5 16 rfl rfl)
theorem dX20_init_136 : decode cX20_init 136 = .ok (.iastore, 1) := dk_79 (dk_at dksX20_init_5 17 rfl rfl)
theorem dX20_init_137 : decode cX20_init 137 = .ok (.dup, 1) := dk_89 (dk_at dksX20_init_5 18 rfl rfl)
theorem dX20_init_138 : decode cX20_init 138 = .ok (.iconst 3, 1) := dk_6 (dk_at dksX20_init_5 19 rfl rfl)
theorem dX20_init_139 : decode cX20_init 139 = .ok (.bipush 100, 2) := dk_16 100 (dk_at dksX20_init_5 20 rfl rfl)
theorem dX20_init_141 : decode cX20_init 141 = .ok (.iastore, 1) := dk_79 (dk_at dksX20_init_5 22 rfl rfl)
theorem dX20_init_142 : decode cX20_init 142 = .ok (.dup, 1) := dk_89 (dk_at dksX20_init_5 23 rfl rfl)
theorem dX20_init_143 : decode cX20_init 143 = .ok (.iconst 4, 1) := dk_7 (dk_at dksX20_init_6 0 rfl rfl)
theorem dX20_init_144 : decode cX20_init 144 = .ok (.iconst 0, 1) := dk_3 (dk_at dksX20_init_6 1 rfl rfl)
theorem dX20_init_145 : decode cX20_init 145 = .ok (.iastore, 1) := dk_79 (dk_at dksX20_init_6 2 rfl rfl)
theorem dX20_init_146 : decode cX20_init 146 = .ok (.dup, 1) := dk_89 (dk_at dksX20_init_6 3 rfl rfl)
theorem dX20_init_147 : decode cX20_init 147 = .ok (.iconst 5, 1) := dk_8 (dk_at dksX20_init_6 4 rfl rfl)
theorem dX20_init_148 : decode cX20_init 148 = .ok (.iconst 0, 1) := dk_3 (dk_at dksX20_init_6 5 rfl rfl)
theorem dX20_init_149 : decode cX20_init 149 = .ok (.iastore, 1) := dk_79 (dk_at dksX20_init_6 6 rfl rfl)
theorem dX20_init_150 : decode cX20_init 150 = .ok (.dup, 1) := dk_89 (dk_at dksX20_init_6 7 rfl rfl)
theorem dX20_init_151 : decode cX20_init 151 = .ok (.bipush 6, 2) := dk_16 6 (dk_at dksX20_init_6 8 rfl rfl)
theorem dX20_init_153 : decode cX20_init 153 = .ok (.iconst 0, 1) := dk_3 (dk_at dksX20_init_6 10 rfl rfl)
theorem dX20_init_154 : decode cX20_init 154 = .ok (.iastore, 1) := dk_79 (dk_at dksX20_init_6 11 rfl rfl)
theorem dX20_init_155 : decode cX20_init 155 = .ok (.putfield 13, 3) := dk_181 0 13 (dk_at dksX20_init_6 12 rfl rfl)
theorem dX20_init_158 : decode cX20_init 158 = .ok (.aload_n 0, 1) := dk_42 (dk_at dksX20_init_6 15 rfl rfl)
theorem dX20_init_159 : decode cX20_init 159 = .ok (.bipush 7, 2) := dk_16 7 (dk_at dksX20_init_6 16 rfl rfl)
theorem dX20_init_161 : decode cX20_init 161 = .ok (.newarray .int, 2) := dk_188_10 (dk_at dksX20_init_6 18 rfl rfl)
theorem dX20_init_163 : decode cX20_init 163 = .ok (.dup, 1) := dk_89 (dk_at dksX20_init_6 20 rfl rfl)
theorem dX20_init_164 : decode cX20_init 164 = .ok (.iconst 0, 1) := dk_3 (dk_at dksX20_init_6 21 rfl rfl)
theorem dX20_init_165 : decode cX20_init 165 = .ok (.sipush 400, 3) := dk_17 1 144 (dk_at dksX20_init_7 0 rfl rfl)
theorem dX20_init_168 : decode cX20_init 168 = .ok (.iastore, 1) := dk_79 (dk_at dksX20_init_7 3 rfl rfl)
theorem dX20_init_169 : decode cX20_init 169 = .ok (.dup, 1) := dk_89 (dk_at dksX20_init_7 4 rfl rfl)
theorem dX20_init_170 : decode cX20_init 170 = .ok (.iconst 1, 1) := dk_4 (dk_at dksX20_init_7 5 rfl rfl)
theorem dX20_init_171 : decode cX20_init 171 = .ok (.sipush 2000, 3) := dk_17 7 208 (dk_at dksX20_init_7 6 rfl rfl)
theorem dX20_init_174 : decode cX20_init 174 = .ok (.iastore, 1) := dk_79 (dk_at dksX20_init_7 9 rfl rfl)
theorem dX20_init_175 : decode cX20_init 175 = .ok (.dup, 1) := dk_89 (dk_at dksX20_init_7 10 rfl rfl)
theorem dX20_init_176 : decode cX20_init 176 = .ok (.iconst 2, 1) := dk_5 (dk_at dksX20_init_7 11 rfl rfl)
theorem dX20_init_177 : decode cX20_init 177 = .ok (.sipush 2000, 3) := dk_17 7 208 (dk_at dksX20_init_7 12 rfl rfl)
theorem dX20_init_180 : decode cX20_init 180 = .ok (.iastore, 1) := dk_79 (dk_at dksX20_init_7 15 rfl rfl)
theorem dX20_init_181 : decode cX20_init 181 = .ok (.dup, 1) := dk_89 (dk_at dksX20_init_7 16 rfl rfl)
theorem dX20_init_182 : decode cX20_init 182 = .ok (.iconst 3, 1) := dk_6 (dk_at dksX20_init_7 17 rfl rfl)
theorem dX20_init_183 : decode cX20_init 183 = .ok (.sipush 3000, 3) := dk_17 11 184 (dk_at dksX20_init_7 18 rfl rfl)
theorem dX20_init_186 : decode cX20_init 186 = .ok (.iastore, 1) := dk_79 (dk_at dksX20_init_7 21 rfl rfl)
theorem dX20_init_187 : decode cX20_init 187 = .ok (.dup, 1) := dk_89 (dk_at dksX20_init_7 22 rfl rfl)
theorem dX20_init_188 : decode cX20_init 188 = .ok (.iconst 4, 1) := dk_7 (dk_at dksX20_init_7 23 rfl rfl)
theorem dX20_init_189 : decode cX20_init 189 = .ok (.bipush 9, 2) := dk_16 9 (dk_at dksX20_init_8 0 rfl rfl)
theorem dX20_init_191 : decode cX20_init 191 = .ok (.iastore, 1) := dk_79 (dk_at dksX20_init_8 2 rfl rfl)
theorem dX20_init_192 : decode cX20_init 192 = .ok (.dup, 1) := dk_89 (dk_at dksX20_init_8 3 rfl rfl)
theorem dX20_init_193 : decode cX20_init 193 = .ok (.iconst 5, 1) := dk_8 (dk_at dksX20_init_8 4 rfl rfl)
theorem dX20_init_194 : decode cX20_init 194 = .ok (.iconst 3, 1) := dk_6 (dk_at dksX20_init_8 5 rfl rfl)
theorem dX20_init_195 : decode cX20_init 195 = .ok (.iastore, 1) := dk_79 (dk_at dksX20_init_8 6 rfl rfl)
theorem dX20_init_196 : decode cX20_init 196 = .ok (.dup, 1) := dk_89 (dk_at dksX20_init_8 7 rfl rfl)
theorem dX20_init_197 : decode cX20_init 197 = .ok (.bipush 6, 2) := dk_16 6 (dk_at dksX20_init_8 8 rfl rfl)
theorem dX20_init_199 : decode cX20_init 199 = .ok (.bipush 24, 2) := dk_16 24 (dk_at dksX20_init_8 10 rfl rfl)
theorem dX20_init_201 : decode cX20_init 201 = .ok (.iastore, 1) := dk_79 (dk_at dksX20_init_8 12 rfl rfl)
theorem dX20_init_202 : decode cX20_init 202 = .ok (.putfield 16, 3) := dk_181 0 16 (dk_at dksX20_init_8 13 rfl rfl)
theorem dX20_init_205 : decode cX20_init 205 = .ok (.aload_n 0, 1) := dk_42 (dk_at dksX20_init_8 16 rfl rfl)
theorem dX20_init_206 : decode cX20_init 206 = .ok (.bipush 24, 2) := dk_16 24 (dk_at dksX20_init_8 17 rfl rfl)
theorem dX20_init_208 : decode cX20_init 208 = .ok (.newarray .int, 2) := dk_188_10 (dk_at dksX20_init_8 19 rfl rfl)
theorem dX20_init_210 : decode cX20_init 210 = .ok (.dup, 1) := dk_89 (dk_at dksX20_init_8 21 rfl rfl)
theorem dX20_init_211 : decode cX20_init 211 = .ok (.iconst 0, 1) := dk_3 (dk_at dksX20_init_8 22 rfl rfl)
theorem dX20_init_212 : decode cX20_init 212 = .ok (.iconst 5, 1) := dk_8 (dk_at dksX20_init_8 23 rfl rfl)
theorem dX20_init_213 : decode cX20_init 213 = .ok (.iastore, 1) := dk_79 (dk_at dksX20_init_9 0 rfl rfl)
theorem dX20_init_214 : decode cX20_init 214 = .ok (.dup, 1) := dk_89 (dk_at dksX20_init_9 1 rfl rfl)
theorem dX20_init_215 : decode cX20_init 215 = .ok (.iconst 1, 1) := dk_4 (dk_at dksX20_init_9 2 rfl rfl)
theorem dX20_init_216 : decode cX20_init 216 = .ok (.iconst 5, 1) := dk_8 (dk_at dksX20_init_9 3 rfl rfl)
theorem dX20_init_217 : decode cX20_init 217 = .ok (.iastore, 1) := dk_79 (dk_at dksX20_init_9 4 rfl rfl)
theorem dX20_init_218 : decode cX20_init 218 = .ok (.dup, 1) := dk_89 (dk_at dksX20_init_9 5 rfl rfl)
theorem dX20_init_219 : decode cX20_init 219 = .ok (.iconst 2, 1) := dk_5 (dk_at dksX20_init_9 6 rfl rfl)
theorem dX20_init_220 : decode cX20_init 220 = .ok (.iconst 5, 1) := dk_8 (dk_at dksX20_init_9 7 rfl rfl)
theorem dX20_init_221 : decode cX20_init 221 = .ok (.iastore, 1) := dk_79 (dk_at dksX20_init_9 8 rfl rfl)
theorem dX20_init_222 : decode cX20_init 222 = .ok (.dup, 1) := dk_89 (dk_at dksX20_init_9 9 rfl rfl)
theorem dX20_init_223 : decode cX20_init 223 = .ok (.iconst 3, 1) := dk_6 (dk_at dksX20_init_9 10 rfl rfl)
theorem dX20_init_224 : decode cX20_init 224 = .ok (.iconst 5, 1) := dk_8 (dk_at dksX20_init_9 11 rfl rfl)
theorem dX20_init_225 : decode cX20_init 225 = .ok (.iastore, 1) := dk_79 (dk_at dksX20_init_9 12 rfl rfl)
theorem dX20_init_226 : decode cX20_init 226 = .ok (.dup, 1) := dk_89 (dk_at dksX20_init_9 13 rfl rfl)
theorem dX20_init_227 : decode cX20_init 227 = .ok (.iconst 4, 1) := dk_7 (dk_at dksX20_init_9 14 rfl rfl)
theorem dX20_init_228 : decode cX20_init 228 = .ok (.iconst 5, 1) := dk_8 (dk_at dksX20_init_9 15 rfl rfl)
theorem dX20_init_229 : decode cX20_init 229 = .ok (.iastore, 1) := dk_79 (dk_at dksX20_init_9 16 rfl rfl)
theorem dX20_init_230 : decode cX20_init 230 = .ok (.dup, 1) := dk_89 (dk_at dksX20_init_9 17 rfl rfl)
theorem dX20_init_231 : decode cX20_init 231 = .ok (.iconst 5, 1) := dk_8 (dk_at dksX20_init_9 18 rfl rfl)
theorem dX20_init_232 : decode cX20_init 232 = .ok (.iconst 5, 1) := dk_8 (dk_at dksX20_init_9 19 rfl rfl)
theorem dX20_init_233 : decode cX20_init 233 = .ok (.iastore, 1) := dk_79 (dk_at dksX20_init_9 20 rfl rfl)
theorem dX20_init_234 : decode cX20_init 234 = .ok (.dup, 1) := dk_89 (dk_at dksX20_init_9 21 rfl rfl)
theorem dX20_init_235 : decode cX20_init 235 = .ok (.bipush 6, 2) := dk_16 6 (dk_at dksX20_init_9 22 rfl rfl)
theorem dX20_init_237 : decode cX20_init 237 = .ok (.iconst 5, 1) := dk_8 (dk_at dksX20_init_10 0 rfl rfl)
theorem dX20_init_238 : decode cX20_init 238 = .ok (.iastore, 1) := dk_79 (dk_at dksX20_init_10 1 rfl rfl)
theorem dX20_init_239 : decode cX20_init 239 = .ok (.dup, 1) := dk_89 (dk_at dksX20_init_10 2 rfl rfl)
theorem dX20_init_240 : decode cX20_init 240 = .ok (.bipush 7, 2) := dk_16 7 (dk_at dksX20_init_10 3 rfl rfl)
theorem dX20_init_242 : decode cX20_init 242 = .ok (.iconst 5, 1) := dk_8 (dk_at dksX20_init_10 5 rfl rfl)
theorem dX20_init_243 : decode cX20_init 243 = .ok (.iastore, 1) := dk_79 (dk_at dksX20_init_10 6 rfl rfl)
theorem dX20_init_244 : decode cX20_init 244 = .ok (.dup, 1) := dk_89 (dk_at dksX20_init_10 7 rfl rfl)
theorem dX20_init_245 : decode cX20_init 245 = .ok (.bipush 8, 2) := dk_16 8 (dk_at dksX20_init_10 8 rfl rfl)
theorem dX20_init_247 : decode cX20_init 247 = .ok (.iconst 5, 1) := dk_8 (dk_at dksX20_init_10 10 rfl rfl)
theorem dX20_init_248 : decode cX20_init 248 = .ok (.iastore, 1) := dk_79 (dk_at dksX20_init_10 11 rfl rfl)
theorem dX20_init_249 : decode cX20_init 249 = .ok (.dup, 1) := dk_89 (dk_at dksX20_init_10 12 rfl rfl)
theorem dX20_init_250 : decode cX20_init 250 = .ok (.bipush 9, 2) := dk_16 9 (dk_at dksX20_init_10 13 rfl rfl)
theorem dX20_init_252 : decode cX20_init 252 = .ok (.iconst 5, 1) := dk_8 (dk_at dksX20_init_10 15 rfl rfl)
theorem dX20_init_253 : decode cX20_init 253 = .ok (.iastore, 1) := dk_79 (dk_at dksX20_init_10 16 rfl rfl)
theorem dX20_init_254 : decode cX20_init 254 = .ok (.dup, 1) := dk_89 (dk_at dksX20_init_10 17 rfl rfl)
theorem dX20_init_255 : decode cX20_init 255 = .ok (.bipush 10, 2) := dk_16 10 (dk_at dksX20_init_10 18 rfl rfl)
theorem dX20_init_257 : decode cX20_init 257 = .ok (.iconst 5, 1) := dk_8 (dk_at dksX20_init_10 20 rfl rfl)
theorem dX20_init_258 : decode cX20_init 258 = .ok (.iastore, 1) := dk_79 (dk_at dksX20_init_10 21 rfl rfl)
theorem dX20_init_259 : decode cX20_init 259 = .ok (.dup, 1) := dk_89 (dk_at dksX20_init_10 22 rfl rfl)
theorem dX20_init_260 : decode cX20_init 260 = .ok (.bipush 11, 2) := dk_16 11 (dk_at dksX20_init_11 0 rfl rfl)
theorem dX20_init_262 : decode cX20_init 262 = .ok (.iconst 5, 1) := dk_8 (dk_at dksX20_init_11 2 rfl rfl)
theorem dX20_init_263 : decode cX20_init 263 = .ok (.iastore, 1) := dk_79 (dk_at dksX20_init_11 3 rfl rfl)
theorem dX20_init_264 : decode cX20_init 264 = .ok (.dup, 1) := dk_89 (dk_at dksX20_init_11 4 rfl rfl)
theorem dX20_init_265 : decode cX20_init 265 = .ok (.bipush 12, 2) := dk_16 12 (dk_at dksX20_init_11 5 rfl rfl)
theorem dX20_init_267 : decode cX20_init 267 = .ok (.iconst 5, 1) := dk_8 (dk_at dksX20_init_11 7 rfl rfl)
theorem dX20_init_268 : decode cX20_init 268 = .ok (.iastore, 1) := dk_79 (dk_at dksX20_init_11 8 rfl rfl)
theorem dX20_init_269 : decode cX20_init 269 = .ok (.dup, 1) := dk_89 (dk_at dksX20_init_11 9 rfl rfl)
theorem dX20_init_270 : decode cX20_init 270 = .ok (.bipush 13, 2) := dk_16 13 (dk_at dksX20_init_11 10 rfl rfl)
theorem dX20_init_272 : decode cX20_init 272 = .ok (.iconst 5, 1) := dk_8 (dk_at dksX20_init_11 12 rfl rfl)
theorem dX20_init_273 : decode cX20_init 273 = .ok (.iastore, 1) := dk_79 (dk_at dksX20_init_11 13 rfl rfl)
theorem dX20_init_274 : decode cX20_init 274 = .ok (.dup, 1) := dk_89 (dk_at dksX20_init_11 14 rfl rfl)
theorem dX20_init_275 : decode cX20_init 275 = .ok (.bipush 14, 2) := dk_16 14 (dk_at dksX20_init_11 15 rfl rfl)
theorem dX20_init_277 : decode cX20_init 277 = .ok (.iconst 5, 1) := dk_8 (dk_at dksX20_init_11 17 rfl rfl)
theorem dX20_init_278 : decode cX20_init 278 = .ok (.iastore, 1) := dk_79 (dk_at dksX20_init_11 18 rfl rfl)
theorem dX20_init_279 : decode cX20_init 279 = .ok (.dup, 1) := dk_89 (dk_at dksX20_init_11 19 rfl rfl)
theorem dX20_init_280 : decode cX20_init 280 = .ok (.bipush 15, 2) := dk_16 15 (dk_at dksX20_init_11 20 rfl rfl)
theorem dX20_init_282 : decode cX20_init 282 = .ok (.iconst 5, 1) := dk_8 (dk_at dksX20_init_11 22 rfl rfl)
theorem dX20_init_283 : decode cX20_init 283 = .ok (.iastore, 1) := dk_79 (dk_at dksX20_init_11 23 rfl rfl)
theorem dX20_init_284 : decode cX20_init 284 = .ok (.dup, 1) := dk_89 (dk_at dksX20_init_12 0 rfl rfl)
theorem dX20_init_285 : decode cX20_init 285 = .ok (.bipush 16, 2) := dk_16 16 (dk_at dksX20_init_12 1 rfl rfl)
theorem dX20_init_287 : decode cX20_init 287 = .ok (.iconst 5, 1) := dk_8 (dk_at dksX20_init_12 3 rfl rfl)
theorem dX20_init_288 : decode cX20_init 288 = .ok (.iastore, 1) := dk_79 (dk_at dksX20_init_12 4 rfl rfl)
theorem dX20_init_289 : decode cX20_init 289 = .ok (.dup, 1) := dk_89 (dk_at dksX20_init_12 5 rfl rfl)
theorem dX20_init_290 : decode cX20_init 290 = .ok (.bipush 17, 2) := dk_16 17 (dk_at dksX20_init_12 6 rfl rfl)
theorem dX20_init_292 : decode cX20_init 292 = .ok (.iconst 5, 1) := dk_8 (dk_at dksX20_init_12 8 rfl rfl)
theorem dX20_init_293 : decode cX20_init 293 = .ok (.iastore, 1) := dk_79 (dk_at dksX20_init_12 9 rfl rfl)
theorem dX20_init_294 : decode cX20_init 294 = .ok (.dup, 1) := dk_89 (dk_at dksX20_init_12 10 rfl rfl)
theorem dX20_init_295 : decode cX20_init 295 = .ok (.bipush 18, 2) := dk_16 18 (dk_at dksX20_init_12 11 rfl rfl)
theorem dX20_init_297 : decode cX20_init 297 = .ok (.iconst 5, 1) := dk_8 (dk_at dksX20_init_12 13 rfl rfl)
theorem dX20_init_298 : decode cX20_init 298 = .ok (.iastore, 1) := dk_79 (dk_at dksX20_init_12 14 rfl rfl)
theorem dX20_init_299 : decode cX20_init 299 = .ok (.dup, 1) := dk_89 (dk_at dksX20_init_12 15 rfl rfl)
theorem dX20_init_300 : decode cX20_init 300 = .ok (.bipush 19, 2) := dk_16 19 (dk_at dksX20_init_12 16 rfl rfl)
theorem dX20_init_302 : decode cX20_init 302 = .ok (.iconst 5, 1) := dk_8 (dk_at dksX20_init_12 18 rfl rfl)
theorem dX20_init_303 : decode cX20_init 303 = .ok (.iastore, 1) := dk_79 (dk_at dksX20_init_12 19 rfl rfl)
theorem dX20_init_304 : decode cX20_init 304 = .ok (.dup, 1) := dk_89 (dk_at dksX20_init_12 20 rfl rfl)
theorem dX20_init_305 : decode cX20_init 305 = .ok (.bipush 20, 2) := dk_16 20 (dk_at dksX20_init_12 21 rfl rfl)
theorem dX20_init_307 : decode cX20_init 307 = .ok (.iconst 5, 1) := dk_8 (dk_at dksX20_init_12 23 rfl rfl)
theorem dX20_init_308 : decode cX20_init 308 = .ok (.iastore, 1) := dk_79 (dk_at dksX20_init_13 0 rfl rfl)
theorem dX20_init_309 : decode cX20_init 309 = .ok (.dup, 1) := dk_89 (dk_at dksX20_init_13 1 rfl rfl)
theorem dX20_init_310 : decode cX20_init 310 = .ok (.bipush 21, 2) := dk_16 21 (dk_at dksX20_init_13 2 rfl rfl)
theorem dX20_init_312 : decode cX20_init 312 = .ok (.iconst 5, 1) := dk_8 (dk_at dksX20_init_13 4 rfl rfl)
theorem dX20_init_313 : decode cX20_init 313 = .ok (.iastore, 1) := dk_79 (dk_at dksX20_init_13 5 rfl rfl)
theorem dX20_init_314 : decode cX20_init 314 = .ok (.dup, 1) := dk_89 (dk_at dksX20_init_13 6 rfl rfl)
theorem dX20_init_315 : decode cX20_init 315 = .ok (.bipush 22, 2) := dk_16 22 (dk_at dksX20_init_13 7 rfl rfl)
theorem dX20_init_317 : decode cX20_init 317 = .ok (.iconst 5, 1) := dk_8 (dk_at dksX20_init_13 9 rfl rfl)
theorem dX20_init_318 : decode cX20_init 318 = .ok (.iastore, 1) := dk_79 (dk_at dksX20_init_13 10 rfl rfl)
theorem dX20_init_319 : decode cX20_init 319 = .ok (.dup, 1) := dk_89 (dk_at dksX20_init_13 11 rfl rfl)
theorem dX20_init_320 : decode cX20_init 320 = .ok (.bipush 23, 2) := dk_16 23 (dk_at dksX20_init_13 12 rfl rfl)
theorem dX20_init_322 : decode cX20_init 322 = .ok (.iconst 5, 1) := dk_8 (dk_at dksX20_init_13 14 rfl rfl)
theorem dX20_init_323 : decode cX20_init 323 = .ok (.iastore, 1) := dk_79 (dk_at dksX20_init_13 15 rfl rfl)
theorem dX20_init_324 : decode cX20_init 324 = .ok (.putfield 19, 3) := dk_181 0 19 (dk_at dksX20_init_13 16 rfl rfl)
theorem dX20_init_327 : decode cX20_init 327 = .ok (.aload_n 0, 1) := dk_42 (dk_at dksX20_init_13 19 rfl rfl)
theorem dX20_init_328 : decode cX20_init 328 = .ok (.bipush 24, 2) := dk_16 24 (dk_at dksX20_init_13 20 rfl rfl)
theorem dX20_init_330 : decode cX20_init 330 = .ok (.newarray .int, 2) := dk_188_10 (dk_at dksX20_init_13 22 rfl rfl)
theorem dX20_init_332 : decode cX20_init 332 = .ok (.dup, 1) := dk_89 (dk_at dksX20_init_14 0 rfl rfl)
theorem dX20_init_333 : decode cX20_init 333 = .ok (.iconst 0, 1) := dk_3 (dk_at dksX20_init_14 1 rfl rfl)
theorem dX20_init_334 : decode cX20_init 334 = .ok (.iconst 5, 1) := dk_8 (dk_at dksX20_init_14 2 rfl rfl)
theorem dX20_init_335 : decode cX20_init 335 = .ok (.iastore, 1) := dk_79 (dk_at dksX20_init_14 3 rfl rfl)
theorem dX20_init_336 : decode cX20_init 336 = .ok (.dup, 1) := dk_89 (dk_at dksX20_init_14 4 rfl rfl)
theorem dX20_init_337 : decode cX20_init 337 = .ok (.iconst 1, 1) := dk_4 (dk_at dksX20_init_14 5 rfl rfl)
theorem dX20_init_338 : decode cX20_init 338 = .ok (.iconst 5, 1) := dk_8 (dk_at dksX20_init_14 6 rfl rfl)
theorem dX20_init_339 : decode cX20_init 339 = .ok (.iastore, 1) := dk_79 (dk_at dksX20_init_14 7 rfl rfl)
theorem dX20_init_340 : decode cX20_init 340 = .ok (.dup, 1) := dk_89 (dk_at dksX20_init_14 8 rfl rfl)
theorem dX20_init_341 : decode cX20_init 341 = .ok (.iconst 2, 1) := dk_5 (dk_at dksX20_init_14 9 rfl rfl)
theorem dX20_init_342 : decode cX20_init 342 = .ok (.iconst 5, 1) := dk_8 (dk_at dksX20_init_14 10 rfl rfl)
theorem dX20_init_343 : decode cX20_init 343 = .ok (.iastore, 1) := dk_79 (dk_at dksX20_init_14 11 rfl rfl)
theorem dX20_init_344 : decode cX20_init 344 = .ok (.dup, 1) := dk_89 (dk_at dksX20_init_14 12 rfl rfl)
theorem dX20_init_345 : decode cX20_init 345 = .ok (.iconst 3, 1) := dk_6 (dk_at dksX20_init_14 13 rfl rfl)
theorem dX20_init_346 : decode cX20_init 346 = .ok (.iconst 5, 1) := dk_8 (dk_at dksX20_init_14 14 rfl rfl)
theorem dX20_init_347 : decode cX20_init 347 = .ok (.iastore, 1) := dk_79 (dk_at dksX20_init_14 15 rfl rfl)
theorem dX20_init_348 : decode cX20_init 348 = .ok (.dup, 1) := dk_89 (dk_at dksX20_init_14 16 rfl rfl)
theorem dX20_init_349 : decode cX20_init 349 = .ok (.iconst 4, 1) := dk_7 (dk_at dksX20_init_14 17 rfl rfl)
theorem dX20_init_350 : decode cX20_init 350 = .ok (.iconst 5, 1) := dk_8 (dk_at dksX20_init_14 18 rfl rfl)
theorem dX20_init_351 : decode cX20_init 351 = .ok (.iastore, 1) := dk_79 (dk_at dksX20_init_14 19 rfl rfl)
theorem dX20_init_352 : decode cX20_init 352 = .ok (.dup, 1) := dk_89 (dk_at dksX20_init_14 20 rfl rfl)
theorem dX20_init_353 : decode cX20_init 353 = .ok (.iconst 5, 1) := dk_8 (dk_at dksX20_init_14 21 rfl rfl)
theorem dX20_init_354 : decode cX20_init 354 = .ok (.iconst 5, 1) := dk_8 (dk_at dksX20_init_14 22 rfl rfl)
theorem dX20_init_355 : decode cX20_init 355 = .ok (.iastore, 1) := dk_79 (dk_at dksX20_init_14 23 rfl rfl)
theorem dX20_init_356 : decode cX20_init 356 = .ok (.dup, 1) := dk_89 (dk_at dksX20_init_15 0 rfl rfl)
theorem dX20_init_357 : decode cX20_init 357 = .ok (.bipush 6, 2) := dk_16 6 (dk_at dksX20_init_15 1 rfl rfl)
theorem dX20_init_359 : decode cX20_init 359 = .ok (.iconst 5, 1) := dk_8 (dk_at dksX20_init_15 3 rfl rfl)
theorem dX20_init_360 : decode cX20_init 360 = .ok (.iastore, 1) := dk_79 (dk_at dksX20_init_15 4 rfl rfl)
theorem dX20_init_361 : decode cX20_init 361 = .ok (.dup, 1) := dk_89 (dk_at dksX20_init_15 5 rfl rfl)
theorem dX20_init_362 : decode cX20_init 362 = .ok (.bipush 7, 2) := dk_16 7 (dk_at dksX20_init_15 6 rfl rfl)
theorem dX20_init_364 : decode cX20_init 364 = .ok (.iconst 5, 1) := dk_8 (dk_at dksX20_init_15 8 rfl rfl)
theorem dX20_init_365 : decode cX20_init 365 = .ok (.iastore, 1) := dk_79 (dk_at dksX20_init_15 9 rfl rfl)
theorem dX20_init_366 : decode cX20_init 366 = .ok (.dup, 1) := dk_89 (dk_at dksX20_init_15 10 rfl rfl)
theorem dX20_init_367 : decode cX20_init 367 = .ok (.bipush 8, 2) := dk_16 8 (dk_at dksX20_init_15 11 rfl rfl)
theorem dX20_init_369 : decode cX20_init 369 = .ok (.iconst 5, 1) := dk_8 (dk_at dksX20_init_15 13 rfl rfl)
theorem dX20_init_370 : decode cX20_init 370 = .ok (.iastore, 1) := dk_79 (dk_at dksX20_init_15 14 rfl rfl)
theorem dX20_init_371 : decode cX20_init 371 = .ok (.dup, 1) := dk_89 (dk_at dksX20_init_15 15 rfl rfl)
theorem dX20_init_372 : decode cX20_init 372 = .ok (.bipush 9, 2) := dk_16 9 (dk_at dksX20_init_15 16 rfl rfl)
theorem dX20_init_374 : decode cX20_init 374 = .ok (.iconst 5, 1) := dk_8 (dk_at dksX20_init_15 18 rfl rfl)
theorem dX20_init_375 : decode cX20_init 375 = .ok (.iastore, 1) := dk_79 (dk_at dksX20_init_15 19 rfl rfl)
theorem dX20_init_376 : decode cX20_init 376 = .ok (.dup, 1) := dk_89 (dk_at dksX20_init_15 20 rfl rfl)
theorem dX20_init_377 : decode cX20_init 377 = .ok (.bipush 10, 2) := dk_16 10 (dk_at dksX20_init_15 21 rfl rfl)
theorem dX20_init_379 : decode cX20_init 379 = .ok (.iconst 5, 1) := dk_8 (dk_at dksX20_init_15 23 rfl rfl)
theorem dX20_init_380 : decode cX20_init 380 = .ok (.iastore, 1) := dk_79 (dk_at dksX20_init_16 0 rfl rfl)
theorem dX20_init_381 : decode cX20_init 381 = .ok (.dup, 1) := dk_89 (dk_at dksX20_init_16 1 rfl rfl)
theorem dX20_init_382 : decode cX20_init 382 = .ok (.bipush 11, 2) := dk_16 11 (dk_at dksX20_init_16 2 rfl rfl)
theorem dX20_init_384 : decode cX20_init 384 = .ok (.iconst 5, 1) := dk_8 (dk_at dksX20_init_16 4 rfl rfl)
theorem dX20_init_385 : decode cX20_init 385 = .ok (.iastore, 1) := dk_79 (dk_at dksX20_init_16 5 rfl rfl)
theorem dX20_init_386 : decode cX20_init 386 = .ok (.dup, 1) := dk_89 (dk_at dksX20_init_16 6 rfl rfl)
theorem dX20_init_387 : decode cX20_init 387 = .ok (.bipush 12, 2) := dk_16 12 (dk_at dksX20_init_16 7 rfl rfl)
theorem dX20_init_389 : decode cX20_init 389 = .ok (.iconst 5, 1) := dk_8 (dk_at dksX20_init_16 9 rfl rfl)
theorem dX20_init_390 : decode cX20_init 390 = .ok (.iastore, 1) := dk_79 (dk_at dksX20_init_16 10 rfl rfl)
theorem dX20_init_391 : decode cX20_init 391 = .ok (.dup, 1) := dk_89 (dk_at dksX20_init_16 11 rfl rfl)
theorem dX20_init_392 : decode cX20_init 392 = .ok (.bipush 13, 2) := dk_16 13 (dk_at dksX20_init_16 12 rfl rfl)
theorem dX20_init_394 : decode cX20_init 394 = .ok (.iconst 5, 1) := dk_8 (dk_at dksX20_init_16 14 rfl rfl)
theorem dX20_init_395 : decode cX20_init 395 = .ok (.iastore, 1) := dk_79 (dk_at dksX20_init_16 15 rfl rfl)
theorem dX20_init_396 : decode cX20_init 396 = .ok (.dup, 1) := dk_89 (dk_at dksX20_init_16 16 rfl rfl)
theorem dX20_init_397 : decode cX20_init 397 = .ok (.bipush 14, 2) := dk_16 14 (dk_at dksX20_init_16 17 rfl rfl)
theorem dX20_init_399 : decode cX20_init 399 = .ok (.iconst 5, 1) := dk_8 (dk_at dksX20_init_16 19 rfl rfl)
theorem dX20_init_400 : decode cX20_init 400 = .ok (.iastore, 1) := dk_79 (dk_at dksX20_init_16 20 rfl rfl)
theorem dX20_init_401 : decode cX20_init 401 = .ok (.dup, 1) := dk_89 (dk_at dksX20_init_16 21 rfl rfl)
theorem dX20_init_402 : decode cX20_init 402 = .ok (.bipush 15, 2) := dk_16 15 (dk_at dksX20_init_16 22 rfl rfl)
theorem dX20_init_404 : decode cX20_init 404 = .ok (.iconst 5, 1) := dk_8 (dk_at dksX20_init_17 0 rfl rfl)
theorem dX20_init_405 : decode cX20_init 405 = .ok (.iastore, 1) := dk_79 (dk_at dksX20_init_17 1 rfl rfl)
theorem dX20_init_406 : decode cX20_init 406 = .ok (.dup, 1) := dk_89 (dk_at dksX20_init_17 2 rfl rfl)
theorem dX20_init_407 : decode cX20_init 407 = .ok (.bipush 16, 2) := dk_16 16 (dk_at dksX20_init_17 3 rfl rfl)
theorem dX20_init_409 : decode cX20_init 409 = .ok (.iconst 5, 1) := dk_8 (dk_at dksX20_init_17 5 rfl rfl)
theorem dX20_init_410 : decode cX20_init 410 = .ok (.iastore, 1) := dk_79 (dk_at dksX20_init_17 6 rfl rfl)
theorem dX20_init_411 : decode cX20_init 411 = .ok (.dup, 1) := dk_89 (dk_at dksX20_init_17 7 rfl rfl)
theorem dX20_init_412 : decode cX20_init 412 = .ok (.bipush 17, 2) := dk_16 17 (dk_at dksX20_init_17 8 rfl rfl)
theorem dX20_init_414 : decode cX20_init 414 = .ok (.iconst 5, 1) := dk_8 (dk_at dksX20_init_17 10 rfl rfl)
theorem dX20_init_415 : decode cX20_init 415 = .ok (.iastore, 1) := dk_79 (dk_at dksX20_init_17 11 rfl rfl)
theorem dX20_init_416 : decode cX20_init 416 = .ok (.dup, 1) := dk_89 (dk_at dksX20_init_17 12 rfl rfl)
theorem dX20_init_417 : decode cX20_init 417 = .ok (.bipush 18, 2) := dk_16 18 (dk_at dksX20_init_17 13 rfl rfl)
theorem dX20_init_419 : decode cX20_init 419 = .ok (.iconst 5, 1) := dk_8 (dk_at dksX20_init_17 15 rfl rfl)
theorem dX20_init_420 : decode cX20_init 420 = .ok (.iastore, 1) := dk_79 (dk_at dksX20_init_17 16 rfl rfl)
theorem dX20_init_421 : decode cX20_init 421 = .ok (.dup, 1) := dk_89 (dk_at dksX20_init_17 17 rfl rfl)
theorem dX20_init_422 : decode cX20_init 422 = .ok (.bipush 19, 2) := dk_16 19 (dk_at dksX20_init_17 18 rfl rfl)
theorem dX20_init_424 : decode cX20_init 424 = .ok (.iconst 5, 1) := dk_8 (dk_at dksX20_init_17 20 rfl rfl)
theorem dX20_init_425 : decode cX20_init 425 = .ok (.iastore, 1) := dk_79 (dk_at dksX20_init_17 21 rfl rfl)
theorem dX20_init_426 : decode cX20_init 426 = .ok (.dup, 1) := dk_89 (dk_at dksX20_init_17 22 rfl rfl)
theorem dX20_init_427 : decode cX20_init 427 = .ok (.bipush 20, 2) := dk_16 20 (dk_at dksX20_init_18 0 rfl rfl)
theorem dX20_init_429 : decode cX20_init 429 = .ok (.iconst 5, 1) := dk_8 (dk_at dksX20_init_18 2 rfl rfl)
theorem dX20_init_430 : decode cX20_init 430 = .ok (.iastore, 1) := dk_79 (dk_at dksX20_init_18 3 rfl rfl)
theorem dX20_init_431 : decode cX20_init 431 = .ok (.dup, 1) := dk_89 (dk_at dksX20_init_18 4 rfl rfl)
theorem dX20_init_432 : decode cX20_init 432 = .ok (.bipush 21, 2) := dk_16 21 (dk_at dksX20_init_18 5 rfl rfl)
theorem dX20_init_434 : decode cX20_init 434 = .ok (.iconst 5, 1) := dk_8 (dk_at dksX20_init_18 7 rfl rfl)
theorem dX20_init_435 : decode cX20_init 435 = .ok (.iastore, 1) := dk_79 (dk_at dksX20_init_18 8 rfl rfl)
theorem dX20_init_436 : decode cX20_init 436 = .ok (.dup, 1) := dk_89 (dk_at dksX20_init_18 9 rfl rfl)
theorem dX20_init_437 : decode cX20_init 437 = .ok (.bipush 22, 2) := dk_16 22 (dk_at dksX20_init_18 10 rfl rfl)
theorem dX20_init_439 : decode cX20_init 439 = .ok (.iconst 5, 1) := dk_8 (dk_at dksX20_init_18 12 rfl rfl)
theorem dX20_init_440 : decode cX20_init 440 = .ok (.iastore, 1) := dk_79 (dk_at dksX20_init_18 13 rfl rfl)
theorem dX20_init_441 : decode cX20_init 441 = .ok (.dup, 1) := dk_89 (dk_at dksX20_init_18 14 rfl rfl)
theorem dX20_init_442 : decode cX20_init 442 = .ok (.bipush 23, 2) := dk_16 23 (dk_at dksX20_init_18 15 rfl rfl)
theorem dX20_init_444 : decode cX20_init 444 = .ok (.iconst 5, 1) := dk_8 (dk_at dksX20_init_18 17 rfl rfl)
theorem dX20_init_445 : decode cX20_init 445 = .ok (.iastore, 1) := dk_79 (dk_at dksX20_init_18 18 rfl rfl)
theorem dX20_init_446 : decode cX20_init 446 = .ok (.putfield 22, 3) := dk_181 0 22 (dk_at dksX20_init_18 19 rfl rfl)
theorem dX20_init_449 : decode cX20_init 449 = .ok (.aload_n 0, 1) := dk_42 (dk_at dksX20_init_18 22 rfl rfl)
theorem dX20_init_450 : decode cX20_init 450 = .ok (.iconst 5, 1) := dk_8 (dk_at dksX20_init_18 23 rfl rfl)
theorem dX20_init_451 : decode cX20_init 451 = .ok (.newarray .int, 2) := dk_188_10 (dk_at dksX20_init_19 0 rfl rfl)
theorem dX20_init_453 : decode cX20_init 453 = .ok (.dup, 1) := dk_89 (dk_at dksX20_init_19 2 rfl rfl)
theorem dX20_init_454 : decode cX20_init 454 = .ok (.iconst 0, 1) := dk_3 (dk_at dksX20_init_19 3 rfl rfl)
theorem dX20_init_455 : decode cX20_init 455 = .ok (.iconst 5, 1) := dk_8 (dk_at dksX20_init_19 4 rfl rfl)
theorem dX20_init_456 : decode cX20_init 456 = .ok (.iastore, 1) := dk_79 (dk_at dksX20_init_19 5 rfl rfl)
theorem dX20_init_457 : decode cX20_init 457 = .ok (.dup, 1) := dk_89 (dk_at dksX20_init_19 6 rfl rfl)
theorem dX20_init_458 : decode cX20_init 458 = .ok (.iconst 1, 1) := dk_4 (dk_at dksX20_init_19 7 rfl rfl)
theorem dX20_init_459 : decode cX20_init 459 = .ok (.bipush 10, 2) := dk_16 10 (dk_at dksX20_init_19 8 rfl rfl)
theorem dX20_init_461 : decode cX20_init 461 = .ok (.iastore, 1) := dk_79 (dk_at dksX20_init_19 10 rfl rfl)
theorem dX20_init_462 : decode cX20_init 462 = .ok (.dup, 1) := dk_89 (dk_at dksX20_init_19 11 rfl rfl)
theorem dX20_init_463 : decode cX20_init 463 = .ok (.iconst 2, 1) := dk_5 (dk_at dksX20_init_19 12 rfl rfl)
theorem dX20_init_464 : decode cX20_init 464 = .ok (.iconst 2, 1) := dk_5 (dk_at dksX20_init_19 13 rfl rfl)
theorem dX20_init_465 : decode cX20_init 465 = .ok (.iastore, 1) := dk_79 (dk_at dksX20_init_19 14 rfl rfl)
theorem dX20_init_466 : decode cX20_init 466 = .ok (.dup, 1) := dk_89 (dk_at dksX20_init_19 15 rfl rfl)
theorem dX20_init_467 : decode cX20_init 467 = .ok (.iconst 3, 1) := dk_6 (dk_at dksX20_init_19 16 rfl rfl)
theorem dX20_init_468 : decode cX20_init 468 = .ok (.bipush 8, 2) := dk_16 8 (dk_at dksX20_init_19 17 rfl rfl)
theorem dX20_init_470 : decode cX20_init 470 = .ok (.iastore, 1) := dk_79 (dk_at dksX20_init_19 19 rfl rfl)
theorem dX20_init_471 : decode cX20_init 471 = .ok (.dup, 1) := dk_89 (dk_at dksX20_init_19 20 rfl rfl)
theorem dX20_init_472 : decode cX20_init 472 = .ok (.iconst 4, 1) := dk_7 (dk_at dksX20_init_19 21 rfl rfl)
theorem dX20_init_473 : decode cX20_init 473 = .ok (.bipush 12, 2) := dk_16 12 (dk_at dksX20_init_19 22 rfl rfl)
theorem dX20_init_475 : decode cX20_init 475 = .ok (.iastore, 1) := dk_79 (dk_at dksX20_init_20 0 rfl rfl)
theorem dX20_init_476 : decode cX20_init 476 = .ok (.putfield 25, 3) := dk_181 0 25 (dk_at dksX20_init_20 1 rfl rfl)
theorem dX20_init_479 : decode cX20_init 479 = .ok (.aload_n 0, 1) := dk_42 (dk_at dksX20_init_20 4 rfl rfl)
theorem dX20_init_480 : decode cX20_init 480 = .ok (.iconst 5, 1) := dk_8 (dk_at dksX20_init_20 5 rfl rfl)
theorem dX20_init_481 : decode cX20_init 481 = .ok (.newarray .int, 2) := dk_188_10 (dk_at dksX20_init_20 6 rfl rfl)
theorem dX20_init_483 : decode cX20_init 483 = .ok (.dup, 1) := dk_89 (dk_at dksX20_init_20 8 rfl rfl)
theorem dX20_init_484 : decode cX20_init 484 = .ok (.iconst 0, 1) := dk_3 (dk_at dksX20_init_20 9 rfl rfl)
theorem dX20_init_485 : decode cX20_init 485 = .ok (.iconst 0, 1) := dk_3 (dk_at dksX20_init_20 10 rfl rfl)
theorem dX20_init_486 : decode cX20_init 486 = .ok (.iastore, 1) := dk_79 (dk_at dksX20_init_20 11 rfl rfl)
theorem dX20_init_487 : decode cX20_init 487 = .ok (.dup, 1) := dk_89 (dk_at dksX20_init_20 12 rfl rfl)
theorem dX20_init_488 : decode cX20_init 488 = .ok (.iconst 1, 1) := dk_4 (dk_at dksX20_init_20 13 rfl rfl)
theorem dX20_init_489 : decode cX20_init 489 = .ok (.iconst 1, 1) := dk_4 (dk_at dksX20_init_20 14 rfl rfl)
theorem dX20_init_490 : decode cX20_init 490 = .ok (.iastore, 1) := dk_79 (dk_at dksX20_init_20 15 rfl rfl)
theorem dX20_init_491 : decode cX20_init 491 = .ok (.dup, 1) := dk_89 (dk_at dksX20_init_20 16 rfl rfl)
theorem dX20_init_492 : decode cX20_init 492 = .ok (.iconst 2, 1) := dk_5 (dk_at dksX20_init_20 17 rfl rfl)
theorem dX20_init_493 : decode cX20_init 493 = .ok (.bipush (-5), 2) := dk_16 251 (dk_at dksX20_init_20 18 rfl rfl)
theorem dX20_init_495 : decode cX20_init 495 = .ok (.iastore, 1) := dk_79 (dk_at dksX20_init_20 20 rfl rfl)
theorem dX20_init_496 : decode cX20_init 496 = .ok (.dup, 1) := dk_89 (dk_at dksX20_init_20 21 rfl rfl)
theorem dX20_init_497 : decode cX20_init 497 = .ok (.iconst 3, 1) := dk_6 (dk_at dksX20_init_20 22 rfl rfl)
theorem dX20_init_498 : decode cX20_init 498 = .ok (.bipush 6, 2) := dk_16 6 (dk_at dksX20_init_21 0 rfl rfl)
theorem dX20_init_500 : decode cX20_init 500 = .ok (.iastore, 1) := dk_79 (dk_at dksX20_init_21 2 rfl rfl)
theorem dX20_init_501 : decode cX20_init 501 = .ok (.dup, 1) := dk_89 (dk_at dksX20_init_21 3 rfl rfl)
theorem dX20_init_502 : decode cX20_init 502 = .ok (.iconst 4, 1) := dk_7 (dk_at dksX20_init_21 4 rfl rfl)
theorem dX20_init_503 : decode cX20_init 503 = .ok (.bipush 8, 2) := dk_16 8 (dk_at dksX20_init_21 5 rfl rfl)
theorem dX20_init_505 : decode cX20_init 505 = .ok (.iastore, 1) := dk_79 (dk_at dksX20_init_21 7 rfl rfl)
theorem dX20_init_506 : decode cX20_init 506 = .ok (.putfield 28, 3) := dk_181 0 28 (dk_at dksX20_init_21 8 rfl rfl)
theorem dX20_init_509 : decode cX20_init 509 = .ok (.aload_n 0, 1) := dk_42 (dk_at dksX20_init_21 11 rfl rfl)
theorem dX20_init_510 : decode cX20_init 510 = .ok (.iconst 5, 1) := dk_8 (dk_at dksX20_init_21 12 rfl rfl)
theorem dX20_init_511 : decode cX20_init 511 = .ok (.newarray .int, 2) := dk_188_10 (dk_at dksX20_init_21 13 rfl rfl)
theorem dX20_init_513 : decode cX20_init 513 = .ok (.dup, 1) := dk_89 (dk_at dksX20_init_21 15 rfl rfl)
theorem dX20_init_514 : decode cX20_init 514 = .ok (.iconst 0, 1) := dk_3 (dk_at dksX20_init_21 16 rfl rfl)
theorem dX20_init_515 : decode cX20_init 515 = .ok (.bipush 15, 2) := dk_16 15 (dk_at dksX20_init_21 17 rfl rfl)
theorem dX20_init_517 : decode cX20_init 517 = .ok (.iastore, 1) := dk_79 (dk_at dksX20_init_21 19 rfl rfl)
theorem dX20_init_518 : decode cX20_init 518 = .ok (.dup, 1) := dk_89 (dk_at dksX20_init_21 20 rfl rfl)
theorem dX20_init_519 : decode cX20_init 519 = .ok (.iconst 1, 1) := dk_4 (dk_at dksX20_init_21 21 rfl rfl)
theorem dX20_init_520 : decode cX20_init 520 = .ok (.bipush 50, 2) := dk_16 50 (dk_at dksX20_init_21 22 rfl rfl)
theorem dX20_init_522 : decode cX20_init 522 = .ok (.iastore, 1) := dk_79 (dk_at dksX20_init_22 0 rfl rfl)
theorem dX20_init_523 : decode cX20_init 523 = .ok (.dup, 1) := dk_89 (dk_at dksX20_init_22 1 rfl rfl)
theorem dX20_init_524 : decode cX20_init 524 = .ok (.iconst 2, 1) := dk_5 (dk_at dksX20_init_22 2 rfl rfl)
theorem dX20_init_525 : decode cX20_init 525 = .ok (.iconst 5, 1) := dk_8 (dk_at dksX20_init_22 3 rfl rfl)
theorem dX20_init_526 : decode cX20_init 526 = .ok (.iastore, 1) := dk_79 (dk_at dksX20_init_22 4 rfl rfl)
theorem dX20_init_527 : decode cX20_init 527 = .ok (.dup, 1) := dk_89 (dk_at dksX20_init_22 5 rfl rfl)
theorem dX20_init_528 : decode cX20_init 528 = .ok (.iconst 3, 1) := dk_6 (dk_at dksX20_init_22 6 rfl rfl)
theorem dX20_init_529 : decode cX20_init 529 = .ok (.bipush 14, 2) := dk_16 14 (dk_at dksX20_init_22 7 rfl rfl)
theorem dX20_init_531 : decode cX20_init 531 = .ok (.iastore, 1) := dk_79 (dk_at dksX20_init_22 9 rfl rfl)
theorem dX20_init_532 : decode cX20_init 532 = .ok (.dup, 1) := dk_89 (dk_at dksX20_init_22 10 rfl rfl)
theorem dX20_init_533 : decode cX20_init 533 = .ok (.iconst 4, 1) := dk_7 (dk_at dksX20_init_22 11 rfl rfl)
theorem dX20_init_534 : decode cX20_init 534 = .ok (.bipush 20, 2) := dk_16 20 (dk_at dksX20_init_22 12 rfl rfl)
theorem dX20_init_536 : decode cX20_init 536 = .ok (.iastore, 1) := dk_79 (dk_at dksX20_init_22 14 rfl rfl)
theorem dX20_init_537 : decode cX20_init 537 = .ok (.putfield 31, 3) := dk_181 0 31 (dk_at dksX20_init_22 15 rfl rfl)
theorem dX20_init_540 : decode cX20_init 540 = .ok (.aload_n 0, 1) := dk_42 (dk_at dksX20_init_22 18 rfl rfl)
theorem dX20_init_541 : decode cX20_init 541 = .ok (.bipush 20, 2) := dk_16 20 (dk_at dksX20_init_22 19 rfl rfl)
theorem dX20_init_543 : decode cX20_init 543 = .ok (.newarray .int, 2) := dk_188_10 (dk_at dksX20_init_22 21 rfl rfl)
theorem dX20_init_545 : decode cX20_init 545 = .ok (.putfield 34, 3) := dk_181 0 34 (dk_at dksX20_init_23 0 rfl rfl)
theorem dX20_init_548 : decode cX20_init 548 = .ok (.aload_n 0, 1) := dk_42 (dk_at dksX20_init_23 3 rfl rfl)
theorem dX20_init_549 : decode cX20_init 549 = .ok (.bipush 24, 2) := dk_16 24 (dk_at dksX20_init_23 4 rfl rfl)
theorem dX20_init_551 : decode cX20_init 551 = .ok (.newarray .int, 2) := dk_188_10 (dk_at dksX20_init_23 6 rfl rfl)
theorem dX20_init_553 : decode cX20_init 553 = .ok (.putfield 37, 3) := dk_181 0 37 (dk_at dksX20_init_23 8 rfl rfl)
theorem dX20_init_556 : decode cX20_init 556 = .ok (.aload_n 0, 1) := dk_42 (dk_at dksX20_init_23 11 rfl rfl)
theorem dX20_init_557 : decode cX20_init 557 = .ok (.sipush 200, 3) := dk_17 0 200 (dk_at dksX20_init_23 12 rfl rfl)
theorem dX20_init_560 : decode cX20_init 560 = .ok (.newarray .int, 2) := dk_188_10 (dk_at dksX20_init_23 15 rfl rfl)
theorem dX20_init_562 : decode cX20_init 562 = .ok (.putfield 40, 3) := dk_181 0 40 (dk_at dksX20_init_23 17 rfl rfl)
theorem dX20_init_565 : decode cX20_init 565 = .ok (.aload_n 0, 1) := dk_42 (dk_at dksX20_init_23 20 rfl rfl)
theorem dX20_init_566 : decode cX20_init 566 = .ok (.iconst 1, 1) := dk_4 (dk_at dksX20_init_23 21 rfl rfl)
theorem dX20_init_567 : decode cX20_init 567 = .ok (.putfield 43, 3) := dk_181 0 43 (dk_at dksX20_init_24 0 rfl rfl)
theorem dX20_init_570 : decode cX20_init 570 = .ok (.aload_n 0, 1) := dk_42 (dk_at dksX20_init_24 3 rfl rfl)
theorem dX20_init_571 : decode cX20_init 571 = .ok (.sipush 200, 3) := dk_17 0 200 (dk_at dksX20_init_24 4 rfl rfl)
theorem dX20_init_574 : decode cX20_init 574 = .ok (.newarray .int, 2) := dk_188_10 (dk_at dksX20_init_24 7 rfl rfl)
theorem dX20_init_576 : decode cX20_init 576 = .ok (.putfield 47, 3) := dk_181 0 47 (dk_at dksX20_init_24 9 rfl rfl)
theorem dX20_init_579 : decode cX20_init 579 = .ok (.aload_n 0, 1) := dk_42 (dk_at dksX20_init_24 12 rfl rfl)
theorem dX20_init_580 : decode cX20_init 580 = .ok (.bipush 6, 2) := dk_16 6 (dk_at dksX20_init_24 13 rfl rfl)
theorem dX20_init_582 : decode cX20_init 582 = .ok (.newarray .int, 2) := dk_188_10 (dk_at dksX20_init_24 15 rfl rfl)
theorem dX20_init_584 : decode cX20_init 584 = .ok (.putfield 50, 3) := dk_181 0 50 (dk_at dksX20_init_24 17 rfl rfl)
theorem dX20_init_587 : decode cX20_init 587 = .ok (.aload_n 0, 1) := dk_42 (dk_at dksX20_init_24 20 rfl rfl)
theorem dX20_init_588 : decode cX20_init 588 = .ok (.sipush 200, 3) := dk_17 0 200 (dk_at dksX20_init_24 21 rfl rfl)
theorem dX20_init_591 : decode cX20_init 591 = .ok (.newarray .int, 2) := dk_188_10 (dk_at dksX20_init_25 0 rfl rfl)
theorem dX20_init_593 : decode cX20_init 593 = .ok (.putfield 53, 3) := dk_181 0 53 (dk_at dksX20_init_25 2 rfl rfl)
theorem dX20_init_596 : decode cX20_init 596 = .ok (.aload_n 0, 1) := dk_42 (dk_at dksX20_init_25 5 rfl rfl)
theorem dX20_init_597 : decode cX20_init 597 = .ok (.sipush 200, 3) := dk_17 0 200 (dk_at dksX20_init_25 6 rfl rfl)
theorem dX20_init_600 : decode cX20_init 600 = .ok (.newarray .int, 2) := dk_188_10 (dk_at dksX20_init_25 9 rfl rfl)
theorem dX20_init_602 : decode cX20_init 602 = .ok (.putfield 56, 3) := dk_181 0 56 (dk_at dksX20_init_25 11 rfl rfl)
theorem dX20_init_605 : decode cX20_init 605 = .ok (.aload_n 0, 1) := dk_42 (dk_at dksX20_init_25 14 rfl rfl)
theorem dX20_init_606 : decode cX20_init 606 = .ok (.bipush 100, 2) := dk_16 100 (dk_at dksX20_init_25 15 rfl rfl)
theorem dX20_init_608 : decode cX20_init 608 = .ok (.newarray .boolean, 2) := dk_188_4 (dk_at dksX20_init_25 17 rfl rfl)
theorem dX20_init_610 : decode cX20_init 610 = .ok (.putfield 59, 3) := dk_181 0 59 (dk_at dksX20_init_25 19 rfl rfl)
theorem dX20_init_613 : decode cX20_init 613 = .ok (.aload_n 0, 1) := dk_42 (dk_at dksX20_init_25 22 rfl rfl)
theorem dX20_init_614 : decode cX20_init 614 = .ok (.bipush 24, 2) := dk_16 24 (dk_at dksX20_init_26 0 rfl rfl)
theorem dX20_init_616 : decode cX20_init 616 = .ok (.newarray .int, 2) := dk_188_10 (dk_at dksX20_init_26 2 rfl rfl)
theorem dX20_init_618 : decode cX20_init 618 = .ok (.putfield 63, 3) := dk_181 0 63 (dk_at dksX20_init_26 4 rfl rfl)
theorem dX20_init_621 : decode cX20_init 621 = .ok (.aload_n 0, 1) := dk_42 (dk_at dksX20_init_26 7 rfl rfl)
theorem dX20_init_622 : decode cX20_init 622 = .ok (.bipush 72, 2) := dk_16 72 (dk_at dksX20_init_26 8 rfl rfl)
theorem dX20_init_624 : decode cX20_init 624 = .ok (.newarray .int, 2) := dk_188_10 (dk_at dksX20_init_26 10 rfl rfl)
theorem dX20_init_626 : decode cX20_init 626 = .ok (.putfield 66, 3) := dk_181 0 66 (dk_at dksX20_init_26 12 rfl rfl)
theorem dX20_init_629 : decode cX20_init 629 = .ok (.aload_n 0, 1) := dk_42 (dk_at dksX20_init_26 15 rfl rfl)
theorem dX20_init_630 : decode cX20_init 630 = .ok (.bipush 72, 2) := dk_16 72 (dk_at dksX20_init_26 16 rfl rfl)
theorem dX20_init_632 : decode cX20_init 632 = .ok (.newarray .int, 2) := dk_188_10 (dk_at dksX20_init_26 18 rfl rfl)
theorem dX20_init_634 : decode cX20_init 634 = .ok (.putfield 69, 3) := dk_181 0 69 (dk_at dksX20_init_26 20 rfl rfl)
theorem dX20_init_637 : decode cX20_init 637 = .ok (.aload_n 0, 1) := dk_42 (dk_at dksX20_init_26 23 rfl rfl)
theorem dX20_init_638 : decode cX20_init 638 = .ok (.iconst 4, 1) := dk_7 (dk_at dksX20_init_27 0 rfl rfl)
theorem dX20_init_639 : decode cX20_init 639 = .ok (.newarray .int, 2) := dk_188_10 (dk_at dksX20_init_27 1 rfl rfl)
theorem dX20_init_641 : decode cX20_init 641 = .ok (.dup, 1) := dk_89 (dk_at dksX20_init_27 3 rfl rfl)
theorem dX20_init_642 : decode cX20_init 642 = .ok (.iconst 0, 1) := dk_3 (dk_at dksX20_init_27 4 rfl rfl)
theorem dX20_init_643 : decode cX20_init 643 = .ok (.iconst (-1), 1) := dk_2 (dk_at dksX20_init_27 5 rfl rfl)
theorem dX20_init_644 : decode cX20_init 644 = .ok (.iastore, 1) := dk_79 (dk_at dksX20_init_27 6 rfl rfl)
theorem dX20_init_645 : decode cX20_init 645 = .ok (.dup, 1) := dk_89 (dk_at dksX20_init_27 7 rfl rfl)
theorem dX20_init_646 : decode cX20_init 646 = .ok (.iconst 1, 1) := dk_4 (dk_at dksX20_init_27 8 rfl rfl)
theorem dX20_init_647 : decode cX20_init 647 = .ok (.iconst (-1), 1) := dk_2 (dk_at dksX20_init_27 9 rfl rfl)
theorem dX20_init_648 : decode cX20_init 648 = .ok (.iastore, 1) := dk_79 (dk_at dksX20_init_27 10 rfl rfl)
theorem dX20_init_649 : decode cX20_init 649 = .ok (.dup, 1) := dk_89 (dk_at dksX20_init_27 11 rfl rfl)
theorem dX20_init_650 : decode cX20_init 650 = .ok (.iconst 2, 1) := dk_5 (dk_at dksX20_init_27 12 rfl rfl)
theorem dX20_init_651 : decode cX20_init 651 = .ok (.iconst (-1), 1) := dk_2 (dk_at dksX20_init_27 13 rfl rfl)
theorem dX20_init_652 : decode cX20_init 652 = .ok (.iastore, 1) := dk_79 (dk_at dksX20_init_27 14 rfl rfl)
theorem dX20_init_653 : decode cX20_init 653 = .ok (.dup, 1) := dk_89 (dk_at dksX20_init_27 15 rfl rfl)
theorem dX20_init_654 : decode cX20_init 654 = .ok (.iconst 3, 1) := dk_6 (dk_at dksX20_init_27 16 rfl rfl)
theorem dX20_init_655 : decode cX20_init 655 = .ok (.iconst (-1), 1) := dk_2 (dk_at dksX20_init_27 17 rfl rfl)
theorem dX20_init_656 : decode cX20_init 656 = .ok (.iastore, 1) := dk_79 (dk_at dksX20_init_27 18 rfl rfl)
theorem dX20_init_657 : decode cX20_init 657 = .ok (.putfield 72, 3) := dk_181 0 72 (dk_at dksX20_init_27 19 rfl rfl)
theorem dX20_init_660 : decode cX20_init 660 = .ok (.aload_n 0, 1) := dk_42 (dk_at dksX20_init_27 22 rfl rfl)
theorem dX20_init_661 : decode cX20_init 661 = .ok (.iconst 4, 1) := dk_7 (dk_at dksX20_init_27 23 rfl rfl)
theorem dX20_init_662 : decode cX20_init 662 = .ok (.newarray .int, 2) := dk_188_10 (dk_at dksX20_init_28 0 rfl rfl)
theorem dX20_init_664 : decode cX20_init 664 = .ok (.putfield 75, 3) := dk_181 0 75 (dk_at dksX20_init_28 2 rfl rfl)
theorem dX20_init_667 : decode cX20_init 667 = .ok (.aload_n 0, 1) := dk_42 (dk_at dksX20_init_28 5 rfl rfl)
theorem dX20_init_668 : decode cX20_init 668 = .ok (.sipush 160, 3) := dk_17 0 160 (dk_at dksX20_init_28 6 rfl rfl)
theorem dX20_init_671 : decode cX20_init 671 = .ok (.newarray .long, 2) := dk_188_11 (dk_at dksX20_init_28 9 rfl rfl)
theorem dX20_init_673 : decode cX20_init 673 = .ok (.putfield 78, 3) := dk_181 0 78 (dk_at dksX20_init_28 11 rfl rfl)
theorem dX20_init_676 : decode cX20_init 676 = .ok (.aload_n 0, 1) := dk_42 (dk_at dksX20_init_28 14 rfl rfl)
theorem dX20_init_677 : decode cX20_init 677 = .ok (.iconst 4, 1) := dk_7 (dk_at dksX20_init_28 15 rfl rfl)
theorem dX20_init_678 : decode cX20_init 678 = .ok (.newarray .int, 2) := dk_188_10 (dk_at dksX20_init_28 16 rfl rfl)
theorem dX20_init_680 : decode cX20_init 680 = .ok (.dup, 1) := dk_89 (dk_at dksX20_init_28 18 rfl rfl)
theorem dX20_init_681 : decode cX20_init 681 = .ok (.iconst 0, 1) := dk_3 (dk_at dksX20_init_28 19 rfl rfl)
theorem dX20_init_682 : decode cX20_init 682 = .ok (.iconst (-1), 1) := dk_2 (dk_at dksX20_init_28 20 rfl rfl)
theorem dX20_init_683 : decode cX20_init 683 = .ok (.iastore, 1) := dk_79 (dk_at dksX20_init_28 21 rfl rfl)
theorem dX20_init_684 : decode cX20_init 684 = .ok (.dup, 1) := dk_89 (dk_at dksX20_init_28 22 rfl rfl)
theorem dX20_init_685 : decode cX20_init 685 = .ok (.iconst 1, 1) := dk_4 (dk_at dksX20_init_28 23 rfl rfl)
theorem dX20_init_686 : decode cX20_init 686 = .ok (.iconst (-1), 1) := dk_2 (dk_at dksX20_init_29 0 rfl rfl)
theorem dX20_init_687 : decode cX20_init 687 = .ok (.iastore, 1) := dk_79 (dk_at dksX20_init_29 1 rfl rfl)
theorem dX20_init_688 : decode cX20_init 688 = .ok (.dup, 1) := dk_89 (dk_at dksX20_init_29 2 rfl rfl)
theorem dX20_init_689 : decode cX20_init 689 = .ok (.iconst 2, 1) := dk_5 (dk_at dksX20_init_29 3 rfl rfl)
theorem dX20_init_690 : decode cX20_init 690 = .ok (.iconst (-1), 1) := dk_2 (dk_at dksX20_init_29 4 rfl rfl)
theorem dX20_init_691 : decode cX20_init 691 = .ok (.iastore, 1) := dk_79 (dk_at dksX20_init_29 5 rfl rfl)
theorem dX20_init_692 : decode cX20_init 692 = .ok (.dup, 1) := dk_89 (dk_at dksX20_init_29 6 rfl rfl)
theorem dX20_init_693 : decode cX20_init 693 = .ok (.iconst 3, 1) := dk_6 (dk_at dksX20_init_29 7 rfl rfl)
theorem dX20_init_694 : decode cX20_init 694 = .ok (.iconst (-1), 1) := dk_2 (dk_at dksX20_init_29 8 rfl rfl)
theorem dX20_init_695 : decode cX20_init 695 = .ok (.iastore, 1) := dk_79 (dk_at dksX20_init_29 9 rfl rfl)
theorem dX20_init_696 : decode cX20_init 696 = .ok (.putfield 82, 3) := dk_181 0 82 (dk_at dksX20_init_29 10 rfl rfl)
theorem dX20_init_699 : decode cX20_init 699 = .ok (.aload_n 0, 1) := dk_42 (dk_at dksX20_init_29 13 rfl rfl)
theorem dX20_init_700 : decode cX20_init 700 = .ok (.iconst 4, 1) := dk_7 (dk_at dksX20_init_29 14 rfl rfl)
theorem dX20_init_701 : decode cX20_init 701 = .ok (.newarray .int, 2) := dk_188_10 (dk_at dksX20_init_29 15 rfl rfl)
theorem dX20_init_703 : decode cX20_init 703 = .ok (.putfield 85, 3) := dk_181 0 85 (dk_at dksX20_init_29 17 rfl rfl)
theorem dX20_init_706 : decode cX20_init 706 = .ok (.aload_n 0, 1) := dk_42 (dk_at dksX20_init_29 20 rfl rfl)
theorem dX20_init_707 : decode cX20_init 707 = .ok (.iconst 4, 1) := dk_7 (dk_at dksX20_init_29 21 rfl rfl)
theorem dX20_init_708 : decode cX20_init 708 = .ok (.newarray .int, 2) := dk_188_10 (dk_at dksX20_init_29 22 rfl rfl)
theorem dX20_init_710 : decode cX20_init 710 = .ok (.putfield 88, 3) := dk_181 0 88 (dk_at dksX20_init_30 0 rfl rfl)
theorem dX20_init_713 : decode cX20_init 713 = .ok (.aload_n 0, 1) := dk_42 (dk_at dksX20_init_30 3 rfl rfl)
theorem dX20_init_714 : decode cX20_init 714 = .ok (.bipush 30, 2) := dk_16 30 (dk_at dksX20_init_30 4 rfl rfl)
theorem dX20_init_716 : decode cX20_init 716 = .ok (.newarray .int, 2) := dk_188_10 (dk_at dksX20_init_30 6 rfl rfl)
theorem dX20_init_718 : decode cX20_init 718 = .ok (.putfield 91, 3) := dk_181 0 91 (dk_at dksX20_init_30 8 rfl rfl)
theorem dX20_init_721 : decode cX20_init 721 = .ok (.aload_n 0, 1) := dk_42 (dk_at dksX20_init_30 11 rfl rfl)
theorem dX20_init_722 : decode cX20_init 722 = .ok (.sipush 310, 3) := dk_17 1 54 (dk_at dksX20_init_30 12 rfl rfl)
theorem dX20_init_725 : decode cX20_init 725 = .ok (.newarray .int, 2) := dk_188_10 (dk_at dksX20_init_30 15 rfl rfl)
theorem dX20_init_727 : decode cX20_init 727 = .ok (.putfield 94, 3) := dk_181 0 94 (dk_at dksX20_init_30 17 rfl rfl)
theorem dX20_init_730 : decode cX20_init 730 = .ok (.aload_n 0, 1) := dk_42 (dk_at dksX20_init_30 20 rfl rfl)
theorem dX20_init_731 : decode cX20_init 731 = .ok (.iconst 3, 1) := dk_6 (dk_at dksX20_init_30 21 rfl rfl)
theorem dX20_init_732 : decode cX20_init 732 = .ok (.newarray .int, 2) := dk_188_10 (dk_at dksX20_init_30 22 rfl rfl)
theorem dX20_init_734 : decode cX20_init 734 = .ok (.putfield 97, 3) := dk_181 0 97 (dk_at dksX20_init_31 0 rfl rfl)
theorem dX20_init_737 : decode cX20_init 737 = .ok (.return_, 1) := dk_177 (dk_at dksX20_init_31 3 rfl rfl)
abbrev cX20_feed : ByteArray := prog_38_method_6_code
def yX20_feed : MethodName := ⟨RX20, "feed", "(JI)I"⟩
def dkwX20_feed_3 : List UInt8 := [167, 255, 216, 42, 180, 0, 107, 172]
abbrev dktX20_feed_3 : List UInt8 := dkwX20_feed_3 ++ []
def dkwX20_feed_2 : List UInt8 := [21, 4, 104, 123, 20, 0, 110, 127, 136, 79, 42, 89, 180, 0, 107, 4, 96, 181, 0, 107, 132, 4, 1]
abbrev dktX20_feed_2 : List UInt8 := dkwX20_feed_2 ++ dktX20_feed_3
def dkwX20_feed_1 : List UInt8 := [16, 254, 172, 3, 54, 4, 21, 4, 29, 162, 0, 40, 42, 180, 0, 47, 42, 180, 0, 107, 31, 16, 8]
abbrev dktX20_feed_1 : List UInt8 := dkwX20_feed_1 ++ dktX20_feed_2
def dkwX20_feed_0 : List UInt8 := [29, 4, 16, 8, 184, 0, 100, 154, 0, 5, 2, 172, 42, 180, 0, 107, 29, 96, 17, 0, 200, 164, 0, 6]
abbrev dktX20_feed_0 : List UInt8 := dkwX20_feed_0 ++ dktX20_feed_1
theorem dksX20_feed_0 : cX20_feed.data.toList.drop 0 = dktX20_feed_0 := by decide +kernel
theorem dksX20_feed_1 : cX20_feed.data.toList.drop 24 = dktX20_feed_1 := dk_seg dksX20_feed_0 24 rfl rfl
theorem dksX20_feed_2 : cX20_feed.data.toList.drop 47 = dktX20_feed_2 := dk_seg dksX20_feed_1 23 rfl rfl
theorem dksX20_feed_3 : cX20_feed.data.toList.drop 70 = dktX20_feed_3 := dk_seg dksX20_feed_2 23 rfl rfl
theorem dX20_feed_0 : decode cX20_feed 0 = .ok (.iload_n 3, 1) := dk_29 (dk_at dksX20_feed_0 0 rfl rfl)
theorem dX20_feed_1 : decode cX20_feed 1 = .ok (.iconst 1, 1) := dk_4 (dk_at dksX20_feed_0 1 rfl rfl)
theorem dX20_feed_2 : decode cX20_feed 2 = .ok (.bipush 8, 2) := dk_16 8 (dk_at dksX20_feed_0 2 rfl rfl)
theorem dX20_feed_4 : decode cX20_feed 4 = .ok (.invokestatic 100, 3) := dk_184 0 100 (dk_at dksX20_feed_0 4 rfl rfl)
theorem dX20_feed_7 : decode cX20_feed 7 = .ok (.ifCond .ne 5, 3) := dk_154 0 5 (dk_at dksX20_feed_0 7 rfl rfl)
theorem dX20_feed_10 : decode cX20_feed 10 = .ok (.iconst (-1), 1) := dk_2 (dk_at dksX20_feed_0 10 rfl rfl)
theorem dX20_feed_11 : decode cX20_feed 11 = .ok (.ireturn, 1) := dk_172 (dk_at dksX20_feed_0 11 rfl rfl)
theorem dX20_feed_12 : decode cX20_feed 12 = .ok (.aload_n 0, 1) := dk_42 (dk_at dksX20_feed_0 12 rfl rfl)
theorem dX20_feed_13 : decode cX20_feed 13 = .ok (.getfield 107, 3) := dk_180 0 107 (dk_at dksX20_feed_0 13 rfl rfl)
theorem dX20_feed_16 : decode cX20_feed 16 = .ok (.iload_n 3, 1) := dk_29 (dk_at dksX20_feed_0 16 rfl rfl)
theorem dX20_feed_17 : decode cX20_feed 17 = .ok (.iadd, 1) := dk_96 (dk_at dksX20_feed_0 17 rfl rfl)
theorem dX20_feed_18 : decode cX20_feed 18 = .ok (.sipush 200, 3) := dk_17 0 200 (dk_at dksX20_feed_0 18 rfl rfl)
theorem dX20_feed_21 : decode cX20_feed 21 = .ok (.if_icmp .le 6, 3) := dk_164 0 6 (dk_at dksX20_feed_0 21 rfl rfl)
theorem dX20_feed_24 : decode cX20_feed 24 = .ok (.bipush (-2), 2) := dk_16 254 (dk_at dksX20_feed_1 0 rfl rfl)
theorem dX20_feed_26 : decode cX20_feed 26 = .ok (.ireturn, 1) := dk_172 (dk_at dksX20_feed_1 2 rfl rfl)
theorem dX20_feed_27 : decode cX20_feed 27 = .ok (.iconst 0, 1) := dk_3 (dk_at dksX20_feed_1 3 rfl rfl)
theorem dX20_feed_28 : decode cX20_feed 28 = .ok (.istore 4, 2) := dk_54 4 (dk_at dksX20_feed_1 4 rfl rfl)
theorem dX20_feed_30 : decode cX20_feed 30 = .ok (.iload 4, 2) := dk_21 4 (dk_at dksX20_feed_1 6 rfl rfl)
theorem dX20_feed_32 : decode cX20_feed 32 = .ok (.iload_n 3, 1) := dk_29 (dk_at dksX20_feed_1 8 rfl rfl)
theorem dX20_feed_33 : decode cX20_feed 33 = .ok (.if_icmp .ge 40, 3) := dk_162 0 40 (dk_at dksX20_feed_1 9 rfl rfl)
theorem dX20_feed_36 : decode cX20_feed 36 = .ok (.aload_n 0, 1) := dk_42 (dk_at dksX20_feed_1 12 rfl rfl)
theorem dX20_feed_37 : decode cX20_feed 37 = .ok (.getfield 47, 3) := dk_180 0 47 (dk_at dksX20_feed_1 13 rfl rfl)
theorem dX20_feed_40 : decode cX20_feed 40 = .ok (.aload_n 0, 1) := dk_42 (dk_at dksX20_feed_1 16 rfl rfl)
theorem dX20_feed_41 : decode cX20_feed 41 = .ok (.getfield 107, 3) := dk_180 0 107 (dk_at dksX20_feed_1 17 rfl rfl)
theorem dX20_feed_44 : decode cX20_feed 44 = .ok (.lload_n 1, 1) := dk_31 (dk_at dksX20_feed_1 20 rfl rfl)
theorem dX20_feed_45 : decode cX20_feed 45 = .ok (.bipush 8, 2) := dk_16 8 (dk_at dksX20_feed_1 21 rfl rfl)
theorem dX20_feed_47 : decode cX20_feed 47 = .ok (.iload 4, 2) := dk_21 4 (dk_at dksX20_feed_2 0 rfl rfl)
theorem dX20_feed_49 : decode cX20_feed 49 = .ok (.imul, 1) := dk_104 (dk_at dksX20_feed_2 2 rfl rfl)
theorem dX20_feed_50 : decode cX20_feed 50 = .ok (.lshr, 1) := dk_123 (dk_at dksX20_feed_2 3 rfl rfl)
theorem dX20_feed_51 : decode cX20_feed 51 = .ok (.ldc2_w 110, 3) := dk_20 0 110 (dk_at dksX20_feed_2 4 rfl rfl)
theorem dX20_feed_54 : decode cX20_feed 54 = .ok (.land, 1) := dk_127 (dk_at dksX20_feed_2 7 rfl rfl)
theorem dX20_feed_55 : decode cX20_feed 55 = .ok (.l2i, 1) := dk_136 (dk_at dksX20_feed_2 8 rfl rfl)
theorem dX20_feed_56 : decode cX20_feed 56 = .ok (.iastore, 1) := dk_79 (dk_at dksX20_feed_2 9 rfl rfl)
theorem dX20_feed_57 : decode cX20_feed 57 = .ok (.aload_n 0, 1) := dk_42 (dk_at dksX20_feed_2 10 rfl rfl)
theorem dX20_feed_58 : decode cX20_feed 58 = .ok (.dup, 1) := dk_89 (dk_at dksX20_feed_2 11 rfl rfl)
theorem dX20_feed_59 : decode cX20_feed 59 = .ok (.getfield 107, 3) := dk_180 0 107 (dk_at dksX20_feed_2 12 rfl rfl)
theorem dX20_feed_62 : decode cX20_feed 62 = .ok (.iconst 1, 1) := dk_4 (dk_at dksX20_feed_2 15 rfl rfl)
theorem dX20_feed_63 : decode cX20_feed 63 = .ok (.iadd, 1) := dk_96 (dk_at dksX20_feed_2 16 rfl rfl)
theorem dX20_feed_64 : decode cX20_feed 64 = .ok (.putfield 107, 3) := dk_181 0 107 (dk_at dksX20_feed_2 17 rfl rfl)
theorem dX20_feed_67 : decode cX20_feed 67 = .ok (.iinc 4 1, 3) := dk_132 4 1 (dk_at dksX20_feed_2 20 rfl rfl)
theorem dX20_feed_70 : decode cX20_feed 70 = .ok (.goto (-40), 3) := dk_167 255 216 (dk_at dksX20_feed_3 0 rfl rfl)
theorem dX20_feed_73 : decode cX20_feed 73 = .ok (.aload_n 0, 1) := dk_42 (dk_at dksX20_feed_3 3 rfl rfl)
theorem dX20_feed_74 : decode cX20_feed 74 = .ok (.getfield 107, 3) := dk_180 0 107 (dk_at dksX20_feed_3 4 rfl rfl)
theorem dX20_feed_77 : decode cX20_feed 77 = .ok (.ireturn, 1) := dk_172 (dk_at dksX20_feed_3 7 rfl rfl)
abbrev cX20_in : ByteArray := prog_38_method_2_code
def yX20_in : MethodName := ⟨RX20, "in", "(III)Z"⟩
def dkwX20_in_0 : List UInt8 := [26, 27, 161, 0, 12, 26, 28, 163, 0, 7, 4, 167, 0, 4, 3, 172]
abbrev dktX20_in_0 : List UInt8 := dkwX20_in_0 ++ []
theorem dksX20_in_0 : cX20_in.data.toList.drop 0 = dktX20_in_0 := by decide +kernel
theorem dX20_in_0 : decode cX20_in 0 = .ok (.iload_n 0, 1) := dk_26 (dk_at dksX20_in_0 0 rfl rfl)
theorem dX20_in_1 : decode cX20_in 1 = .ok (.iload_n 1, 1) := dk_27 (dk_at dksX20_in_0 1 rfl rfl)
theorem dX20_in_2 : decode cX20_in 2 = .ok (.if_icmp .lt 12, 3) := dk_161 0 12 (dk_at dksX20_in_0 2 rfl rfl)
theorem dX20_in_5 : decode cX20_in 5 = .ok (.iload_n 0, 1) := dk_26 (dk_at dksX20_in_0 5 rfl rfl)
theorem dX20_in_6 : decode cX20_in 6 = .ok (.iload_n 2, 1) := dk_28 (dk_at dksX20_in_0 6 rfl rfl)
theorem dX20_in_7 : decode cX20_in 7 = .ok (.if_icmp .gt 7, 3) := dk_163 0 7 (dk_at dksX20_in_0 7 rfl rfl)
theorem dX20_in_10 : decode cX20_in 10 = .ok (.iconst 1, 1) := dk_4 (dk_at dksX20_in_0 10 rfl rfl)
theorem dX20_in_11 : decode cX20_in 11 = .ok (.goto 4, 3) := dk_167 0 4 (dk_at dksX20_in_0 11 rfl rfl)
theorem dX20_in_14 : decode cX20_in 14 = .ok (.iconst 0, 1) := dk_3 (dk_at dksX20_in_0 14 rfl rfl)
theorem dX20_in_15 : decode cX20_in 15 = .ok (.ireturn, 1) := dk_172 (dk_at dksX20_in_0 15 rfl rfl)
abbrev cX20_plan : ByteArray := prog_38_method_24_code
def yX20_plan : MethodName := ⟨RX20, "plan", "()I"⟩
def dkwX20_plan_5 : List UInt8 := [180, 0, 53, 28, 46, 79, 132, 2, 1, 167, 255, 233, 42, 180, 0, 235, 172]
abbrev dktX20_plan_5 : List UInt8 := dkwX20_plan_5 ++ []
def dkwX20_plan_4 : List UInt8 := [132, 2, 1, 167, 255, 235, 3, 61, 28, 42, 180, 0, 161, 162, 0, 21, 42, 180, 0, 40, 28, 42]
abbrev dktX20_plan_4 : List UInt8 := dkwX20_plan_4 ++ dktX20_plan_5
def dkwX20_plan_3 : List UInt8 := [181, 0, 235, 3, 61, 28, 16, 24, 162, 0, 21, 42, 180, 0, 37, 28, 42, 180, 0, 63, 28, 46, 79]
abbrev dktX20_plan_3 : List UInt8 := dkwX20_plan_3 ++ dktX20_plan_4
def dkwX20_plan_2 : List UInt8 := [42, 3, 181, 0, 107, 42, 180, 0, 178, 154, 0, 11, 16, 156, 42, 180, 0, 115, 100, 172, 42, 27]
abbrev dktX20_plan_2 : List UInt8 := dkwX20_plan_2 ++ dktX20_plan_3
def dkwX20_plan_1 : List UInt8 := [180, 0, 178, 153, 0, 21, 42, 180, 0, 129, 153, 0, 14, 42, 27, 182, 0, 232, 132, 1, 1, 167, 255, 234]
abbrev dktX20_plan_1 : List UInt8 := dkwX20_plan_1 ++ dktX20_plan_2
def dkwX20_plan_0 : List UInt8 := [42, 3, 181, 0, 112, 42, 4, 181, 0, 178, 42, 3, 181, 0, 161, 3, 60, 42, 182, 0, 182, 42]
abbrev dktX20_plan_0 : List UInt8 := dkwX20_plan_0 ++ dktX20_plan_1
theorem dksX20_plan_0 : cX20_plan.data.toList.drop 0 = dktX20_plan_0 := by decide +kernel
theorem dksX20_plan_1 : cX20_plan.data.toList.drop 22 = dktX20_plan_1 := dk_seg dksX20_plan_0 22 rfl rfl
theorem dksX20_plan_2 : cX20_plan.data.toList.drop 46 = dktX20_plan_2 := dk_seg dksX20_plan_1 24 rfl rfl
theorem dksX20_plan_3 : cX20_plan.data.toList.drop 68 = dktX20_plan_3 := dk_seg dksX20_plan_2 22 rfl rfl
theorem dksX20_plan_4 : cX20_plan.data.toList.drop 91 = dktX20_plan_4 := dk_seg dksX20_plan_3 23 rfl rfl
theorem dksX20_plan_5 : cX20_plan.data.toList.drop 113 = dktX20_plan_5 := dk_seg dksX20_plan_4 22 rfl rfl
theorem dX20_plan_0 : decode cX20_plan 0 = .ok (.aload_n 0, 1) := dk_42 (dk_at dksX20_plan_0 0 rfl rfl)
theorem dX20_plan_1 : decode cX20_plan 1 = .ok (.iconst 0, 1) := dk_3 (dk_at dksX20_plan_0 1 rfl rfl)
theorem dX20_plan_2 : decode cX20_plan 2 = .ok (.putfield 112, 3) := dk_181 0 112 (dk_at dksX20_plan_0 2 rfl rfl)
theorem dX20_plan_5 : decode cX20_plan 5 = .ok (.aload_n 0, 1) := dk_42 (dk_at dksX20_plan_0 5 rfl rfl)
theorem dX20_plan_6 : decode cX20_plan 6 = .ok (.iconst 1, 1) := dk_4 (dk_at dksX20_plan_0 6 rfl rfl)
theorem dX20_plan_7 : decode cX20_plan 7 = .ok (.putfield 178, 3) := dk_181 0 178 (dk_at dksX20_plan_0 7 rfl rfl)
theorem dX20_plan_10 : decode cX20_plan 10 = .ok (.aload_n 0, 1) := dk_42 (dk_at dksX20_plan_0 10 rfl rfl)
theorem dX20_plan_11 : decode cX20_plan 11 = .ok (.iconst 0, 1) := dk_3 (dk_at dksX20_plan_0 11 rfl rfl)
theorem dX20_plan_12 : decode cX20_plan 12 = .ok (.putfield 161, 3) := dk_181 0 161 (dk_at dksX20_plan_0 12 rfl rfl)
theorem dX20_plan_15 : decode cX20_plan 15 = .ok (.iconst 0, 1) := dk_3 (dk_at dksX20_plan_0 15 rfl rfl)
theorem dX20_plan_16 : decode cX20_plan 16 = .ok (.istore_n 1, 1) := dk_60 (dk_at dksX20_plan_0 16 rfl rfl)
theorem dX20_plan_17 : decode cX20_plan 17 = .ok (.aload_n 0, 1) := dk_42 (dk_at dksX20_plan_0 17 rfl rfl)
theorem dX20_plan_18 : decode cX20_plan 18 = .ok (.invokevirtual 182, 3) := dk_182 0 182 (dk_at dksX20_plan_0 18 rfl rfl)
theorem dX20_plan_21 : decode cX20_plan 21 = .ok (.aload_n 0, 1) := dk_42 (dk_at dksX20_plan_0 21 rfl rfl)
theorem dX20_plan_22 : decode cX20_plan 22 = .ok (.getfield 178, 3) := dk_180 0 178 (dk_at dksX20_plan_1 0 rfl rfl)
theorem dX20_plan_25 : decode cX20_plan 25 = .ok (.ifCond .eq 21, 3) := dk_153 0 21 (dk_at dksX20_plan_1 3 rfl rfl)
theorem dX20_plan_28 : decode cX20_plan 28 = .ok (.aload_n 0, 1) := dk_42 (dk_at dksX20_plan_1 6 rfl rfl)
theorem dX20_plan_29 : decode cX20_plan 29 = .ok (.getfield 129, 3) := dk_180 0 129 (dk_at dksX20_plan_1 7 rfl rfl)
theorem dX20_plan_32 : decode cX20_plan 32 = .ok (.ifCond .eq 14, 3) := dk_153 0 14 (dk_at dksX20_plan_1 10 rfl rfl)
theorem dX20_plan_35 : decode cX20_plan 35 = .ok (.aload_n 0, 1) := dk_42 (dk_at dksX20_plan_1 13 rfl rfl)
theorem dX20_plan_36 : decode cX20_plan 36 = .ok (.iload_n 1, 1) := dk_27 (dk_at dksX20_plan_1 14 rfl rfl)
theorem dX20_plan_37 : decode cX20_plan 37 = .ok (.invokevirtual 232, 3) := dk_182 0 232 (dk_at dksX20_plan_1 15 rfl rfl)
theorem dX20_plan_40 : decode cX20_plan 40 = .ok (.iinc 1 1, 3) := dk_132 1 1 (dk_at dksX20_plan_1 18 rfl rfl)
theorem dX20_plan_43 : decode cX20_plan 43 = .ok (.goto (-22), 3) := dk_167 255 234 (dk_at dksX20_plan_1 21 rfl rfl)
theorem dX20_plan_46 : decode cX20_plan 46 = .ok (.aload_n 0, 1) := dk_42 (dk_at dksX20_plan_2 0 rfl rfl)
theorem dX20_plan_47 : decode cX20_plan 47 = .ok (.iconst 0, 1) := dk_3 (dk_at dksX20_plan_2 1 rfl rfl)
theorem dX20_plan_48 : decode cX20_plan 48 = .ok (.putfield 107, 3) := dk_181 0 107 (dk_at dksX20_plan_2 2 rfl rfl)
theorem dX20_plan_51 : decode cX20_plan 51 = .ok (.aload_n 0, 1) := dk_42 (dk_at dksX20_plan_2 5 rfl rfl)
theorem dX20_plan_52 : decode cX20_plan 52 = .ok (.getfield 178, 3) := dk_180 0 178 (dk_at dksX20_plan_2 6 rfl rfl)
theorem dX20_plan_55 : decode cX20_plan 55 = .ok (.ifCond .ne 11, 3) := dk_154 0 11 (dk_at dksX20_plan_2 9 rfl rfl)
theorem dX20_plan_58 : decode cX20_plan 58 = .ok (.bipush (-100), 2) := dk_16 156 (dk_at dksX20_plan_2 12 rfl rfl)
theorem dX20_plan_60 : decode cX20_plan 60 = .ok (.aload_n 0, 1) := dk_42 (dk_at dksX20_plan_2 14 rfl rfl)
theorem dX20_plan_61 : decode cX20_plan 61 = .ok (.getfield 115, 3) := dk_180 0 115 (dk_at dksX20_plan_2 15 rfl rfl)
theorem dX20_plan_64 : decode cX20_plan 64 = .ok (.isub, 1) := dk_100 (dk_at dksX20_plan_2 18 rfl rfl)
theorem dX20_plan_65 : decode cX20_plan 65 = .ok (.ireturn, 1) := dk_172 (dk_at dksX20_plan_2 19 rfl rfl)
theorem dX20_plan_66 : decode cX20_plan 66 = .ok (.aload_n 0, 1) := dk_42 (dk_at dksX20_plan_2 20 rfl rfl)
theorem dX20_plan_67 : decode cX20_plan 67 = .ok (.iload_n 1, 1) := dk_27 (dk_at dksX20_plan_2 21 rfl rfl)
theorem dX20_plan_68 : decode cX20_plan 68 = .ok (.putfield 235, 3) := dk_181 0 235 (dk_at dksX20_plan_3 0 rfl rfl)
theorem dX20_plan_71 : decode cX20_plan 71 = .ok (.iconst 0, 1) := dk_3 (dk_at dksX20_plan_3 3 rfl rfl)
theorem dX20_plan_72 : decode cX20_plan 72 = .ok (.istore_n 2, 1) := dk_61 (dk_at dksX20_plan_3 4 rfl rfl)
theorem dX20_plan_73 : decode cX20_plan 73 = .ok (.iload_n 2, 1) := dk_28 (dk_at dksX20_plan_3 5 rfl rfl)
theorem dX20_plan_74 : decode cX20_plan 74 = .ok (.bipush 24, 2) := dk_16 24 (dk_at dksX20_plan_3 6 rfl rfl)
theorem dX20_plan_76 : decode cX20_plan 76 = .ok (.if_icmp .ge 21, 3) := dk_162 0 21 (dk_at dksX20_plan_3 8 rfl rfl)
theorem dX20_plan_79 : decode cX20_plan 79 = .ok (.aload_n 0, 1) := dk_42 (dk_at dksX20_plan_3 11 rfl rfl)
theorem dX20_plan_80 : decode cX20_plan 80 = .ok (.getfield 37, 3) := dk_180 0 37 (dk_at dksX20_plan_3 12 rfl rfl)
theorem dX20_plan_83 : decode cX20_plan 83 = .ok (.iload_n 2, 1) := dk_28 (dk_at dksX20_plan_3 15 rfl rfl)
theorem dX20_plan_84 : decode cX20_plan 84 = .ok (.aload_n 0, 1) := dk_42 (dk_at dksX20_plan_3 16 rfl rfl)
theorem dX20_plan_85 : decode cX20_plan 85 = .ok (.getfield 63, 3) := dk_180 0 63 (dk_at dksX20_plan_3 17 rfl rfl)
theorem dX20_plan_88 : decode cX20_plan 88 = .ok (.iload_n 2, 1) := dk_28 (dk_at dksX20_plan_3 20 rfl rfl)
theorem dX20_plan_89 : decode cX20_plan 89 = .ok (.iaload, 1) := dk_46 (dk_at dksX20_plan_3 21 rfl rfl)
theorem dX20_plan_90 : decode cX20_plan 90 = .ok (.iastore, 1) := dk_79 (dk_at dksX20_plan_3 22 rfl rfl)
theorem dX20_plan_91 : decode cX20_plan 91 = .ok (.iinc 2 1, 3) := dk_132 2 1 (dk_at dksX20_plan_4 0 rfl rfl)
theorem dX20_plan_94 : decode cX20_plan 94 = .ok (.goto (-21), 3) := dk_167 255 235 (dk_at dksX20_plan_4 3 rfl rfl)
theorem dX20_plan_97 : decode cX20_plan 97 = .ok (.iconst 0, 1) := dk_3 (dk_at dksX20_plan_4 6 rfl rfl)
theorem dX20_plan_98 : decode cX20_plan 98 = .ok (.istore_n 2, 1) := dk_61 (dk_at dksX20_plan_4 7 rfl rfl)
theorem dX20_plan_99 : decode cX20_plan 99 = .ok (.iload_n 2, 1) := dk_28 (dk_at dksX20_plan_4 8 rfl rfl)
theorem dX20_plan_100 : decode cX20_plan 100 = .ok (.aload_n 0, 1) := dk_42 (dk_at dksX20_plan_4 9 rfl rfl)
theorem dX20_plan_101 : decode cX20_plan 101 = .ok (.getfield 161, 3) := dk_180 0 161 (dk_at dksX20_plan_4 10 rfl rfl)
theorem dX20_plan_104 : decode cX20_plan 104 = .ok (.if_icmp .ge 21, 3) := dk_162 0 21 (dk_at dksX20_plan_4 13 rfl rfl)
theorem dX20_plan_107 : decode cX20_plan 107 = .ok (.aload_n 0, 1) := dk_42 (dk_at dksX20_plan_4 16 rfl rfl)
theorem dX20_plan_108 : decode cX20_plan 108 = .ok (.getfield 40, 3) := dk_180 0 40 (dk_at dksX20_plan_4 17 rfl rfl)
theorem dX20_plan_111 : decode cX20_plan 111 = .ok (.iload_n 2, 1) := dk_28 (dk_at dksX20_plan_4 20 rfl rfl)
theorem dX20_plan_112 : decode cX20_plan 112 = .ok (.aload_n 0, 1) := dk_42 (dk_at dksX20_plan_4 21 rfl rfl)
theorem dX20_plan_113 : decode cX20_plan 113 = .ok (.getfield 53, 3) := dk_180 0 53 (dk_at dksX20_plan_5 0 rfl rfl)
theorem dX20_plan_116 : decode cX20_plan 116 = .ok (.iload_n 2, 1) := dk_28 (dk_at dksX20_plan_5 3 rfl rfl)
theorem dX20_plan_117 : decode cX20_plan 117 = .ok (.iaload, 1) := dk_46 (dk_at dksX20_plan_5 4 rfl rfl)
theorem dX20_plan_118 : decode cX20_plan 118 = .ok (.iastore, 1) := dk_79 (dk_at dksX20_plan_5 5 rfl rfl)
theorem dX20_plan_119 : decode cX20_plan 119 = .ok (.iinc 2 1, 3) := dk_132 2 1 (dk_at dksX20_plan_5 6 rfl rfl)
theorem dX20_plan_122 : decode cX20_plan 122 = .ok (.goto (-23), 3) := dk_167 255 233 (dk_at dksX20_plan_5 9 rfl rfl)
theorem dX20_plan_125 : decode cX20_plan 125 = .ok (.aload_n 0, 1) := dk_42 (dk_at dksX20_plan_5 12 rfl rfl)
theorem dX20_plan_126 : decode cX20_plan 126 = .ok (.getfield 235, 3) := dk_180 0 235 (dk_at dksX20_plan_5 13 rfl rfl)
theorem dX20_plan_129 : decode cX20_plan 129 = .ok (.ireturn, 1) := dk_172 (dk_at dksX20_plan_5 16 rfl rfl)
abbrev cX20_advance : ByteArray := prog_38_method_10_code
def yX20_advance : MethodName := ⟨RX20, "advance", "()V"⟩
def dkwX20_advance_12 : List UInt8 := [167, 255, 184, 177]
abbrev dktX20_advance_12 : List UInt8 := dkwX20_advance_12 ++ []
def dkwX20_advance_11 : List UInt8 := [182, 0, 118, 96, 16, 48, 100, 167, 0, 4, 2, 181, 0, 136, 42, 89, 180, 0, 112, 4, 96, 181, 0, 112]
abbrev dktX20_advance_11 : List UInt8 := dkwX20_advance_11 ++ dktX20_advance_12
def dkwX20_advance_10 : List UInt8 := [180, 0, 112, 42, 180, 0, 115, 100, 7, 162, 0, 25, 16, 10, 42, 180, 0, 136, 104, 42, 42, 180, 0, 112]
abbrev dktX20_advance_10 : List UInt8 := dkwX20_advance_10 ++ dktX20_advance_11
def dkwX20_advance_9 : List UInt8 := [180, 0, 129, 5, 160, 0, 70, 42, 42, 180, 0, 112, 182, 0, 118, 184, 0, 126, 153, 0, 56, 42, 42]
abbrev dktX20_advance_9 : List UInt8 := dkwX20_advance_9 ++ dktX20_advance_10
def dkwX20_advance_8 : List UInt8 := [167, 0, 6, 20, 0, 143, 181, 0, 132, 42, 89, 180, 0, 112, 4, 96, 181, 0, 112, 167, 255, 178, 42]
abbrev dktX20_advance_8 : List UInt8 := dkwX20_advance_8 ++ dktX20_advance_9
def dkwX20_advance_7 : List UInt8 := [20, 0, 139, 42, 180, 0, 132, 105, 42, 42, 180, 0, 112, 182, 0, 118, 133, 97, 20, 0, 141, 101]
abbrev dktX20_advance_7 : List UInt8 := dkwX20_advance_7 ++ dktX20_advance_8
def dkwX20_advance_6 : List UInt8 := [182, 0, 118, 184, 0, 122, 153, 0, 62, 42, 42, 180, 0, 112, 42, 180, 0, 115, 100, 16, 8, 162, 0, 28]
abbrev dktX20_advance_6 : List UInt8 := dkwX20_advance_6 ++ dktX20_advance_7
def dkwX20_advance_5 : List UInt8 := [89, 180, 0, 112, 4, 96, 181, 0, 112, 42, 180, 0, 129, 4, 160, 0, 76, 42, 42, 180, 0, 112]
abbrev dktX20_advance_5 : List UInt8 := dkwX20_advance_5 ++ dktX20_advance_6
def dkwX20_advance_4 : List UInt8 := [180, 0, 129, 5, 160, 0, 7, 3, 167, 0, 4, 27, 181, 0, 136, 42, 180, 0, 129, 6, 160, 0, 13, 42]
abbrev dktX20_advance_4 : List UInt8 := dkwX20_advance_4 ++ dktX20_advance_5
def dkwX20_advance_3 : List UInt8 := [27, 184, 0, 126, 153, 0, 7, 5, 167, 0, 4, 6, 181, 0, 129, 42, 9, 181, 0, 132, 42, 42]
abbrev dktX20_advance_3 : List UInt8 := dkwX20_advance_3 ++ dktX20_advance_4
def dkwX20_advance_2 : List UInt8 := [182, 0, 118, 60, 42, 27, 156, 0, 7, 3, 167, 0, 26, 27, 184, 0, 122, 153, 0, 7, 4, 167, 0, 15]
abbrev dktX20_advance_2 : List UInt8 := dkwX20_advance_2 ++ dktX20_advance_3
def dkwX20_advance_1 : List UInt8 := [180, 0, 115, 4, 96, 181, 0, 115, 167, 255, 233, 42, 42, 180, 0, 115, 181, 0, 112, 42, 42, 180, 0, 115]
abbrev dktX20_advance_1 : List UInt8 := dkwX20_advance_1 ++ dktX20_advance_2
def dkwX20_advance_0 : List UInt8 := [42, 42, 180, 0, 112, 181, 0, 115, 42, 42, 180, 0, 115, 182, 0, 118, 16, 32, 160, 0, 16, 42, 89]
abbrev dktX20_advance_0 : List UInt8 := dkwX20_advance_0 ++ dktX20_advance_1
theorem dksX20_advance_0 : cX20_advance.data.toList.drop 0 = dktX20_advance_0 := by decide +kernel
theorem dksX20_advance_1 : cX20_advance.data.toList.drop 23 = dktX20_advance_1 := dk_seg dksX20_advance_0 23 rfl rfl
theorem dksX20_advance_2 : cX20_advance.data.toList.drop 47 = dktX20_advance_2 := dk_seg dksX20_advance_1 24 rfl rfl
theorem dksX20_advance_3 : cX20_advance.data.toList.drop 71 = dktX20_advance_3 := dk_seg dksX20_advance_2 24 rfl rfl
theorem dksX20_advance_4 : cX20_advance.data.toList.drop 93 = dktX20_advance_4 := dk_seg dksX20_advance_3 22 rfl rfl
theorem dksX20_advance_5 : cX20_advance.data.toList.drop 117 = dktX20_advance_5 := dk_seg dksX20_advance_4 24 rfl rfl
theorem dksX20_advance_6 : cX20_advance.data.toList.drop 139 = dktX20_advance_6 := dk_seg dksX20_advance_5 22 rfl rfl
theorem dksX20_advance_7 : cX20_advance.data.toList.drop 163 = dktX20_advance_7 := dk_seg dksX20_advance_6 24 rfl rfl
theorem dksX20_advance_8 : cX20_advance.data.toList.drop 185 = dktX20_advance_8 := dk_seg dksX20_advance_7 22 rfl rfl
theorem dksX20_advance_9 : cX20_advance.data.toList.drop 208 = dktX20_advance_9 := dk_seg dksX20_advance_8 23 rfl rfl
theorem dksX20_advance_10 : cX20_advance.data.toList.drop 231 = dktX20_advance_10 := dk_seg dksX20_advance_9 23 rfl rfl
theorem dksX20_advance_11 : cX20_advance.data.toList.drop 255 = dktX20_advance_11 := dk_seg dksX20_advance_10 24 rfl rfl
theorem dksX20_advance_12 : cX20_advance.data.toList.drop 279 = dktX20_advance_12 := dk_seg dksX20_advance_11 24 rfl rfl
theorem dX20_advance_0 : decode cX20_advance 0 = .ok (.aload_n 0, 1) := dk_42 (dk_at dksX20_advance_0 0 rfl rfl)
theorem dX20_advance_1 : decode cX20_advance 1 = .ok (.aload_n 0, 1) := dk_42 (dk_at dksX20_advance_0 1 rfl rfl)
theorem dX20_advance_2 : decode cX20_advance 2 = .ok (.getfield 112, 3) := dk_180 0 112 (dk_at dksX20_advance_0 2 rfl rfl)
theorem dX20_advance_5 : decode cX20_advance 5 = .ok (.putfield 115, 3) := dk_181 0 115 (dk_at dksX20_advance_0 5 rfl rfl)
theorem dX20_advance_8 : decode cX20_advance 8 = .ok (.aload_n 0, 1) := dk_42 (dk_at dksX20_advance_0 8 rfl rfl)
theorem dX20_advance_9 : decode cX20_advance 9 = .ok (.aload_n 0, 1) := dk_42 (dk_at dksX20_advance_0 9 rfl rfl)
theorem dX20_advance_10 : decode cX20_advance 10 = .ok (.getfield 115, 3) := dk_180 0 115 (dk_at dksX20_advance_0 10 rfl rfl)
theorem dX20_advance_13 : decode cX20_advance 13 = .ok (.invokevirtual 118, 3) := dk_182 0 118 (dk_at dksX20_advance_0 13 rfl rfl)
theorem dX20_advance_16 : decode cX20_advance 16 = .ok (.bipush 32, 2) := dk_16 32 (dk_at dksX20_advance_0 16 rfl rfl)
theorem dX20_advance_18 : decode cX20_advance 18 = .ok (.if_icmp .ne 16, 3) := dk_160 0 16 (dk_at dksX20_advance_0 18 rfl rfl)
theorem dX20_advance_21 : decode cX20_advance 21 = .ok (.aload_n 0, 1) := dk_42 (dk_at dksX20_advance_0 21 rfl rfl)
theorem dX20_advance_22 : decode cX20_advance 22 = .ok (.dup, 1) := dk_89 (dk_at dksX20_advance_0 22 rfl rfl)
theorem dX20_advance_23 : decode cX20_advance 23 = .ok (.getfield 115, 3) := dk_180 0 115 (dk_at dksX20_advance_1 0 rfl rfl)
theorem dX20_advance_26 : decode cX20_advance 26 = .ok (.iconst 1, 1) := dk_4 (dk_at dksX20_advance_1 3 rfl rfl)
theorem dX20_advance_27 : decode cX20_advance 27 = .ok (.iadd, 1) := dk_96 (dk_at dksX20_advance_1 4 rfl rfl)
theorem dX20_advance_28 : decode cX20_advance 28 = .ok (.putfield 115, 3) := dk_181 0 115 (dk_at dksX20_advance_1 5 rfl rfl)
theorem dX20_advance_31 : decode cX20_advance 31 = .ok (.goto (-23), 3) := dk_167 255 233 (dk_at dksX20_advance_1 8 rfl rfl)
theorem dX20_advance_34 : decode cX20_advance 34 = .ok (.aload_n 0, 1) := dk_42 (dk_at dksX20_advance_1 11 rfl rfl)
theorem dX20_advance_35 : decode cX20_advance 35 = .ok (.aload_n 0, 1) := dk_42 (dk_at dksX20_advance_1 12 rfl rfl)
theorem dX20_advance_36 : decode cX20_advance 36 = .ok (.getfield 115, 3) := dk_180 0 115 (dk_at dksX20_advance_1 13 rfl rfl)
theorem dX20_advance_39 : decode cX20_advance 39 = .ok (.putfield 112, 3) := dk_181 0 112 (dk_at dksX20_advance_1 16 rfl rfl)
theorem dX20_advance_42 : decode cX20_advance 42 = .ok (.aload_n 0, 1) := dk_42 (dk_at dksX20_advance_1 19 rfl rfl)
theorem dX20_advance_43 : decode cX20_advance 43 = .ok (.aload_n 0, 1) := dk_42 (dk_at dksX20_advance_1 20 rfl rfl)
theorem dX20_advance_44 : decode cX20_advance 44 = .ok (.getfield 115, 3) := dk_180 0 115 (dk_at dksX20_advance_1 21 rfl rfl)
theorem dX20_advance_47 : decode cX20_advance 47 = .ok (.invokevirtual 118, 3) := dk_182 0 118 (dk_at dksX20_advance_2 0 rfl rfl)
theorem dX20_advance_50 : decode cX20_advance 50 = .ok (.istore_n 1, 1) := dk_60 (dk_at dksX20_advance_2 3 rfl rfl)
theorem dX20_advance_51 : decode cX20_advance 51 = .ok (.aload_n 0, 1) := dk_42 (dk_at dksX20_advance_2 4 rfl rfl)
theorem dX20_advance_52 : decode cX20_advance 52 = .ok (.iload_n 1, 1) := dk_27 (dk_at dksX20_advance_2 5 rfl rfl)
theorem dX20_advance_53 : decode cX20_advance 53 = .ok (.ifCond .ge 7, 3) := dk_156 0 7 (dk_at dksX20_advance_2 6 rfl rfl)
theorem dX20_advance_56 : decode cX20_advance 56 = .ok (.iconst 0, 1) := dk_3 (dk_at dksX20_advance_2 9 rfl rfl)
theorem dX20_advance_57 : decode cX20_advance 57 = .ok (.goto 26, 3) := dk_167 0 26 (dk_at dksX20_advance_2 10 rfl rfl)
theorem dX20_advance_60 : decode cX20_advance 60 = .ok (.iload_n 1, 1) := dk_27 (dk_at dksX20_advance_2 13 rfl rfl)
theorem dX20_advance_61 : decode cX20_advance 61 = .ok (.invokestatic 122, 3) := dk_184 0 122 (dk_at dksX20_advance_2 14 rfl rfl)
theorem dX20_advance_64 : decode cX20_advance 64 = .ok (.ifCond .eq 7, 3) := dk_153 0 7 (dk_at dksX20_advance_2 17 rfl rfl)
theorem dX20_advance_67 : decode cX20_advance 67 = .ok (.iconst 1, 1) := dk_4 (dk_at dksX20_advance_2 20 rfl rfl)
theorem dX20_advance_68 : decode cX20_advance 68 = .ok (.goto 15, 3) := dk_167 0 15 (dk_at dksX20_advance_2 21 rfl rfl)
theorem dX20_advance_71 : decode cX20_advance 71 = .ok (.iload_n 1, 1) := dk_27 (dk_at dksX20_advance_3 0 rfl rfl)
theorem dX20_advance_72 : decode cX20_advance 72 = .ok (.invokestatic 126, 3) := dk_184 0 126 (dk_at dksX20_advance_3 1 rfl rfl)
theorem dX20_advance_75 : decode cX20_advance 75 = .ok (.ifCond .eq 7, 3) := dk_153 0 7 (dk_at dksX20_advance_3 4 rfl rfl)
theorem dX20_advance_78 : decode cX20_advance 78 = .ok (.iconst 2, 1) := dk_5 (dk_at dksX20_advance_3 7 rfl rfl)
theorem dX20_advance_79 : decode cX20_advance 79 = .ok (.goto 4, 3) := dk_167 0 4 (dk_at dksX20_advance_3 8 rfl rfl)
theorem dX20_advance_82 : decode cX20_advance 82 = .ok (.iconst 3, 1) := dk_6 (dk_at dksX20_advance_3 11 rfl rfl)
theorem dX20_advance_83 : decode cX20_advance 83 = .ok (.putfield 129, 3) := dk_181 0 129 (dk_at dksX20_advance_3 12 rfl rfl)
theorem dX20_advance_86 : decode cX20_advance 86 = .ok (.aload_n 0, 1) := dk_42 (dk_at dksX20_advance_3 15 rfl rfl)
theorem dX20_advance_87 : decode cX20_advance 87 = .ok (.lconst 0, 1) := dk_9 (dk_at dksX20_advance_3 16 rfl rfl)
theorem dX20_advance_88 : decode cX20_advance 88 = .ok (.putfield 132, 3) := dk_181 0 132 (dk_at dksX20_advance_3 17 rfl rfl)
theorem dX20_advance_91 : decode cX20_advance 91 = .ok (.aload_n 0, 1) := dk_42 (dk_at dksX20_advance_3 20 rfl rfl)
theorem dX20_advance_92 : decode cX20_advance 92 = .ok (.aload_n 0, 1) := dk_42 (dk_at dksX20_advance_3 21 rfl rfl)
theorem dX20_advance_93 : decode cX20_advance 93 = .ok (.getfield 129, 3) := dk_180 0 129 (dk_at dksX20_advance_4 0 rfl rfl)
theorem dX20_advance_96 : decode cX20_advance 96 = .ok (.iconst 2, 1) := dk_5 (dk_at dksX20_advance_4 3 rfl rfl)
theorem dX20_advance_97 : decode cX20_advance 97 = .ok (.if_icmp .ne 7, 3) := dk_160 0 7 (dk_at dksX20_advance_4 4 rfl rfl)
theorem dX20_advance_100 : decode cX20_advance 100 = .ok (.iconst 0, 1) := dk_3 (dk_at dksX20_advance_4 7 rfl rfl)
theorem dX20_advance_101 : decode cX20_advance 101 = .ok (.goto 4, 3) := dk_167 0 4 (dk_at dksX20_advance_4 8 rfl rfl)
theorem dX20_advance_104 : decode cX20_advance 104 = .ok (.iload_n 1, 1) := dk_27 (dk_at dksX20_advance_4 11 rfl rfl)
theorem dX20_advance_105 : decode cX20_advance 105 = .ok (.putfield 136, 3) := dk_181 0 136 (dk_at dksX20_advance_4 12 rfl rfl)
theorem dX20_advance_108 : decode cX20_advance 108 = .ok (.aload_n 0, 1) := dk_42 (dk_at dksX20_advance_4 15 rfl rfl)
theorem dX20_advance_109 : decode cX20_advance 109 = .ok (.getfield 129, 3) := dk_180 0 129 (dk_at dksX20_advance_4 16 rfl rfl)
theorem dX20_advance_112 : decode cX20_advance 112 = .ok (.iconst 3, 1) := dk_6 (dk_at dksX20_advance_4 19 rfl rfl)
theorem dX20_advance_113 : decode cX20_advance 113 = .ok (.if_icmp .ne 13, 3) := dk_160 0 13 (dk_at dksX20_advance_4 20 rfl rfl)
theorem dX20_advance_116 : decode cX20_advance 116 = .ok (.aload_n 0, 1) := dk_42 (dk_at dksX20_advance_4 23 rfl rfl)
theorem dX20_advance_117 : decode cX20_advance 117 = .ok (.dup, 1) := dk_89 (dk_at dksX20_advance_5 0 rfl rfl)
theorem dX20_advance_118 : decode cX20_advance 118 = .ok (.getfield 112, 3) := dk_180 0 112 (dk_at dksX20_advance_5 1 rfl rfl)
theorem dX20_advance_121 : decode cX20_advance 121 = .ok (.iconst 1, 1) := dk_4 (dk_at dksX20_advance_5 4 rfl rfl)
theorem dX20_advance_122 : decode cX20_advance 122 = .ok (.iadd, 1) := dk_96 (dk_at dksX20_advance_5 5 rfl rfl)
theorem dX20_advance_123 : decode cX20_advance 123 = .ok (.putfield 112, 3) := dk_181 0 112 (dk_at dksX20_advance_5 6 rfl rfl)
theorem dX20_advance_126 : decode cX20_advance 126 = .ok (.aload_n 0, 1) := dk_42 (dk_at dksX20_advance_5 9 rfl rfl)
theorem dX20_advance_127 : decode cX20_advance 127 = .ok (.getfield 129, 3) := dk_180 0 129 (dk_at dksX20_advance_5 10 rfl rfl)
theorem dX20_advance_130 : decode cX20_advance 130 = .ok (.iconst 1, 1) := dk_4 (dk_at dksX20_advance_5 13 rfl rfl)
theorem dX20_advance_131 : decode cX20_advance 131 = .ok (.if_icmp .ne 76, 3) := dk_160 0 76 (dk_at dksX20_advance_5 14 rfl rfl)
theorem dX20_advance_134 : decode cX20_advance 134 = .ok (.aload_n 0, 1) := dk_42 (dk_at dksX20_advance_5 17 rfl rfl)
theorem dX20_advance_135 : decode cX20_advance 135 = .ok (.aload_n 0, 1) := dk_42 (dk_at dksX20_advance_5 18 rfl rfl)
theorem dX20_advance_136 : decode cX20_advance 136 = .ok (.getfield 112, 3) := dk_180 0 112 (dk_at dksX20_advance_5 19 rfl rfl)
theorem dX20_advance_139 : decode cX20_advance 139 = .ok (.invokevirtual 118, 3) := dk_182 0 118 (dk_at dksX20_advance_6 0 rfl rfl)
theorem dX20_advance_142 : decode cX20_advance 142 = .ok (.invokestatic 122, 3) := dk_184 0 122 (dk_at dksX20_advance_6 3 rfl rfl)
theorem dX20_advance_145 : decode cX20_advance 145 = .ok (.ifCond .eq 62, 3) := dk_153 0 62 (dk_at dksX20_advance_6 6 rfl rfl)
theorem dX20_advance_148 : decode cX20_advance 148 = .ok (.aload_n 0, 1) := dk_42 (dk_at dksX20_advance_6 9 rfl rfl)
theorem dX20_advance_149 : decode cX20_advance 149 = .ok (.aload_n 0, 1) := dk_42 (dk_at dksX20_advance_6 10 rfl rfl)
theorem dX20_advance_150 : decode cX20_advance 150 = .ok (.getfield 112, 3) := dk_180 0 112 (dk_at dksX20_advance_6 11 rfl rfl)
theorem dX20_advance_153 : decode cX20_advance 153 = .ok (.aload_n 0, 1) := dk_42 (dk_at dksX20_advance_6 14 rfl rfl)
theorem dX20_advance_154 : decode cX20_advance 154 = .ok (.getfield 115, 3) := dk_180 0 115 (dk_at dksX20_advance_6 15 rfl rfl)
theorem dX20_advance_157 : decode cX20_advance 157 = .ok (.isub, 1) := dk_100 (dk_at dksX20_advance_6 18 rfl rfl)
theorem dX20_advance_158 : decode cX20_advance 158 = .ok (.bipush 8, 2) := dk_16 8 (dk_at dksX20_advance_6 19 rfl rfl)
theorem dX20_advance_160 : decode cX20_advance 160 = .ok (.if_icmp .ge 28, 3) := dk_162 0 28 (dk_at dksX20_advance_6 21 rfl rfl)
theorem dX20_advance_163 : decode cX20_advance 163 = .ok (.ldc2_w 139, 3) := dk_20 0 139 (dk_at dksX20_advance_7 0 rfl rfl)
theorem dX20_advance_166 : decode cX20_advance 166 = .ok (.aload_n 0, 1) := dk_42 (dk_at dksX20_advance_7 3 rfl rfl)
theorem dX20_advance_167 : decode cX20_advance 167 = .ok (.getfield 132, 3) := dk_180 0 132 (dk_at dksX20_advance_7 4 rfl rfl)
theorem dX20_advance_170 : decode cX20_advance 170 = .ok (.lmul, 1) := dk_105 (dk_at dksX20_advance_7 7 rfl rfl)
theorem dX20_advance_171 : decode cX20_advance 171 = .ok (.aload_n 0, 1) := dk_42 (dk_at dksX20_advance_7 8 rfl rfl)
theorem dX20_advance_172 : decode cX20_advance 172 = .ok (.aload_n 0, 1) := dk_42 (dk_at dksX20_advance_7 9 rfl rfl)
theorem dX20_advance_173 : decode cX20_advance 173 = .ok (.getfield 112, 3) := dk_180 0 112 (dk_at dksX20_advance_7 10 rfl rfl)
theorem dX20_advance_176 : decode cX20_advance 176 = .ok (.invokevirtual 118, 3) := dk_182 0 118 (dk_at dksX20_advance_7 13 rfl rfl)
theorem dX20_advance_179 : decode cX20_advance 179 = .ok (.i2l, 1) := dk_133 (dk_at dksX20_advance_7 16 rfl rfl)
theorem dX20_advance_180 : decode cX20_advance 180 = .ok (.ladd, 1) := dk_97 (dk_at dksX20_advance_7 17 rfl rfl)
theorem dX20_advance_181 : decode cX20_advance 181 = .ok (.ldc2_w 141, 3) := dk_20 0 141 (dk_at dksX20_advance_7 18 rfl rfl)
theorem dX20_advance_184 : decode cX20_advance 184 = .ok (.lsub, 1) := dk_101 (dk_at dksX20_advance_7 21 rfl rfl)
theorem dX20_advance_185 : decode cX20_advance 185 = .ok (.goto 6, 3) := dk_167 0 6 (dk_at dksX20_advance_8 0 rfl rfl)
theorem dX20_advance_188 : decode cX20_advance 188 = .ok (.ldc2_w 143, 3) := dk_20 0 143 (dk_at dksX20_advance_8 3 rfl rfl)
theorem dX20_advance_191 : decode cX20_advance 191 = .ok (.putfield 132, 3) := dk_181 0 132 (dk_at dksX20_advance_8 6 rfl rfl)
theorem dX20_advance_194 : decode cX20_advance 194 = .ok (.aload_n 0, 1) := dk_42 (dk_at dksX20_advance_8 9 rfl rfl)
theorem dX20_advance_195 : decode cX20_advance 195 = .ok (.dup, 1) := dk_89 (dk_at dksX20_advance_8 10 rfl rfl)
theorem dX20_advance_196 : decode cX20_advance 196 = .ok (.getfield 112, 3) := dk_180 0 112 (dk_at dksX20_advance_8 11 rfl rfl)
theorem dX20_advance_199 : decode cX20_advance 199 = .ok (.iconst 1, 1) := dk_4 (dk_at dksX20_advance_8 14 rfl rfl)
theorem dX20_advance_200 : decode cX20_advance 200 = .ok (.iadd, 1) := dk_96 (dk_at dksX20_advance_8 15 rfl rfl)
theorem dX20_advance_201 : decode cX20_advance 201 = .ok (.putfield 112, 3) := dk_181 0 112 (dk_at dksX20_advance_8 16 rfl rfl)
theorem dX20_advance_204 : decode cX20_advance 204 = .ok (.goto (-78), 3) := dk_167 255 178 (dk_at dksX20_advance_8 19 rfl rfl)
theorem dX20_advance_207 : decode cX20_advance 207 = .ok (.aload_n 0, 1) := dk_42 (dk_at dksX20_advance_8 22 rfl rfl)
theorem dX20_advance_208 : decode cX20_advance 208 = .ok (.getfield 129, 3) := dk_180 0 129 (dk_at dksX20_advance_9 0 rfl rfl)
theorem dX20_advance_211 : decode cX20_advance 211 = .ok (.iconst 2, 1) := dk_5 (dk_at dksX20_advance_9 3 rfl rfl)
theorem dX20_advance_212 : decode cX20_advance 212 = .ok (.if_icmp .ne 70, 3) := dk_160 0 70 (dk_at dksX20_advance_9 4 rfl rfl)
theorem dX20_advance_215 : decode cX20_advance 215 = .ok (.aload_n 0, 1) := dk_42 (dk_at dksX20_advance_9 7 rfl rfl)
theorem dX20_advance_216 : decode cX20_advance 216 = .ok (.aload_n 0, 1) := dk_42 (dk_at dksX20_advance_9 8 rfl rfl)
theorem dX20_advance_217 : decode cX20_advance 217 = .ok (.getfield 112, 3) := dk_180 0 112 (dk_at dksX20_advance_9 9 rfl rfl)
theorem dX20_advance_220 : decode cX20_advance 220 = .ok (.invokevirtual 118, 3) := dk_182 0 118 (dk_at dksX20_advance_9 12 rfl rfl)
theorem dX20_advance_223 : decode cX20_advance 223 = .ok (.invokestatic 126, 3) := dk_184 0 126 (dk_at dksX20_advance_9 15 rfl rfl)
theorem dX20_advance_226 : decode cX20_advance 226 = .ok (.ifCond .eq 56, 3) := dk_153 0 56 (dk_at dksX20_advance_9 18 rfl rfl)
theorem dX20_advance_229 : decode cX20_advance 229 = .ok (.aload_n 0, 1) := dk_42 (dk_at dksX20_advance_9 21 rfl rfl)
theorem dX20_advance_230 : decode cX20_advance 230 = .ok (.aload_n 0, 1) := dk_42 (dk_at dksX20_advance_9 22 rfl rfl)
theorem dX20_advance_231 : decode cX20_advance 231 = .ok (.getfield 112, 3) := dk_180 0 112 (dk_at dksX20_advance_10 0 rfl rfl)
theorem dX20_advance_234 : decode cX20_advance 234 = .ok (.aload_n 0, 1) := dk_42 (dk_at dksX20_advance_10 3 rfl rfl)
theorem dX20_advance_235 : decode cX20_advance 235 = .ok (.getfield 115, 3) := dk_180 0 115 (dk_at dksX20_advance_10 4 rfl rfl)
theorem dX20_advance_238 : decode cX20_advance 238 = .ok (.isub, 1) := dk_100 (dk_at dksX20_advance_10 7 rfl rfl)
theorem dX20_advance_239 : decode cX20_advance 239 = .ok (.iconst 4, 1) := dk_7 (dk_at dksX20_advance_10 8 rfl rfl)
theorem dX20_advance_240 : decode cX20_advance 240 = .ok (.if_icmp .ge 25, 3) := dk_162 0 25 (dk_at dksX20_advance_10 9 rfl rfl)
theorem dX20_advance_243 : decode cX20_advance 243 = .ok (.bipush 10, 2) := dk_16 10 (dk_at dksX20_advance_10 12 rfl rfl)
theorem dX20_advance_245 : decode cX20_advance 245 = .ok (.aload_n 0, 1) := dk_42 (dk_at dksX20_advance_10 14 rfl rfl)
theorem dX20_advance_246 : decode cX20_advance 246 = .ok (.getfield 136, 3) := dk_180 0 136 (dk_at dksX20_advance_10 15 rfl rfl)
theorem dX20_advance_249 : decode cX20_advance 249 = .ok (.imul, 1) := dk_104 (dk_at dksX20_advance_10 18 rfl rfl)
theorem dX20_advance_250 : decode cX20_advance 250 = .ok (.aload_n 0, 1) := dk_42 (dk_at dksX20_advance_10 19 rfl rfl)
theorem dX20_advance_251 : decode cX20_advance 251 = .ok (.aload_n 0, 1) := dk_42 (dk_at dksX20_advance_10 20 rfl rfl)
theorem dX20_advance_252 : decode cX20_advance 252 = .ok (.getfield 112, 3) := dk_180 0 112 (dk_at dksX20_advance_10 21 rfl rfl)
theorem dX20_advance_255 : decode cX20_advance 255 = .ok (.invokevirtual 118, 3) := dk_182 0 118 (dk_at dksX20_advance_11 0 rfl rfl)
theorem dX20_advance_258 : decode cX20_advance 258 = .ok (.iadd, 1) := dk_96 (dk_at dksX20_advance_11 3 rfl rfl)
theorem dX20_advance_259 : decode cX20_advance 259 = .ok (.bipush 48, 2) := dk_16 48 (dk_at dksX20_advance_11 4 rfl rfl)
theorem dX20_advance_261 : decode cX20_advance 261 = .ok (.isub, 1) := dk_100 (dk_at dksX20_advance_11 6 rfl rfl)
theorem dX20_advance_262 : decode cX20_advance 262 = .ok (.goto 4, 3) := dk_167 0 4 (dk_at dksX20_advance_11 7 rfl rfl)
theorem dX20_advance_265 : decode cX20_advance 265 = .ok (.iconst (-1), 1) := dk_2 (dk_at dksX20_advance_11 10 rfl rfl)
theorem dX20_advance_266 : decode cX20_advance 266 = .ok (.putfield 136, 3) := dk_181 0 136 (dk_at dksX20_advance_11 11 rfl rfl)
theorem dX20_advance_269 : decode cX20_advance 269 = .ok (.aload_n 0, 1) := dk_42 (dk_at dksX20_advance_11 14 rfl rfl)
theorem dX20_advance_270 : decode cX20_advance 270 = .ok (.dup, 1) := dk_89 (dk_at dksX20_advance_11 15 rfl rfl)
theorem dX20_advance_271 : decode cX20_advance 271 = .ok (.getfield 112, 3) := dk_180 0 112 (dk_at dksX20_advance_11 16 rfl rfl)
theorem dX20_advance_274 : decode cX20_advance 274 = .ok (.iconst 1, 1) := dk_4 (dk_at dksX20_advance_11 19 rfl rfl)
theorem dX20_advance_275 : decode cX20_advance 275 = .ok (.iadd, 1) := dk_96 (dk_at dksX20_advance_11 20 rfl rfl)
theorem dX20_advance_276 : decode cX20_advance 276 = .ok (.putfield 112, 3) := dk_181 0 112 (dk_at dksX20_advance_11 21 rfl rfl)
theorem dX20_advance_279 : decode cX20_advance 279 = .ok (.goto (-72), 3) := dk_167 255 184 (dk_at dksX20_advance_12 0 rfl rfl)
theorem dX20_advance_282 : decode cX20_advance 282 = .ok (.return_, 1) := dk_177 (dk_at dksX20_advance_12 3 rfl rfl)
abbrev cX20_byteAt : ByteArray := prog_38_method_7_code
def yX20_byteAt : MethodName := ⟨RX20, "byteAt", "(I)I"⟩
def dkwX20_byteAt_0 : List UInt8 := [27, 42, 180, 0, 107, 162, 0, 12, 42, 180, 0, 47, 27, 46, 167, 0, 4, 2, 172]
abbrev dktX20_byteAt_0 : List UInt8 := dkwX20_byteAt_0 ++ []
theorem dksX20_byteAt_0 : cX20_byteAt.data.toList.drop 0 = dktX20_byteAt_0 := by decide +kernel
theorem dX20_byteAt_0 : decode cX20_byteAt 0 = .ok (.iload_n 1, 1) := dk_27 (dk_at dksX20_byteAt_0 0 rfl rfl)
theorem dX20_byteAt_1 : decode cX20_byteAt 1 = .ok (.aload_n 0, 1) := dk_42 (dk_at dksX20_byteAt_0 1 rfl rfl)
theorem dX20_byteAt_2 : decode cX20_byteAt 2 = .ok (.getfield 107, 3) := dk_180 0 107 (dk_at dksX20_byteAt_0 2 rfl rfl)
theorem dX20_byteAt_5 : decode cX20_byteAt 5 = .ok (.if_icmp .ge 12, 3) := dk_162 0 12 (dk_at dksX20_byteAt_0 5 rfl rfl)
theorem dX20_byteAt_8 : decode cX20_byteAt 8 = .ok (.aload_n 0, 1) := dk_42 (dk_at dksX20_byteAt_0 8 rfl rfl)
theorem dX20_byteAt_9 : decode cX20_byteAt 9 = .ok (.getfield 47, 3) := dk_180 0 47 (dk_at dksX20_byteAt_0 9 rfl rfl)
theorem dX20_byteAt_12 : decode cX20_byteAt 12 = .ok (.iload_n 1, 1) := dk_27 (dk_at dksX20_byteAt_0 12 rfl rfl)
theorem dX20_byteAt_13 : decode cX20_byteAt 13 = .ok (.iaload, 1) := dk_46 (dk_at dksX20_byteAt_0 13 rfl rfl)
theorem dX20_byteAt_14 : decode cX20_byteAt 14 = .ok (.goto 4, 3) := dk_167 0 4 (dk_at dksX20_byteAt_0 14 rfl rfl)
theorem dX20_byteAt_17 : decode cX20_byteAt 17 = .ok (.iconst (-1), 1) := dk_2 (dk_at dksX20_byteAt_0 17 rfl rfl)
theorem dX20_byteAt_18 : decode cX20_byteAt 18 = .ok (.ireturn, 1) := dk_172 (dk_at dksX20_byteAt_0 18 rfl rfl)
abbrev cX20_isLetter : ByteArray := prog_38_method_8_code
def yX20_isLetter : MethodName := ⟨RX20, "isLetter", "(I)Z"⟩
def dkwX20_isLetter_0 : List UInt8 := [26, 16, 97, 16, 122, 184, 0, 100, 172]
abbrev dktX20_isLetter_0 : List UInt8 := dkwX20_isLetter_0 ++ []
theorem dksX20_isLetter_0 : cX20_isLetter.data.toList.drop 0 = dktX20_isLetter_0 := by decide +kernel
theorem dX20_isLetter_0 : decode cX20_isLetter 0 = .ok (.iload_n 0, 1) := dk_26 (dk_at dksX20_isLetter_0 0 rfl rfl)
theorem dX20_isLetter_1 : decode cX20_isLetter 1 = .ok (.bipush 97, 2) := dk_16 97 (dk_at dksX20_isLetter_0 1 rfl rfl)
theorem dX20_isLetter_3 : decode cX20_isLetter 3 = .ok (.bipush 122, 2) := dk_16 122 (dk_at dksX20_isLetter_0 3 rfl rfl)
theorem dX20_isLetter_5 : decode cX20_isLetter 5 = .ok (.invokestatic 100, 3) := dk_184 0 100 (dk_at dksX20_isLetter_0 5 rfl rfl)
theorem dX20_isLetter_8 : decode cX20_isLetter 8 = .ok (.ireturn, 1) := dk_172 (dk_at dksX20_isLetter_0 8 rfl rfl)
abbrev cX20_isDigit : ByteArray := prog_38_method_9_code
def yX20_isDigit : MethodName := ⟨RX20, "isDigit", "(I)Z"⟩
def dkwX20_isDigit_0 : List UInt8 := [26, 16, 48, 16, 57, 184, 0, 100, 172]
abbrev dktX20_isDigit_0 : List UInt8 := dkwX20_isDigit_0 ++ []
theorem dksX20_isDigit_0 : cX20_isDigit.data.toList.drop 0 = dktX20_isDigit_0 := by decide +kernel
theorem dX20_isDigit_0 : decode cX20_isDigit 0 = .ok (.iload_n 0, 1) := dk_26 (dk_at dksX20_isDigit_0 0 rfl rfl)
theorem dX20_isDigit_1 : decode cX20_isDigit 1 = .ok (.bipush 48, 2) := dk_16 48 (dk_at dksX20_isDigit_0 1 rfl rfl)
theorem dX20_isDigit_3 : decode cX20_isDigit 3 = .ok (.bipush 57, 2) := dk_16 57 (dk_at dksX20_isDigit_0 3 rfl rfl)
theorem dX20_isDigit_5 : decode cX20_isDigit 5 = .ok (.invokestatic 100, 3) := dk_184 0 100 (dk_at dksX20_isDigit_0 5 rfl rfl)
theorem dX20_isDigit_8 : decode cX20_isDigit 8 = .ok (.ireturn, 1) := dk_172 (dk_at dksX20_isDigit_0 8 rfl rfl)
abbrev cX20_wantClause : ByteArray := prog_38_method_23_code
def yX20_wantClause : MethodName := ⟨RX20, "wantClause", "(I)V"⟩
def dkwX20_wantClause_6 : List UInt8 := [27, 104, 4, 96, 29, 79, 42, 180, 0, 63, 6, 27, 104, 5, 96, 42, 180, 0, 161, 79, 177]
abbrev dktX20_wantClause_6 : List UInt8 := dkwX20_wantClause_6 ++ []
def dkwX20_wantClause_5 : List UInt8 := [180, 0, 178, 153, 0, 41, 42, 182, 0, 182, 42, 180, 0, 63, 6, 27, 104, 28, 79, 42, 180, 0, 63, 6]
abbrev dktX20_wantClause_5 : List UInt8 := dkwX20_wantClause_5 ++ dktX20_wantClause_6
def dkwX20_wantClause_4 : List UInt8 := [180, 0, 178, 153, 0, 16, 42, 16, 59, 182, 0, 188, 153, 0, 7, 4, 167, 0, 4, 3, 181, 0, 178, 42]
abbrev dktX20_wantClause_4 : List UInt8 := dkwX20_wantClause_4 ++ dktX20_wantClause_5
def dkwX20_wantClause_3 : List UInt8 := [153, 0, 20, 42, 182, 0, 182, 42, 20, 0, 222, 20, 0, 224, 20, 0, 226, 182, 0, 228, 42, 42]
abbrev dktX20_wantClause_3 : List UInt8 := dkwX20_wantClause_3 ++ dktX20_wantClause_4
def dkwX20_wantClause_2 : List UInt8 := [42, 20, 0, 220, 182, 0, 147, 153, 0, 7, 4, 167, 0, 4, 3, 181, 0, 178, 42, 180, 0, 178]
abbrev dktX20_wantClause_2 : List UInt8 := dkwX20_wantClause_2 ++ dktX20_wantClause_3
def dkwX20_wantClause_1 : List UInt8 := [42, 180, 0, 178, 153, 0, 7, 42, 182, 0, 182, 42, 180, 0, 161, 62, 42, 42, 180, 0, 178, 153, 0, 17]
abbrev dktX20_wantClause_1 : List UInt8 := dkwX20_wantClause_1 ++ dktX20_wantClause_2
def dkwX20_wantClause_0 : List UInt8 := [42, 182, 0, 217, 61, 42, 27, 16, 8, 162, 0, 11, 28, 155, 0, 7, 4, 167, 0, 4, 3, 181, 0, 178]
abbrev dktX20_wantClause_0 : List UInt8 := dkwX20_wantClause_0 ++ dktX20_wantClause_1
theorem dksX20_wantClause_0 : cX20_wantClause.data.toList.drop 0 = dktX20_wantClause_0 := by decide +kernel
theorem dksX20_wantClause_1 : cX20_wantClause.data.toList.drop 24 = dktX20_wantClause_1 := dk_seg dksX20_wantClause_0 24 rfl rfl
theorem dksX20_wantClause_2 : cX20_wantClause.data.toList.drop 48 = dktX20_wantClause_2 := dk_seg dksX20_wantClause_1 24 rfl rfl
theorem dksX20_wantClause_3 : cX20_wantClause.data.toList.drop 70 = dktX20_wantClause_3 := dk_seg dksX20_wantClause_2 22 rfl rfl
theorem dksX20_wantClause_4 : cX20_wantClause.data.toList.drop 92 = dktX20_wantClause_4 := dk_seg dksX20_wantClause_3 22 rfl rfl
theorem dksX20_wantClause_5 : cX20_wantClause.data.toList.drop 116 = dktX20_wantClause_5 := dk_seg dksX20_wantClause_4 24 rfl rfl
theorem dksX20_wantClause_6 : cX20_wantClause.data.toList.drop 140 = dktX20_wantClause_6 := dk_seg dksX20_wantClause_5 24 rfl rfl
theorem dX20_wantClause_0 : decode cX20_wantClause 0 = .ok (.aload_n 0, 1) := dk_42 (dk_at dksX20_wantClause_0 0 rfl rfl)
theorem dX20_wantClause_1 : decode cX20_wantClause 1 = .ok (.invokevirtual 217, 3) := dk_182 0 217 (dk_at dksX20_wantClause_0 1 rfl rfl)
theorem dX20_wantClause_4 : decode cX20_wantClause 4 = .ok (.istore_n 2, 1) := dk_61 (dk_at dksX20_wantClause_0 4 rfl rfl)
theorem dX20_wantClause_5 : decode cX20_wantClause 5 = .ok (.aload_n 0, 1) := dk_42 (dk_at dksX20_wantClause_0 5 rfl rfl)
theorem dX20_wantClause_6 : decode cX20_wantClause 6 = .ok (.iload_n 1, 1) := dk_27 (dk_at dksX20_wantClause_0 6 rfl rfl)
theorem dX20_wantClause_7 : decode cX20_wantClause 7 = .ok (.bipush 8, 2) := dk_16 8 (dk_at dksX20_wantClause_0 7 rfl rfl)
theorem dX20_wantClause_9 : decode cX20_wantClause 9 = .ok (.if_icmp .ge 11, 3) := dk_162 0 11 (dk_at dksX20_wantClause_0 9 rfl rfl)
theorem dX20_wantClause_12 : decode cX20_wantClause 12 = .ok (.iload_n 2, 1) := dk_28 (dk_at dksX20_wantClause_0 12 rfl rfl)
theorem dX20_wantClause_13 : decode cX20_wantClause 13 = .ok (.ifCond .lt 7, 3) := dk_155 0 7 (dk_at dksX20_wantClause_0 13 rfl rfl)
theorem dX20_wantClause_16 : decode cX20_wantClause 16 = .ok (.iconst 1, 1) := dk_4 (dk_at dksX20_wantClause_0 16 rfl rfl)
theorem dX20_wantClause_17 : decode cX20_wantClause 17 = .ok (.goto 4, 3) := dk_167 0 4 (dk_at dksX20_wantClause_0 17 rfl rfl)
theorem dX20_wantClause_20 : decode cX20_wantClause 20 = .ok (.iconst 0, 1) := dk_3 (dk_at dksX20_wantClause_0 20 rfl rfl)
theorem dX20_wantClause_21 : decode cX20_wantClause 21 = .ok (.putfield 178, 3) := dk_181 0 178 (dk_at dksX20_wantClause_0 21 rfl rfl)
theorem dX20_wantClause_24 : decode cX20_wantClause 24 = .ok (.aload_n 0, 1) := dk_42 (dk_at dksX20_wantClause_1 0 rfl rfl)
theorem dX20_wantClause_25 : decode cX20_wantClause 25 = .ok (.getfield 178, 3) := dk_180 0 178 (dk_at dksX20_wantClause_1 1 rfl rfl)
theorem dX20_wantClause_28 : decode cX20_wantClause 28 = .ok (.ifCond .eq 7, 3) := dk_153 0 7 (dk_at dksX20_wantClause_1 4 rfl rfl)
theorem dX20_wantClause_31 : decode cX20_wantClause 31 = .ok (.aload_n 0, 1) := dk_42 (dk_at dksX20_wantClause_1 7 rfl rfl)
theorem dX20_wantClause_32 : decode cX20_wantClause 32 = .ok (.invokevirtual 182, 3) := dk_182 0 182 (dk_at dksX20_wantClause_1 8 rfl rfl)
theorem dX20_wantClause_35 : decode cX20_wantClause 35 = .ok (.aload_n 0, 1) := dk_42 (dk_at dksX20_wantClause_1 11 rfl rfl)
theorem dX20_wantClause_36 : decode cX20_wantClause 36 = .ok (.getfield 161, 3) := dk_180 0 161 (dk_at dksX20_wantClause_1 12 rfl rfl)
theorem dX20_wantClause_39 : decode cX20_wantClause 39 = .ok (.istore_n 3, 1) := dk_62 (dk_at dksX20_wantClause_1 15 rfl rfl)
theorem dX20_wantClause_40 : decode cX20_wantClause 40 = .ok (.aload_n 0, 1) := dk_42 (dk_at dksX20_wantClause_1 16 rfl rfl)
theorem dX20_wantClause_41 : decode cX20_wantClause 41 = .ok (.aload_n 0, 1) := dk_42 (dk_at dksX20_wantClause_1 17 rfl rfl)
theorem dX20_wantClause_42 : decode cX20_wantClause 42 = .ok (.getfield 178, 3) := dk_180 0 178 (dk_at dksX20_wantClause_1 18 rfl rfl)
theorem dX20_wantClause_45 : decode cX20_wantClause 45 = .ok (.ifCond .eq 17, 3) := dk_153 0 17 (dk_at dksX20_wantClause_1 21 rfl rfl)
theorem dX20_wantClause_48 : decode cX20_wantClause 48 = .ok (.aload_n 0, 1) := dk_42 (dk_at dksX20_wantClause_2 0 rfl rfl)
theorem dX20_wantClause_49 : decode cX20_wantClause 49 = .ok (.ldc2_w 220, 3) := dk_20 0 220 (dk_at dksX20_wantClause_2 1 rfl rfl)
theorem dX20_wantClause_52 : decode cX20_wantClause 52 = .ok (.invokevirtual 147, 3) := dk_182 0 147 (dk_at dksX20_wantClause_2 4 rfl rfl)
theorem dX20_wantClause_55 : decode cX20_wantClause 55 = .ok (.ifCond .eq 7, 3) := dk_153 0 7 (dk_at dksX20_wantClause_2 7 rfl rfl)
theorem dX20_wantClause_58 : decode cX20_wantClause 58 = .ok (.iconst 1, 1) := dk_4 (dk_at dksX20_wantClause_2 10 rfl rfl)
theorem dX20_wantClause_59 : decode cX20_wantClause 59 = .ok (.goto 4, 3) := dk_167 0 4 (dk_at dksX20_wantClause_2 11 rfl rfl)
theorem dX20_wantClause_62 : decode cX20_wantClause 62 = .ok (.iconst 0, 1) := dk_3 (dk_at dksX20_wantClause_2 14 rfl rfl)
theorem dX20_wantClause_63 : decode cX20_wantClause 63 = .ok (.putfield 178, 3) := dk_181 0 178 (dk_at dksX20_wantClause_2 15 rfl rfl)
theorem dX20_wantClause_66 : decode cX20_wantClause 66 = .ok (.aload_n 0, 1) := dk_42 (dk_at dksX20_wantClause_2 18 rfl rfl)
theorem dX20_wantClause_67 : decode cX20_wantClause 67 = .ok (.getfield 178, 3) := dk_180 0 178 (dk_at dksX20_wantClause_2 19 rfl rfl)
theorem dX20_wantClause_70 : decode cX20_wantClause 70 = .ok (.ifCond .eq 20, 3) := dk_153 0 20 (dk_at dksX20_wantClause_3 0 rfl rfl)
theorem dX20_wantClause_73 : decode cX20_wantClause 73 = .ok (.aload_n 0, 1) := dk_42 (dk_at dksX20_wantClause_3 3 rfl rfl)
theorem dX20_wantClause_74 : decode cX20_wantClause 74 = .ok (.invokevirtual 182, 3) := dk_182 0 182 (dk_at dksX20_wantClause_3 4 rfl rfl)
theorem dX20_wantClause_77 : decode cX20_wantClause 77 = .ok (.aload_n 0, 1) := dk_42 (dk_at dksX20_wantClause_3 7 rfl rfl)
theorem dX20_wantClause_78 : decode cX20_wantClause 78 = .ok (.ldc2_w 222, 3) := dk_20 0 222 (dk_at dksX20_wantClause_3 8 rfl rfl)
theorem dX20_wantClause_81 : decode cX20_wantClause 81 = .ok (.ldc2_w 224, 3) := dk_20 0 224 (dk_at dksX20_wantClause_3 11 rfl rfl)
theorem dX20_wantClause_84 : decode cX20_wantClause 84 = .ok (.ldc2_w 226, 3) := dk_20 0 226 (dk_at dksX20_wantClause_3 14 rfl rfl)
theorem dX20_wantClause_87 : decode cX20_wantClause 87 = .ok (.invokevirtual 228, 3) := dk_182 0 228 (dk_at dksX20_wantClause_3 17 rfl rfl)
theorem dX20_wantClause_90 : decode cX20_wantClause 90 = .ok (.aload_n 0, 1) := dk_42 (dk_at dksX20_wantClause_3 20 rfl rfl)
theorem dX20_wantClause_91 : decode cX20_wantClause 91 = .ok (.aload_n 0, 1) := dk_42 (dk_at dksX20_wantClause_3 21 rfl rfl)
theorem dX20_wantClause_92 : decode cX20_wantClause 92 = .ok (.getfield 178, 3) := dk_180 0 178 (dk_at dksX20_wantClause_4 0 rfl rfl)
theorem dX20_wantClause_95 : decode cX20_wantClause 95 = .ok (.ifCond .eq 16, 3) := dk_153 0 16 (dk_at dksX20_wantClause_4 3 rfl rfl)
theorem dX20_wantClause_98 : decode cX20_wantClause 98 = .ok (.aload_n 0, 1) := dk_42 (dk_at dksX20_wantClause_4 6 rfl rfl)
theorem dX20_wantClause_99 : decode cX20_wantClause 99 = .ok (.bipush 59, 2) := dk_16 59 (dk_at dksX20_wantClause_4 7 rfl rfl)
theorem dX20_wantClause_101 : decode cX20_wantClause 101 = .ok (.invokevirtual 188, 3) := dk_182 0 188 (dk_at dksX20_wantClause_4 9 rfl rfl)
theorem dX20_wantClause_104 : decode cX20_wantClause 104 = .ok (.ifCond .eq 7, 3) := dk_153 0 7 (dk_at dksX20_wantClause_4 12 rfl rfl)
theorem dX20_wantClause_107 : decode cX20_wantClause 107 = .ok (.iconst 1, 1) := dk_4 (dk_at dksX20_wantClause_4 15 rfl rfl)
theorem dX20_wantClause_108 : decode cX20_wantClause 108 = .ok (.goto 4, 3) := dk_167 0 4 (dk_at dksX20_wantClause_4 16 rfl rfl)
theorem dX20_wantClause_111 : decode cX20_wantClause 111 = .ok (.iconst 0, 1) := dk_3 (dk_at dksX20_wantClause_4 19 rfl rfl)
theorem dX20_wantClause_112 : decode cX20_wantClause 112 = .ok (.putfield 178, 3) := dk_181 0 178 (dk_at dksX20_wantClause_4 20 rfl rfl)
theorem dX20_wantClause_115 : decode cX20_wantClause 115 = .ok (.aload_n 0, 1) := dk_42 (dk_at dksX20_wantClause_4 23 rfl rfl)
theorem dX20_wantClause_116 : decode cX20_wantClause 116 = .ok (.getfield 178, 3) := dk_180 0 178 (dk_at dksX20_wantClause_5 0 rfl rfl)
theorem dX20_wantClause_119 : decode cX20_wantClause 119 = .ok (.ifCond .eq 41, 3) := dk_153 0 41 (dk_at dksX20_wantClause_5 3 rfl rfl)
theorem dX20_wantClause_122 : decode cX20_wantClause 122 = .ok (.aload_n 0, 1) := dk_42 (dk_at dksX20_wantClause_5 6 rfl rfl)
theorem dX20_wantClause_123 : decode cX20_wantClause 123 = .ok (.invokevirtual 182, 3) := dk_182 0 182 (dk_at dksX20_wantClause_5 7 rfl rfl)
theorem dX20_wantClause_126 : decode cX20_wantClause 126 = .ok (.aload_n 0, 1) := dk_42 (dk_at dksX20_wantClause_5 10 rfl rfl)
theorem dX20_wantClause_127 : decode cX20_wantClause 127 = .ok (.getfield 63, 3) := dk_180 0 63 (dk_at dksX20_wantClause_5 11 rfl rfl)
theorem dX20_wantClause_130 : decode cX20_wantClause 130 = .ok (.iconst 3, 1) := dk_6 (dk_at dksX20_wantClause_5 14 rfl rfl)
theorem dX20_wantClause_131 : decode cX20_wantClause 131 = .ok (.iload_n 1, 1) := dk_27 (dk_at dksX20_wantClause_5 15 rfl rfl)
theorem dX20_wantClause_132 : decode cX20_wantClause 132 = .ok (.imul, 1) := dk_104 (dk_at dksX20_wantClause_5 16 rfl rfl)
theorem dX20_wantClause_133 : decode cX20_wantClause 133 = .ok (.iload_n 2, 1) := dk_28 (dk_at dksX20_wantClause_5 17 rfl rfl)
theorem dX20_wantClause_134 : decode cX20_wantClause 134 = .ok (.iastore, 1) := dk_79 (dk_at dksX20_wantClause_5 18 rfl rfl)
theorem dX20_wantClause_135 : decode cX20_wantClause 135 = .ok (.aload_n 0, 1) := dk_42 (dk_at dksX20_wantClause_5 19 rfl rfl)
theorem dX20_wantClause_136 : decode cX20_wantClause 136 = .ok (.getfield 63, 3) := dk_180 0 63 (dk_at dksX20_wantClause_5 20 rfl rfl)
theorem dX20_wantClause_139 : decode cX20_wantClause 139 = .ok (.iconst 3, 1) := dk_6 (dk_at dksX20_wantClause_5 23 rfl rfl)
theorem dX20_wantClause_140 : decode cX20_wantClause 140 = .ok (.iload_n 1, 1) := dk_27 (dk_at dksX20_wantClause_6 0 rfl rfl)
theorem dX20_wantClause_141 : decode cX20_wantClause 141 = .ok (.imul, 1) := dk_104 (dk_at dksX20_wantClause_6 1 rfl rfl)
theorem dX20_wantClause_142 : decode cX20_wantClause 142 = .ok (.iconst 1, 1) := dk_4 (dk_at dksX20_wantClause_6 2 rfl rfl)
theorem dX20_wantClause_143 : decode cX20_wantClause 143 = .ok (.iadd, 1) := dk_96 (dk_at dksX20_wantClause_6 3 rfl rfl)
theorem dX20_wantClause_144 : decode cX20_wantClause 144 = .ok (.iload_n 3, 1) := dk_29 (dk_at dksX20_wantClause_6 4 rfl rfl)
theorem dX20_wantClause_145 : decode cX20_wantClause 145 = .ok (.iastore, 1) := dk_79 (dk_at dksX20_wantClause_6 5 rfl rfl)
theorem dX20_wantClause_146 : decode cX20_wantClause 146 = .ok (.aload_n 0, 1) := dk_42 (dk_at dksX20_wantClause_6 6 rfl rfl)
theorem dX20_wantClause_147 : decode cX20_wantClause 147 = .ok (.getfield 63, 3) := dk_180 0 63 (dk_at dksX20_wantClause_6 7 rfl rfl)
theorem dX20_wantClause_150 : decode cX20_wantClause 150 = .ok (.iconst 3, 1) := dk_6 (dk_at dksX20_wantClause_6 10 rfl rfl)
theorem dX20_wantClause_151 : decode cX20_wantClause 151 = .ok (.iload_n 1, 1) := dk_27 (dk_at dksX20_wantClause_6 11 rfl rfl)
theorem dX20_wantClause_152 : decode cX20_wantClause 152 = .ok (.imul, 1) := dk_104 (dk_at dksX20_wantClause_6 12 rfl rfl)
theorem dX20_wantClause_153 : decode cX20_wantClause 153 = .ok (.iconst 2, 1) := dk_5 (dk_at dksX20_wantClause_6 13 rfl rfl)
theorem dX20_wantClause_154 : decode cX20_wantClause 154 = .ok (.iadd, 1) := dk_96 (dk_at dksX20_wantClause_6 14 rfl rfl)
theorem dX20_wantClause_155 : decode cX20_wantClause 155 = .ok (.aload_n 0, 1) := dk_42 (dk_at dksX20_wantClause_6 15 rfl rfl)
theorem dX20_wantClause_156 : decode cX20_wantClause 156 = .ok (.getfield 161, 3) := dk_180 0 161 (dk_at dksX20_wantClause_6 16 rfl rfl)
theorem dX20_wantClause_159 : decode cX20_wantClause 159 = .ok (.iastore, 1) := dk_79 (dk_at dksX20_wantClause_6 19 rfl rfl)
theorem dX20_wantClause_160 : decode cX20_wantClause 160 = .ok (.return_, 1) := dk_177 (dk_at dksX20_wantClause_6 20 rfl rfl)
abbrev cX20_doingHere : ByteArray := prog_38_method_22_code
def yX20_doingHere : MethodName := ⟨RX20, "doingHere", "()I"⟩
def dkwX20_doingHere_3 : List UInt8 := [2, 172]
abbrev dktX20_doingHere_3 : List UInt8 := dkwX20_doingHere_3 ++ []
def dkwX20_doingHere_2 : List UInt8 := [182, 0, 147, 153, 0, 7, 6, 167, 0, 18, 42, 20, 0, 215, 182, 0, 147, 153, 0, 7, 7, 167, 0, 4]
abbrev dktX20_doingHere_2 : List UInt8 := dkwX20_doingHere_2 ++ dktX20_doingHere_3
def dkwX20_doingHere_1 : List UInt8 := [4, 167, 0, 46, 42, 20, 0, 211, 182, 0, 147, 153, 0, 7, 5, 167, 0, 32, 42, 20, 0, 213]
abbrev dktX20_doingHere_1 : List UInt8 := dkwX20_doingHere_1 ++ dktX20_doingHere_2
def dkwX20_doingHere_0 : List UInt8 := [42, 20, 0, 207, 182, 0, 147, 153, 0, 7, 3, 167, 0, 60, 42, 20, 0, 209, 182, 0, 147, 153, 0, 7]
abbrev dktX20_doingHere_0 : List UInt8 := dkwX20_doingHere_0 ++ dktX20_doingHere_1
theorem dksX20_doingHere_0 : cX20_doingHere.data.toList.drop 0 = dktX20_doingHere_0 := by decide +kernel
theorem dksX20_doingHere_1 : cX20_doingHere.data.toList.drop 24 = dktX20_doingHere_1 := dk_seg dksX20_doingHere_0 24 rfl rfl
theorem dksX20_doingHere_2 : cX20_doingHere.data.toList.drop 46 = dktX20_doingHere_2 := dk_seg dksX20_doingHere_1 22 rfl rfl
theorem dksX20_doingHere_3 : cX20_doingHere.data.toList.drop 70 = dktX20_doingHere_3 := dk_seg dksX20_doingHere_2 24 rfl rfl
theorem dX20_doingHere_0 : decode cX20_doingHere 0 = .ok (.aload_n 0, 1) := dk_42 (dk_at dksX20_doingHere_0 0 rfl rfl)
theorem dX20_doingHere_1 : decode cX20_doingHere 1 = .ok (.ldc2_w 207, 3) := dk_20 0 207 (dk_at dksX20_doingHere_0 1 rfl rfl)
theorem dX20_doingHere_4 : decode cX20_doingHere 4 = .ok (.invokevirtual 147, 3) := dk_182 0 147 (dk_at dksX20_doingHere_0 4 rfl rfl)
theorem dX20_doingHere_7 : decode cX20_doingHere 7 = .ok (.ifCond .eq 7, 3) := dk_153 0 7 (dk_at dksX20_doingHere_0 7 rfl rfl)
theorem dX20_doingHere_10 : decode cX20_doingHere 10 = .ok (.iconst 0, 1) := dk_3 (dk_at dksX20_doingHere_0 10 rfl rfl)
theorem dX20_doingHere_11 : decode cX20_doingHere 11 = .ok (.goto 60, 3) := dk_167 0 60 (dk_at dksX20_doingHere_0 11 rfl rfl)
theorem dX20_doingHere_14 : decode cX20_doingHere 14 = .ok (.aload_n 0, 1) := dk_42 (dk_at dksX20_doingHere_0 14 rfl rfl)
theorem dX20_doingHere_15 : decode cX20_doingHere 15 = .ok (.ldc2_w 209, 3) := dk_20 0 209 (dk_at dksX20_doingHere_0 15 rfl rfl)
theorem dX20_doingHere_18 : decode cX20_doingHere 18 = .ok (.invokevirtual 147, 3) := dk_182 0 147 (dk_at dksX20_doingHere_0 18 rfl rfl)
theorem dX20_doingHere_21 : decode cX20_doingHere 21 = .ok (.ifCond .eq 7, 3) := dk_153 0 7 (dk_at dksX20_doingHere_0 21 rfl rfl)
theorem dX20_doingHere_24 : decode cX20_doingHere 24 = .ok (.iconst 1, 1) := dk_4 (dk_at dksX20_doingHere_1 0 rfl rfl)
theorem dX20_doingHere_25 : decode cX20_doingHere 25 = .ok (.goto 46, 3) := dk_167 0 46 (dk_at dksX20_doingHere_1 1 rfl rfl)
theorem dX20_doingHere_28 : decode cX20_doingHere 28 = .ok (.aload_n 0, 1) := dk_42 (dk_at dksX20_doingHere_1 4 rfl rfl)
theorem dX20_doingHere_29 : decode cX20_doingHere 29 = .ok (.ldc2_w 211, 3) := dk_20 0 211 (dk_at dksX20_doingHere_1 5 rfl rfl)
theorem dX20_doingHere_32 : decode cX20_doingHere 32 = .ok (.invokevirtual 147, 3) := dk_182 0 147 (dk_at dksX20_doingHere_1 8 rfl rfl)
theorem dX20_doingHere_35 : decode cX20_doingHere 35 = .ok (.ifCond .eq 7, 3) := dk_153 0 7 (dk_at dksX20_doingHere_1 11 rfl rfl)
theorem dX20_doingHere_38 : decode cX20_doingHere 38 = .ok (.iconst 2, 1) := dk_5 (dk_at dksX20_doingHere_1 14 rfl rfl)
theorem dX20_doingHere_39 : decode cX20_doingHere 39 = .ok (.goto 32, 3) := dk_167 0 32 (dk_at dksX20_doingHere_1 15 rfl rfl)
theorem dX20_doingHere_42 : decode cX20_doingHere 42 = .ok (.aload_n 0, 1) := dk_42 (dk_at dksX20_doingHere_1 18 rfl rfl)
theorem dX20_doingHere_43 : decode cX20_doingHere 43 = .ok (.ldc2_w 213, 3) := dk_20 0 213 (dk_at dksX20_doingHere_1 19 rfl rfl)
theorem dX20_doingHere_46 : decode cX20_doingHere 46 = .ok (.invokevirtual 147, 3) := dk_182 0 147 (dk_at dksX20_doingHere_2 0 rfl rfl)
theorem dX20_doingHere_49 : decode cX20_doingHere 49 = .ok (.ifCond .eq 7, 3) := dk_153 0 7 (dk_at dksX20_doingHere_2 3 rfl rfl)
theorem dX20_doingHere_52 : decode cX20_doingHere 52 = .ok (.iconst 3, 1) := dk_6 (dk_at dksX20_doingHere_2 6 rfl rfl)
theorem dX20_doingHere_53 : decode cX20_doingHere 53 = .ok (.goto 18, 3) := dk_167 0 18 (dk_at dksX20_doingHere_2 7 rfl rfl)
theorem dX20_doingHere_56 : decode cX20_doingHere 56 = .ok (.aload_n 0, 1) := dk_42 (dk_at dksX20_doingHere_2 10 rfl rfl)
theorem dX20_doingHere_57 : decode cX20_doingHere 57 = .ok (.ldc2_w 215, 3) := dk_20 0 215 (dk_at dksX20_doingHere_2 11 rfl rfl)
theorem dX20_doingHere_60 : decode cX20_doingHere 60 = .ok (.invokevirtual 147, 3) := dk_182 0 147 (dk_at dksX20_doingHere_2 14 rfl rfl)
theorem dX20_doingHere_63 : decode cX20_doingHere 63 = .ok (.ifCond .eq 7, 3) := dk_153 0 7 (dk_at dksX20_doingHere_2 17 rfl rfl)
theorem dX20_doingHere_66 : decode cX20_doingHere 66 = .ok (.iconst 4, 1) := dk_7 (dk_at dksX20_doingHere_2 20 rfl rfl)
theorem dX20_doingHere_67 : decode cX20_doingHere 67 = .ok (.goto 4, 3) := dk_167 0 4 (dk_at dksX20_doingHere_2 21 rfl rfl)
theorem dX20_doingHere_70 : decode cX20_doingHere 70 = .ok (.iconst (-1), 1) := dk_2 (dk_at dksX20_doingHere_3 0 rfl rfl)
theorem dX20_doingHere_71 : decode cX20_doingHere 71 = .ok (.ireturn, 1) := dk_172 (dk_at dksX20_doingHere_3 1 rfl rfl)
abbrev cX20_isWord : ByteArray := prog_38_method_11_code
def yX20_isWord : MethodName := ⟨RX20, "isWord", "(J)Z"⟩
def dkwX20_isWord_0 : List UInt8 := [42, 180, 0, 129, 4, 160, 0, 16, 42, 180, 0, 132, 31, 148, 154, 0, 7, 4, 167, 0, 4, 3, 172]
abbrev dktX20_isWord_0 : List UInt8 := dkwX20_isWord_0 ++ []
theorem dksX20_isWord_0 : cX20_isWord.data.toList.drop 0 = dktX20_isWord_0 := by decide +kernel
theorem dX20_isWord_0 : decode cX20_isWord 0 = .ok (.aload_n 0, 1) := dk_42 (dk_at dksX20_isWord_0 0 rfl rfl)
theorem dX20_isWord_1 : decode cX20_isWord 1 = .ok (.getfield 129, 3) := dk_180 0 129 (dk_at dksX20_isWord_0 1 rfl rfl)
theorem dX20_isWord_4 : decode cX20_isWord 4 = .ok (.iconst 1, 1) := dk_4 (dk_at dksX20_isWord_0 4 rfl rfl)
theorem dX20_isWord_5 : decode cX20_isWord 5 = .ok (.if_icmp .ne 16, 3) := dk_160 0 16 (dk_at dksX20_isWord_0 5 rfl rfl)
theorem dX20_isWord_8 : decode cX20_isWord 8 = .ok (.aload_n 0, 1) := dk_42 (dk_at dksX20_isWord_0 8 rfl rfl)
theorem dX20_isWord_9 : decode cX20_isWord 9 = .ok (.getfield 132, 3) := dk_180 0 132 (dk_at dksX20_isWord_0 9 rfl rfl)
theorem dX20_isWord_12 : decode cX20_isWord 12 = .ok (.lload_n 1, 1) := dk_31 (dk_at dksX20_isWord_0 12 rfl rfl)
theorem dX20_isWord_13 : decode cX20_isWord 13 = .ok (.lcmp, 1) := dk_148 (dk_at dksX20_isWord_0 13 rfl rfl)
theorem dX20_isWord_14 : decode cX20_isWord 14 = .ok (.ifCond .ne 7, 3) := dk_154 0 7 (dk_at dksX20_isWord_0 14 rfl rfl)
theorem dX20_isWord_17 : decode cX20_isWord 17 = .ok (.iconst 1, 1) := dk_4 (dk_at dksX20_isWord_0 17 rfl rfl)
theorem dX20_isWord_18 : decode cX20_isWord 18 = .ok (.goto 4, 3) := dk_167 0 4 (dk_at dksX20_isWord_0 18 rfl rfl)
theorem dX20_isWord_21 : decode cX20_isWord 21 = .ok (.iconst 0, 1) := dk_3 (dk_at dksX20_isWord_0 21 rfl rfl)
theorem dX20_isWord_22 : decode cX20_isWord 22 = .ok (.ireturn, 1) := dk_172 (dk_at dksX20_isWord_0 22 rfl rfl)
abbrev cX20_wantCond : ByteArray := prog_38_method_20_code
def yX20_wantCond : MethodName := ⟨RX20, "wantCond", "(JJJ)V"⟩
def dkwX20_wantCond_12 : List UInt8 := [167, 254, 246, 177]
abbrev dktX20_wantCond_12 : List UInt8 := dkwX20_wantCond_12 ++ []
def dkwX20_wantCond_11 : List UInt8 := [181, 0, 164, 42, 89, 180, 0, 195, 4, 100, 181, 0, 195, 42, 182, 0, 182, 42, 18, 191, 182, 0, 192]
abbrev dktX20_wantCond_11 : List UInt8 := dkwX20_wantCond_11 ++ dktX20_wantCond_12
def dkwX20_wantCond_10 : List UInt8 := [3, 181, 0, 178, 42, 180, 0, 178, 153, 255, 28, 21, 8, 153, 255, 23, 42, 89, 180, 0, 164, 4, 100]
abbrev dktX20_wantCond_10 : List UInt8 := dkwX20_wantCond_10 ++ dktX20_wantCond_11
def dkwX20_wantCond_9 : List UInt8 := [182, 0, 167, 54, 8, 42, 21, 8, 153, 0, 12, 42, 16, 41, 182, 0, 188, 153, 0, 7, 4, 167, 0, 4]
abbrev dktX20_wantCond_9 : List UInt8 := dkwX20_wantCond_9 ++ dktX20_wantCond_10
def dkwX20_wantCond_8 : List UInt8 := [182, 0, 182, 4, 54, 7, 167, 255, 78, 42, 18, 205, 182, 0, 192, 42, 18, 206, 182, 0, 192, 42, 18, 201]
abbrev dktX20_wantCond_8 : List UInt8 := dkwX20_wantCond_8 ++ dktX20_wantCond_9
def dkwX20_wantCond_7 : List UInt8 := [42, 18, 206, 182, 0, 192, 42, 21, 9, 153, 0, 8, 18, 205, 167, 0, 5, 18, 206, 182, 0, 198, 42]
abbrev dktX20_wantCond_7 : List UInt8 := dkwX20_wantCond_7 ++ dktX20_wantCond_8
def dkwX20_wantCond_6 : List UInt8 := [182, 0, 147, 153, 0, 53, 42, 18, 205, 182, 0, 192, 42, 33, 182, 0, 147, 54, 9, 21, 9, 154, 0, 9]
abbrev dktX20_wantCond_6 : List UInt8 := dkwX20_wantCond_6 ++ dktX20_wantCond_7
def dkwX20_wantCond_5 : List UInt8 := [153, 0, 13, 42, 182, 0, 202, 3, 54, 7, 167, 255, 145, 42, 33, 182, 0, 147, 154, 0, 12, 42, 22, 5]
abbrev dktX20_wantCond_5 : List UInt8 := dkwX20_wantCond_5 ++ dktX20_wantCond_6
def dkwX20_wantCond_4 : List UInt8 := [180, 0, 195, 4, 96, 181, 0, 195, 42, 18, 201, 182, 0, 198, 42, 182, 0, 182, 167, 255, 160, 21, 7]
abbrev dktX20_wantCond_4 : List UInt8 := dkwX20_wantCond_4 ++ dktX20_wantCond_5
def dkwX20_wantCond_3 : List UInt8 := [180, 0, 195, 6, 162, 0, 7, 4, 167, 0, 4, 3, 181, 0, 178, 42, 180, 0, 178, 153, 255, 183, 42, 89]
abbrev dktX20_wantCond_3 : List UInt8 := dkwX20_wantCond_3 ++ dktX20_wantCond_4
def dkwX20_wantCond_2 : List UInt8 := [42, 182, 0, 182, 167, 255, 221, 21, 7, 153, 0, 59, 42, 16, 40, 182, 0, 188, 153, 0, 50, 42, 42]
abbrev dktX20_wantCond_2 : List UInt8 := dkwX20_wantCond_2 ++ dktX20_wantCond_3
def dkwX20_wantCond_1 : List UInt8 := [21, 8, 153, 1, 4, 21, 7, 153, 0, 24, 42, 31, 182, 0, 147, 153, 0, 16, 42, 18, 191, 182, 0, 198]
abbrev dktX20_wantCond_1 : List UInt8 := dkwX20_wantCond_1 ++ dktX20_wantCond_2
def dkwX20_wantCond_0 : List UInt8 := [42, 3, 181, 0, 164, 42, 3, 181, 0, 195, 4, 54, 7, 4, 54, 8, 42, 180, 0, 178, 153, 1, 9]
abbrev dktX20_wantCond_0 : List UInt8 := dkwX20_wantCond_0 ++ dktX20_wantCond_1
theorem dksX20_wantCond_0 : cX20_wantCond.data.toList.drop 0 = dktX20_wantCond_0 := by decide +kernel
theorem dksX20_wantCond_1 : cX20_wantCond.data.toList.drop 23 = dktX20_wantCond_1 := dk_seg dksX20_wantCond_0 23 rfl rfl
theorem dksX20_wantCond_2 : cX20_wantCond.data.toList.drop 47 = dktX20_wantCond_2 := dk_seg dksX20_wantCond_1 24 rfl rfl
theorem dksX20_wantCond_3 : cX20_wantCond.data.toList.drop 70 = dktX20_wantCond_3 := dk_seg dksX20_wantCond_2 23 rfl rfl
theorem dksX20_wantCond_4 : cX20_wantCond.data.toList.drop 94 = dktX20_wantCond_4 := dk_seg dksX20_wantCond_3 24 rfl rfl
theorem dksX20_wantCond_5 : cX20_wantCond.data.toList.drop 117 = dktX20_wantCond_5 := dk_seg dksX20_wantCond_4 23 rfl rfl
theorem dksX20_wantCond_6 : cX20_wantCond.data.toList.drop 141 = dktX20_wantCond_6 := dk_seg dksX20_wantCond_5 24 rfl rfl
theorem dksX20_wantCond_7 : cX20_wantCond.data.toList.drop 165 = dktX20_wantCond_7 := dk_seg dksX20_wantCond_6 24 rfl rfl
theorem dksX20_wantCond_8 : cX20_wantCond.data.toList.drop 188 = dktX20_wantCond_8 := dk_seg dksX20_wantCond_7 23 rfl rfl
theorem dksX20_wantCond_9 : cX20_wantCond.data.toList.drop 212 = dktX20_wantCond_9 := dk_seg dksX20_wantCond_8 24 rfl rfl
theorem dksX20_wantCond_10 : cX20_wantCond.data.toList.drop 236 = dktX20_wantCond_10 := dk_seg dksX20_wantCond_9 24 rfl rfl
theorem dksX20_wantCond_11 : cX20_wantCond.data.toList.drop 259 = dktX20_wantCond_11 := dk_seg dksX20_wantCond_10 23 rfl rfl
theorem dksX20_wantCond_12 : cX20_wantCond.data.toList.drop 282 = dktX20_wantCond_12 := dk_seg dksX20_wantCond_11 23 rfl rfl
theorem dX20_wantCond_0 : decode cX20_wantCond 0 = .ok (.aload_n 0, 1) := dk_42 (dk_at dksX20_wantCond_0 0 rfl rfl)
theorem dX20_wantCond_1 : decode cX20_wantCond 1 = .ok (.iconst 0, 1) := dk_3 (dk_at dksX20_wantCond_0 1 rfl rfl)
theorem dX20_wantCond_2 : decode cX20_wantCond 2 = .ok (.putfield 164, 3) := dk_181 0 164 (dk_at dksX20_wantCond_0 2 rfl rfl)
theorem dX20_wantCond_5 : decode cX20_wantCond 5 = .ok (.aload_n 0, 1) := dk_42 (dk_at dksX20_wantCond_0 5 rfl rfl)
theorem dX20_wantCond_6 : decode cX20_wantCond 6 = .ok (.iconst 0, 1) := dk_3 (dk_at dksX20_wantCond_0 6 rfl rfl)
theorem dX20_wantCond_7 : decode cX20_wantCond 7 = .ok (.putfield 195, 3) := dk_181 0 195 (dk_at dksX20_wantCond_0 7 rfl rfl)
theorem dX20_wantCond_10 : decode cX20_wantCond 10 = .ok (.iconst 1, 1) := dk_4 (dk_at dksX20_wantCond_0 10 rfl rfl)
theorem dX20_wantCond_11 : decode cX20_wantCond 11 = .ok (.istore 7, 2) := dk_54 7 (dk_at dksX20_wantCond_0 11 rfl rfl)
theorem dX20_wantCond_13 : decode cX20_wantCond 13 = .ok (.iconst 1, 1) := dk_4 (dk_at dksX20_wantCond_0 13 rfl rfl)
theorem dX20_wantCond_14 : decode cX20_wantCond 14 = .ok (.istore 8, 2) := dk_54 8 (dk_at dksX20_wantCond_0 14 rfl rfl)
theorem dX20_wantCond_16 : decode cX20_wantCond 16 = .ok (.aload_n 0, 1) := dk_42 (dk_at dksX20_wantCond_0 16 rfl rfl)
theorem dX20_wantCond_17 : decode cX20_wantCond 17 = .ok (.getfield 178, 3) := dk_180 0 178 (dk_at dksX20_wantCond_0 17 rfl rfl)
theorem dX20_wantCond_20 : decode cX20_wantCond 20 = .ok (.ifCond .eq 265, 3) := dk_153 1 9 (dk_at dksX20_wantCond_0 20 rfl rfl)
theorem dX20_wantCond_23 : decode cX20_wantCond 23 = .ok (.iload 8, 2) := dk_21 8 (dk_at dksX20_wantCond_1 0 rfl rfl)
theorem dX20_wantCond_25 : decode cX20_wantCond 25 = .ok (.ifCond .eq 260, 3) := dk_153 1 4 (dk_at dksX20_wantCond_1 2 rfl rfl)
theorem dX20_wantCond_28 : decode cX20_wantCond 28 = .ok (.iload 7, 2) := dk_21 7 (dk_at dksX20_wantCond_1 5 rfl rfl)
theorem dX20_wantCond_30 : decode cX20_wantCond 30 = .ok (.ifCond .eq 24, 3) := dk_153 0 24 (dk_at dksX20_wantCond_1 7 rfl rfl)
theorem dX20_wantCond_33 : decode cX20_wantCond 33 = .ok (.aload_n 0, 1) := dk_42 (dk_at dksX20_wantCond_1 10 rfl rfl)
theorem dX20_wantCond_34 : decode cX20_wantCond 34 = .ok (.lload_n 1, 1) := dk_31 (dk_at dksX20_wantCond_1 11 rfl rfl)
theorem dX20_wantCond_35 : decode cX20_wantCond 35 = .ok (.invokevirtual 147, 3) := dk_182 0 147 (dk_at dksX20_wantCond_1 12 rfl rfl)
theorem dX20_wantCond_38 : decode cX20_wantCond 38 = .ok (.ifCond .eq 16, 3) := dk_153 0 16 (dk_at dksX20_wantCond_1 15 rfl rfl)
theorem dX20_wantCond_41 : decode cX20_wantCond 41 = .ok (.aload_n 0, 1) := dk_42 (dk_at dksX20_wantCond_1 18 rfl rfl)
theorem dX20_wantCond_42 : decode cX20_wantCond 42 = .ok (.ldc 191, 2) := dk_18 191 (dk_at dksX20_wantCond_1 19 rfl rfl)
theorem dX20_wantCond_44 : decode cX20_wantCond 44 = .ok (.invokevirtual 198, 3) := dk_182 0 198 (dk_at dksX20_wantCond_1 21 rfl rfl)
theorem dX20_wantCond_47 : decode cX20_wantCond 47 = .ok (.aload_n 0, 1) := dk_42 (dk_at dksX20_wantCond_2 0 rfl rfl)
theorem dX20_wantCond_48 : decode cX20_wantCond 48 = .ok (.invokevirtual 182, 3) := dk_182 0 182 (dk_at dksX20_wantCond_2 1 rfl rfl)
theorem dX20_wantCond_51 : decode cX20_wantCond 51 = .ok (.goto (-35), 3) := dk_167 255 221 (dk_at dksX20_wantCond_2 4 rfl rfl)
theorem dX20_wantCond_54 : decode cX20_wantCond 54 = .ok (.iload 7, 2) := dk_21 7 (dk_at dksX20_wantCond_2 7 rfl rfl)
theorem dX20_wantCond_56 : decode cX20_wantCond 56 = .ok (.ifCond .eq 59, 3) := dk_153 0 59 (dk_at dksX20_wantCond_2 9 rfl rfl)
theorem dX20_wantCond_59 : decode cX20_wantCond 59 = .ok (.aload_n 0, 1) := dk_42 (dk_at dksX20_wantCond_2 12 rfl rfl)
theorem dX20_wantCond_60 : decode cX20_wantCond 60 = .ok (.bipush 40, 2) := dk_16 40 (dk_at dksX20_wantCond_2 13 rfl rfl)
theorem dX20_wantCond_62 : decode cX20_wantCond 62 = .ok (.invokevirtual 188, 3) := dk_182 0 188 (dk_at dksX20_wantCond_2 15 rfl rfl)
theorem dX20_wantCond_65 : decode cX20_wantCond 65 = .ok (.ifCond .eq 50, 3) := dk_153 0 50 (dk_at dksX20_wantCond_2 18 rfl rfl)
theorem dX20_wantCond_68 : decode cX20_wantCond 68 = .ok (.aload_n 0, 1) := dk_42 (dk_at dksX20_wantCond_2 21 rfl rfl)
theorem dX20_wantCond_69 : decode cX20_wantCond 69 = .ok (.aload_n 0, 1) := dk_42 (dk_at dksX20_wantCond_2 22 rfl rfl)
theorem dX20_wantCond_70 : decode cX20_wantCond 70 = .ok (.getfield 195, 3) := dk_180 0 195 (dk_at dksX20_wantCond_3 0 rfl rfl)
theorem dX20_wantCond_73 : decode cX20_wantCond 73 = .ok (.iconst 3, 1) := dk_6 (dk_at dksX20_wantCond_3 3 rfl rfl)
theorem dX20_wantCond_74 : decode cX20_wantCond 74 = .ok (.if_icmp .ge 7, 3) := dk_162 0 7 (dk_at dksX20_wantCond_3 4 rfl rfl)
theorem dX20_wantCond_77 : decode cX20_wantCond 77 = .ok (.iconst 1, 1) := dk_4 (dk_at dksX20_wantCond_3 7 rfl rfl)
theorem dX20_wantCond_78 : decode cX20_wantCond 78 = .ok (.goto 4, 3) := dk_167 0 4 (dk_at dksX20_wantCond_3 8 rfl rfl)
theorem dX20_wantCond_81 : decode cX20_wantCond 81 = .ok (.iconst 0, 1) := dk_3 (dk_at dksX20_wantCond_3 11 rfl rfl)
theorem dX20_wantCond_82 : decode cX20_wantCond 82 = .ok (.putfield 178, 3) := dk_181 0 178 (dk_at dksX20_wantCond_3 12 rfl rfl)
theorem dX20_wantCond_85 : decode cX20_wantCond 85 = .ok (.aload_n 0, 1) := dk_42 (dk_at dksX20_wantCond_3 15 rfl rfl)
theorem dX20_wantCond_86 : decode cX20_wantCond 86 = .ok (.getfield 178, 3) := dk_180 0 178 (dk_at dksX20_wantCond_3 16 rfl rfl)
theorem dX20_wantCond_89 : decode cX20_wantCond 89 = .ok (.ifCond .eq (-73), 3) := dk_153 255 183 (dk_at dksX20_wantCond_3 19 rfl rfl)
theorem dX20_wantCond_92 : decode cX20_wantCond 92 = .ok (.aload_n 0, 1) := dk_42 (dk_at dksX20_wantCond_3 22 rfl rfl)
theorem dX20_wantCond_93 : decode cX20_wantCond 93 = .ok (.dup, 1) := dk_89 (dk_at dksX20_wantCond_3 23 rfl rfl)
theorem dX20_wantCond_94 : decode cX20_wantCond 94 = .ok (.getfield 195, 3) := dk_180 0 195 (dk_at dksX20_wantCond_4 0 rfl rfl)
theorem dX20_wantCond_97 : decode cX20_wantCond 97 = .ok (.iconst 1, 1) := dk_4 (dk_at dksX20_wantCond_4 3 rfl rfl)
theorem dX20_wantCond_98 : decode cX20_wantCond 98 = .ok (.iadd, 1) := dk_96 (dk_at dksX20_wantCond_4 4 rfl rfl)
theorem dX20_wantCond_99 : decode cX20_wantCond 99 = .ok (.putfield 195, 3) := dk_181 0 195 (dk_at dksX20_wantCond_4 5 rfl rfl)
theorem dX20_wantCond_102 : decode cX20_wantCond 102 = .ok (.aload_n 0, 1) := dk_42 (dk_at dksX20_wantCond_4 8 rfl rfl)
theorem dX20_wantCond_103 : decode cX20_wantCond 103 = .ok (.ldc 201, 2) := dk_18 201 (dk_at dksX20_wantCond_4 9 rfl rfl)
theorem dX20_wantCond_105 : decode cX20_wantCond 105 = .ok (.invokevirtual 198, 3) := dk_182 0 198 (dk_at dksX20_wantCond_4 11 rfl rfl)
theorem dX20_wantCond_108 : decode cX20_wantCond 108 = .ok (.aload_n 0, 1) := dk_42 (dk_at dksX20_wantCond_4 14 rfl rfl)
theorem dX20_wantCond_109 : decode cX20_wantCond 109 = .ok (.invokevirtual 182, 3) := dk_182 0 182 (dk_at dksX20_wantCond_4 15 rfl rfl)
theorem dX20_wantCond_112 : decode cX20_wantCond 112 = .ok (.goto (-96), 3) := dk_167 255 160 (dk_at dksX20_wantCond_4 18 rfl rfl)
theorem dX20_wantCond_115 : decode cX20_wantCond 115 = .ok (.iload 7, 2) := dk_21 7 (dk_at dksX20_wantCond_4 21 rfl rfl)
theorem dX20_wantCond_117 : decode cX20_wantCond 117 = .ok (.ifCond .eq 13, 3) := dk_153 0 13 (dk_at dksX20_wantCond_5 0 rfl rfl)
theorem dX20_wantCond_120 : decode cX20_wantCond 120 = .ok (.aload_n 0, 1) := dk_42 (dk_at dksX20_wantCond_5 3 rfl rfl)
theorem dX20_wantCond_121 : decode cX20_wantCond 121 = .ok (.invokevirtual 202, 3) := dk_182 0 202 (dk_at dksX20_wantCond_5 4 rfl rfl)
theorem dX20_wantCond_124 : decode cX20_wantCond 124 = .ok (.iconst 0, 1) := dk_3 (dk_at dksX20_wantCond_5 7 rfl rfl)
theorem dX20_wantCond_125 : decode cX20_wantCond 125 = .ok (.istore 7, 2) := dk_54 7 (dk_at dksX20_wantCond_5 8 rfl rfl)
theorem dX20_wantCond_127 : decode cX20_wantCond 127 = .ok (.goto (-111), 3) := dk_167 255 145 (dk_at dksX20_wantCond_5 10 rfl rfl)
theorem dX20_wantCond_130 : decode cX20_wantCond 130 = .ok (.aload_n 0, 1) := dk_42 (dk_at dksX20_wantCond_5 13 rfl rfl)
theorem dX20_wantCond_131 : decode cX20_wantCond 131 = .ok (.lload_n 3, 1) := dk_33 (dk_at dksX20_wantCond_5 14 rfl rfl)
theorem dX20_wantCond_132 : decode cX20_wantCond 132 = .ok (.invokevirtual 147, 3) := dk_182 0 147 (dk_at dksX20_wantCond_5 15 rfl rfl)
theorem dX20_wantCond_135 : decode cX20_wantCond 135 = .ok (.ifCond .ne 12, 3) := dk_154 0 12 (dk_at dksX20_wantCond_5 18 rfl rfl)
theorem dX20_wantCond_138 : decode cX20_wantCond 138 = .ok (.aload_n 0, 1) := dk_42 (dk_at dksX20_wantCond_5 21 rfl rfl)
theorem dX20_wantCond_139 : decode cX20_wantCond 139 = .ok (.lload 5, 2) := dk_22 5 (dk_at dksX20_wantCond_5 22 rfl rfl)
theorem dX20_wantCond_141 : decode cX20_wantCond 141 = .ok (.invokevirtual 147, 3) := dk_182 0 147 (dk_at dksX20_wantCond_6 0 rfl rfl)
theorem dX20_wantCond_144 : decode cX20_wantCond 144 = .ok (.ifCond .eq 53, 3) := dk_153 0 53 (dk_at dksX20_wantCond_6 3 rfl rfl)
theorem dX20_wantCond_147 : decode cX20_wantCond 147 = .ok (.aload_n 0, 1) := dk_42 (dk_at dksX20_wantCond_6 6 rfl rfl)
theorem dX20_wantCond_148 : decode cX20_wantCond 148 = .ok (.ldc 205, 2) := dk_18 205 (dk_at dksX20_wantCond_6 7 rfl rfl)
theorem dX20_wantCond_150 : decode cX20_wantCond 150 = .ok (.invokevirtual 192, 3) := dk_182 0 192 (dk_at dksX20_wantCond_6 9 rfl rfl)
theorem dX20_wantCond_153 : decode cX20_wantCond 153 = .ok (.aload_n 0, 1) := dk_42 (dk_at dksX20_wantCond_6 12 rfl rfl)
theorem dX20_wantCond_154 : decode cX20_wantCond 154 = .ok (.lload_n 3, 1) := dk_33 (dk_at dksX20_wantCond_6 13 rfl rfl)
theorem dX20_wantCond_155 : decode cX20_wantCond 155 = .ok (.invokevirtual 147, 3) := dk_182 0 147 (dk_at dksX20_wantCond_6 14 rfl rfl)
theorem dX20_wantCond_158 : decode cX20_wantCond 158 = .ok (.istore 9, 2) := dk_54 9 (dk_at dksX20_wantCond_6 17 rfl rfl)
theorem dX20_wantCond_160 : decode cX20_wantCond 160 = .ok (.iload 9, 2) := dk_21 9 (dk_at dksX20_wantCond_6 19 rfl rfl)
theorem dX20_wantCond_162 : decode cX20_wantCond 162 = .ok (.ifCond .ne 9, 3) := dk_154 0 9 (dk_at dksX20_wantCond_6 21 rfl rfl)
theorem dX20_wantCond_165 : decode cX20_wantCond 165 = .ok (.aload_n 0, 1) := dk_42 (dk_at dksX20_wantCond_7 0 rfl rfl)
theorem dX20_wantCond_166 : decode cX20_wantCond 166 = .ok (.ldc 206, 2) := dk_18 206 (dk_at dksX20_wantCond_7 1 rfl rfl)
theorem dX20_wantCond_168 : decode cX20_wantCond 168 = .ok (.invokevirtual 192, 3) := dk_182 0 192 (dk_at dksX20_wantCond_7 3 rfl rfl)
theorem dX20_wantCond_171 : decode cX20_wantCond 171 = .ok (.aload_n 0, 1) := dk_42 (dk_at dksX20_wantCond_7 6 rfl rfl)
theorem dX20_wantCond_172 : decode cX20_wantCond 172 = .ok (.iload 9, 2) := dk_21 9 (dk_at dksX20_wantCond_7 7 rfl rfl)
theorem dX20_wantCond_174 : decode cX20_wantCond 174 = .ok (.ifCond .eq 8, 3) := dk_153 0 8 (dk_at dksX20_wantCond_7 9 rfl rfl)
theorem dX20_wantCond_177 : decode cX20_wantCond 177 = .ok (.ldc 205, 2) := dk_18 205 (dk_at dksX20_wantCond_7 12 rfl rfl)
theorem dX20_wantCond_179 : decode cX20_wantCond 179 = .ok (.goto 5, 3) := dk_167 0 5 (dk_at dksX20_wantCond_7 14 rfl rfl)
theorem dX20_wantCond_182 : decode cX20_wantCond 182 = .ok (.ldc 206, 2) := dk_18 206 (dk_at dksX20_wantCond_7 17 rfl rfl)
theorem dX20_wantCond_184 : decode cX20_wantCond 184 = .ok (.invokevirtual 198, 3) := dk_182 0 198 (dk_at dksX20_wantCond_7 19 rfl rfl)
theorem dX20_wantCond_187 : decode cX20_wantCond 187 = .ok (.aload_n 0, 1) := dk_42 (dk_at dksX20_wantCond_7 22 rfl rfl)
theorem dX20_wantCond_188 : decode cX20_wantCond 188 = .ok (.invokevirtual 182, 3) := dk_182 0 182 (dk_at dksX20_wantCond_8 0 rfl rfl)
theorem dX20_wantCond_191 : decode cX20_wantCond 191 = .ok (.iconst 1, 1) := dk_4 (dk_at dksX20_wantCond_8 3 rfl rfl)
theorem dX20_wantCond_192 : decode cX20_wantCond 192 = .ok (.istore 7, 2) := dk_54 7 (dk_at dksX20_wantCond_8 4 rfl rfl)
theorem dX20_wantCond_194 : decode cX20_wantCond 194 = .ok (.goto (-178), 3) := dk_167 255 78 (dk_at dksX20_wantCond_8 6 rfl rfl)
theorem dX20_wantCond_197 : decode cX20_wantCond 197 = .ok (.aload_n 0, 1) := dk_42 (dk_at dksX20_wantCond_8 9 rfl rfl)
theorem dX20_wantCond_198 : decode cX20_wantCond 198 = .ok (.ldc 205, 2) := dk_18 205 (dk_at dksX20_wantCond_8 10 rfl rfl)
theorem dX20_wantCond_200 : decode cX20_wantCond 200 = .ok (.invokevirtual 192, 3) := dk_182 0 192 (dk_at dksX20_wantCond_8 12 rfl rfl)
theorem dX20_wantCond_203 : decode cX20_wantCond 203 = .ok (.aload_n 0, 1) := dk_42 (dk_at dksX20_wantCond_8 15 rfl rfl)
theorem dX20_wantCond_204 : decode cX20_wantCond 204 = .ok (.ldc 206, 2) := dk_18 206 (dk_at dksX20_wantCond_8 16 rfl rfl)
theorem dX20_wantCond_206 : decode cX20_wantCond 206 = .ok (.invokevirtual 192, 3) := dk_182 0 192 (dk_at dksX20_wantCond_8 18 rfl rfl)
theorem dX20_wantCond_209 : decode cX20_wantCond 209 = .ok (.aload_n 0, 1) := dk_42 (dk_at dksX20_wantCond_8 21 rfl rfl)
theorem dX20_wantCond_210 : decode cX20_wantCond 210 = .ok (.ldc 201, 2) := dk_18 201 (dk_at dksX20_wantCond_8 22 rfl rfl)
theorem dX20_wantCond_212 : decode cX20_wantCond 212 = .ok (.invokevirtual 167, 3) := dk_182 0 167 (dk_at dksX20_wantCond_9 0 rfl rfl)
theorem dX20_wantCond_215 : decode cX20_wantCond 215 = .ok (.istore 8, 2) := dk_54 8 (dk_at dksX20_wantCond_9 3 rfl rfl)
theorem dX20_wantCond_217 : decode cX20_wantCond 217 = .ok (.aload_n 0, 1) := dk_42 (dk_at dksX20_wantCond_9 5 rfl rfl)
theorem dX20_wantCond_218 : decode cX20_wantCond 218 = .ok (.iload 8, 2) := dk_21 8 (dk_at dksX20_wantCond_9 6 rfl rfl)
theorem dX20_wantCond_220 : decode cX20_wantCond 220 = .ok (.ifCond .eq 12, 3) := dk_153 0 12 (dk_at dksX20_wantCond_9 8 rfl rfl)
theorem dX20_wantCond_223 : decode cX20_wantCond 223 = .ok (.aload_n 0, 1) := dk_42 (dk_at dksX20_wantCond_9 11 rfl rfl)
theorem dX20_wantCond_224 : decode cX20_wantCond 224 = .ok (.bipush 41, 2) := dk_16 41 (dk_at dksX20_wantCond_9 12 rfl rfl)
theorem dX20_wantCond_226 : decode cX20_wantCond 226 = .ok (.invokevirtual 188, 3) := dk_182 0 188 (dk_at dksX20_wantCond_9 14 rfl rfl)
theorem dX20_wantCond_229 : decode cX20_wantCond 229 = .ok (.ifCond .eq 7, 3) := dk_153 0 7 (dk_at dksX20_wantCond_9 17 rfl rfl)
theorem dX20_wantCond_232 : decode cX20_wantCond 232 = .ok (.iconst 1, 1) := dk_4 (dk_at dksX20_wantCond_9 20 rfl rfl)
theorem dX20_wantCond_233 : decode cX20_wantCond 233 = .ok (.goto 4, 3) := dk_167 0 4 (dk_at dksX20_wantCond_9 21 rfl rfl)
theorem dX20_wantCond_236 : decode cX20_wantCond 236 = .ok (.iconst 0, 1) := dk_3 (dk_at dksX20_wantCond_10 0 rfl rfl)
theorem dX20_wantCond_237 : decode cX20_wantCond 237 = .ok (.putfield 178, 3) := dk_181 0 178 (dk_at dksX20_wantCond_10 1 rfl rfl)
theorem dX20_wantCond_240 : decode cX20_wantCond 240 = .ok (.aload_n 0, 1) := dk_42 (dk_at dksX20_wantCond_10 4 rfl rfl)
theorem dX20_wantCond_241 : decode cX20_wantCond 241 = .ok (.getfield 178, 3) := dk_180 0 178 (dk_at dksX20_wantCond_10 5 rfl rfl)
theorem dX20_wantCond_244 : decode cX20_wantCond 244 = .ok (.ifCond .eq (-228), 3) := dk_153 255 28 (dk_at dksX20_wantCond_10 8 rfl rfl)
theorem dX20_wantCond_247 : decode cX20_wantCond 247 = .ok (.iload 8, 2) := dk_21 8 (dk_at dksX20_wantCond_10 11 rfl rfl)
theorem dX20_wantCond_249 : decode cX20_wantCond 249 = .ok (.ifCond .eq (-233), 3) := dk_153 255 23 (dk_at dksX20_wantCond_10 13 rfl rfl)
theorem dX20_wantCond_252 : decode cX20_wantCond 252 = .ok (.aload_n 0, 1) := dk_42 (dk_at dksX20_wantCond_10 16 rfl rfl)
theorem dX20_wantCond_253 : decode cX20_wantCond 253 = .ok (.dup, 1) := dk_89 (dk_at dksX20_wantCond_10 17 rfl rfl)
theorem dX20_wantCond_254 : decode cX20_wantCond 254 = .ok (.getfield 164, 3) := dk_180 0 164 (dk_at dksX20_wantCond_10 18 rfl rfl)
theorem dX20_wantCond_257 : decode cX20_wantCond 257 = .ok (.iconst 1, 1) := dk_4 (dk_at dksX20_wantCond_10 21 rfl rfl)
theorem dX20_wantCond_258 : decode cX20_wantCond 258 = .ok (.isub, 1) := dk_100 (dk_at dksX20_wantCond_10 22 rfl rfl)
theorem dX20_wantCond_259 : decode cX20_wantCond 259 = .ok (.putfield 164, 3) := dk_181 0 164 (dk_at dksX20_wantCond_11 0 rfl rfl)
theorem dX20_wantCond_262 : decode cX20_wantCond 262 = .ok (.aload_n 0, 1) := dk_42 (dk_at dksX20_wantCond_11 3 rfl rfl)
theorem dX20_wantCond_263 : decode cX20_wantCond 263 = .ok (.dup, 1) := dk_89 (dk_at dksX20_wantCond_11 4 rfl rfl)
theorem dX20_wantCond_264 : decode cX20_wantCond 264 = .ok (.getfield 195, 3) := dk_180 0 195 (dk_at dksX20_wantCond_11 5 rfl rfl)
theorem dX20_wantCond_267 : decode cX20_wantCond 267 = .ok (.iconst 1, 1) := dk_4 (dk_at dksX20_wantCond_11 8 rfl rfl)
theorem dX20_wantCond_268 : decode cX20_wantCond 268 = .ok (.isub, 1) := dk_100 (dk_at dksX20_wantCond_11 9 rfl rfl)
theorem dX20_wantCond_269 : decode cX20_wantCond 269 = .ok (.putfield 195, 3) := dk_181 0 195 (dk_at dksX20_wantCond_11 10 rfl rfl)
theorem dX20_wantCond_272 : decode cX20_wantCond 272 = .ok (.aload_n 0, 1) := dk_42 (dk_at dksX20_wantCond_11 13 rfl rfl)
theorem dX20_wantCond_273 : decode cX20_wantCond 273 = .ok (.invokevirtual 182, 3) := dk_182 0 182 (dk_at dksX20_wantCond_11 14 rfl rfl)
theorem dX20_wantCond_276 : decode cX20_wantCond 276 = .ok (.aload_n 0, 1) := dk_42 (dk_at dksX20_wantCond_11 17 rfl rfl)
theorem dX20_wantCond_277 : decode cX20_wantCond 277 = .ok (.ldc 191, 2) := dk_18 191 (dk_at dksX20_wantCond_11 18 rfl rfl)
theorem dX20_wantCond_279 : decode cX20_wantCond 279 = .ok (.invokevirtual 192, 3) := dk_182 0 192 (dk_at dksX20_wantCond_11 20 rfl rfl)
theorem dX20_wantCond_282 : decode cX20_wantCond 282 = .ok (.goto (-266), 3) := dk_167 254 246 (dk_at dksX20_wantCond_12 0 rfl rfl)
theorem dX20_wantCond_285 : decode cX20_wantCond 285 = .ok (.return_, 1) := dk_177 (dk_at dksX20_wantCond_12 3 rfl rfl)
abbrev cX20_pend : ByteArray := prog_38_method_15_code
def yX20_pend : MethodName := ⟨RX20, "pend", "(I)V"⟩
def dkwX20_pend_0 : List UInt8 := [42, 180, 0, 56, 42, 180, 0, 164, 27, 79, 42, 89, 180, 0, 164, 4, 96, 181, 0, 164, 177]
abbrev dktX20_pend_0 : List UInt8 := dkwX20_pend_0 ++ []
theorem dksX20_pend_0 : cX20_pend.data.toList.drop 0 = dktX20_pend_0 := by decide +kernel
theorem dX20_pend_0 : decode cX20_pend 0 = .ok (.aload_n 0, 1) := dk_42 (dk_at dksX20_pend_0 0 rfl rfl)
theorem dX20_pend_1 : decode cX20_pend 1 = .ok (.getfield 56, 3) := dk_180 0 56 (dk_at dksX20_pend_0 1 rfl rfl)
theorem dX20_pend_4 : decode cX20_pend 4 = .ok (.aload_n 0, 1) := dk_42 (dk_at dksX20_pend_0 4 rfl rfl)
theorem dX20_pend_5 : decode cX20_pend 5 = .ok (.getfield 164, 3) := dk_180 0 164 (dk_at dksX20_pend_0 5 rfl rfl)
theorem dX20_pend_8 : decode cX20_pend 8 = .ok (.iload_n 1, 1) := dk_27 (dk_at dksX20_pend_0 8 rfl rfl)
theorem dX20_pend_9 : decode cX20_pend 9 = .ok (.iastore, 1) := dk_79 (dk_at dksX20_pend_0 9 rfl rfl)
theorem dX20_pend_10 : decode cX20_pend 10 = .ok (.aload_n 0, 1) := dk_42 (dk_at dksX20_pend_0 10 rfl rfl)
theorem dX20_pend_11 : decode cX20_pend 11 = .ok (.dup, 1) := dk_89 (dk_at dksX20_pend_0 11 rfl rfl)
theorem dX20_pend_12 : decode cX20_pend 12 = .ok (.getfield 164, 3) := dk_180 0 164 (dk_at dksX20_pend_0 12 rfl rfl)
theorem dX20_pend_15 : decode cX20_pend 15 = .ok (.iconst 1, 1) := dk_4 (dk_at dksX20_pend_0 15 rfl rfl)
theorem dX20_pend_16 : decode cX20_pend 16 = .ok (.iadd, 1) := dk_96 (dk_at dksX20_pend_0 16 rfl rfl)
theorem dX20_pend_17 : decode cX20_pend 17 = .ok (.putfield 164, 3) := dk_181 0 164 (dk_at dksX20_pend_0 17 rfl rfl)
theorem dX20_pend_20 : decode cX20_pend 20 = .ok (.return_, 1) := dk_177 (dk_at dksX20_pend_0 20 rfl rfl)
abbrev cX20_isMark : ByteArray := prog_38_method_12_code
def yX20_isMark : MethodName := ⟨RX20, "isMark", "(I)Z"⟩
def dkwX20_isMark_0 : List UInt8 := [42, 180, 0, 129, 6, 160, 0, 15, 42, 180, 0, 136, 27, 160, 0, 7, 4, 167, 0, 4, 3, 172]
abbrev dktX20_isMark_0 : List UInt8 := dkwX20_isMark_0 ++ []
theorem dksX20_isMark_0 : cX20_isMark.data.toList.drop 0 = dktX20_isMark_0 := by decide +kernel
theorem dX20_isMark_0 : decode cX20_isMark 0 = .ok (.aload_n 0, 1) := dk_42 (dk_at dksX20_isMark_0 0 rfl rfl)
theorem dX20_isMark_1 : decode cX20_isMark 1 = .ok (.getfield 129, 3) := dk_180 0 129 (dk_at dksX20_isMark_0 1 rfl rfl)
theorem dX20_isMark_4 : decode cX20_isMark 4 = .ok (.iconst 3, 1) := dk_6 (dk_at dksX20_isMark_0 4 rfl rfl)
theorem dX20_isMark_5 : decode cX20_isMark 5 = .ok (.if_icmp .ne 15, 3) := dk_160 0 15 (dk_at dksX20_isMark_0 5 rfl rfl)
theorem dX20_isMark_8 : decode cX20_isMark 8 = .ok (.aload_n 0, 1) := dk_42 (dk_at dksX20_isMark_0 8 rfl rfl)
theorem dX20_isMark_9 : decode cX20_isMark 9 = .ok (.getfield 136, 3) := dk_180 0 136 (dk_at dksX20_isMark_0 9 rfl rfl)
theorem dX20_isMark_12 : decode cX20_isMark 12 = .ok (.iload_n 1, 1) := dk_27 (dk_at dksX20_isMark_0 12 rfl rfl)
theorem dX20_isMark_13 : decode cX20_isMark 13 = .ok (.if_icmp .ne 7, 3) := dk_160 0 7 (dk_at dksX20_isMark_0 13 rfl rfl)
theorem dX20_isMark_16 : decode cX20_isMark 16 = .ok (.iconst 1, 1) := dk_4 (dk_at dksX20_isMark_0 16 rfl rfl)
theorem dX20_isMark_17 : decode cX20_isMark 17 = .ok (.goto 4, 3) := dk_167 0 4 (dk_at dksX20_isMark_0 17 rfl rfl)
theorem dX20_isMark_20 : decode cX20_isMark 20 = .ok (.iconst 0, 1) := dk_3 (dk_at dksX20_isMark_0 20 rfl rfl)
theorem dX20_isMark_21 : decode cX20_isMark 21 = .ok (.ireturn, 1) := dk_172 (dk_at dksX20_isMark_0 21 rfl rfl)
abbrev cX20_wantCompared : ByteArray := prog_38_method_19_code
def yX20_wantCompared : MethodName := ⟨RX20, "wantCompared", "()V"⟩
def dkwX20_wantCompared_3 : List UInt8 := [182, 0, 185, 42, 18, 191, 182, 0, 192, 177]
abbrev dktX20_wantCompared_3 : List UInt8 := dkwX20_wantCompared_3 ++ []
def dkwX20_wantCompared_2 : List UInt8 := [167, 0, 4, 3, 181, 0, 178, 42, 180, 0, 178, 153, 0, 12, 42, 27, 182, 0, 170, 42, 182, 0, 182, 42]
abbrev dktX20_wantCompared_2 : List UInt8 := dkwX20_wantCompared_2 ++ dktX20_wantCompared_3
def dkwX20_wantCompared_1 : List UInt8 := [154, 0, 21, 42, 16, 61, 182, 0, 188, 154, 0, 12, 42, 16, 62, 182, 0, 188, 153, 0, 7, 4]
abbrev dktX20_wantCompared_1 : List UInt8 := dkwX20_wantCompared_1 ++ dktX20_wantCompared_2
def dkwX20_wantCompared_0 : List UInt8 := [42, 182, 0, 185, 42, 180, 0, 136, 60, 42, 42, 180, 0, 178, 153, 0, 34, 42, 16, 60, 182, 0, 188]
abbrev dktX20_wantCompared_0 : List UInt8 := dkwX20_wantCompared_0 ++ dktX20_wantCompared_1
theorem dksX20_wantCompared_0 : cX20_wantCompared.data.toList.drop 0 = dktX20_wantCompared_0 := by decide +kernel
theorem dksX20_wantCompared_1 : cX20_wantCompared.data.toList.drop 23 = dktX20_wantCompared_1 := dk_seg dksX20_wantCompared_0 23 rfl rfl
theorem dksX20_wantCompared_2 : cX20_wantCompared.data.toList.drop 45 = dktX20_wantCompared_2 := dk_seg dksX20_wantCompared_1 22 rfl rfl
theorem dksX20_wantCompared_3 : cX20_wantCompared.data.toList.drop 69 = dktX20_wantCompared_3 := dk_seg dksX20_wantCompared_2 24 rfl rfl
theorem dX20_wantCompared_0 : decode cX20_wantCompared 0 = .ok (.aload_n 0, 1) := dk_42 (dk_at dksX20_wantCompared_0 0 rfl rfl)
theorem dX20_wantCompared_1 : decode cX20_wantCompared 1 = .ok (.invokevirtual 185, 3) := dk_182 0 185 (dk_at dksX20_wantCompared_0 1 rfl rfl)
theorem dX20_wantCompared_4 : decode cX20_wantCompared 4 = .ok (.aload_n 0, 1) := dk_42 (dk_at dksX20_wantCompared_0 4 rfl rfl)
theorem dX20_wantCompared_5 : decode cX20_wantCompared 5 = .ok (.getfield 136, 3) := dk_180 0 136 (dk_at dksX20_wantCompared_0 5 rfl rfl)
theorem dX20_wantCompared_8 : decode cX20_wantCompared 8 = .ok (.istore_n 1, 1) := dk_60 (dk_at dksX20_wantCompared_0 8 rfl rfl)
theorem dX20_wantCompared_9 : decode cX20_wantCompared 9 = .ok (.aload_n 0, 1) := dk_42 (dk_at dksX20_wantCompared_0 9 rfl rfl)
theorem dX20_wantCompared_10 : decode cX20_wantCompared 10 = .ok (.aload_n 0, 1) := dk_42 (dk_at dksX20_wantCompared_0 10 rfl rfl)
theorem dX20_wantCompared_11 : decode cX20_wantCompared 11 = .ok (.getfield 178, 3) := dk_180 0 178 (dk_at dksX20_wantCompared_0 11 rfl rfl)
theorem dX20_wantCompared_14 : decode cX20_wantCompared 14 = .ok (.ifCond .eq 34, 3) := dk_153 0 34 (dk_at dksX20_wantCompared_0 14 rfl rfl)
theorem dX20_wantCompared_17 : decode cX20_wantCompared 17 = .ok (.aload_n 0, 1) := dk_42 (dk_at dksX20_wantCompared_0 17 rfl rfl)
theorem dX20_wantCompared_18 : decode cX20_wantCompared 18 = .ok (.bipush 60, 2) := dk_16 60 (dk_at dksX20_wantCompared_0 18 rfl rfl)
theorem dX20_wantCompared_20 : decode cX20_wantCompared 20 = .ok (.invokevirtual 188, 3) := dk_182 0 188 (dk_at dksX20_wantCompared_0 20 rfl rfl)
theorem dX20_wantCompared_23 : decode cX20_wantCompared 23 = .ok (.ifCond .ne 21, 3) := dk_154 0 21 (dk_at dksX20_wantCompared_1 0 rfl rfl)
theorem dX20_wantCompared_26 : decode cX20_wantCompared 26 = .ok (.aload_n 0, 1) := dk_42 (dk_at dksX20_wantCompared_1 3 rfl rfl)
theorem dX20_wantCompared_27 : decode cX20_wantCompared 27 = .ok (.bipush 61, 2) := dk_16 61 (dk_at dksX20_wantCompared_1 4 rfl rfl)
theorem dX20_wantCompared_29 : decode cX20_wantCompared 29 = .ok (.invokevirtual 188, 3) := dk_182 0 188 (dk_at dksX20_wantCompared_1 6 rfl rfl)
theorem dX20_wantCompared_32 : decode cX20_wantCompared 32 = .ok (.ifCond .ne 12, 3) := dk_154 0 12 (dk_at dksX20_wantCompared_1 9 rfl rfl)
theorem dX20_wantCompared_35 : decode cX20_wantCompared 35 = .ok (.aload_n 0, 1) := dk_42 (dk_at dksX20_wantCompared_1 12 rfl rfl)
theorem dX20_wantCompared_36 : decode cX20_wantCompared 36 = .ok (.bipush 62, 2) := dk_16 62 (dk_at dksX20_wantCompared_1 13 rfl rfl)
theorem dX20_wantCompared_38 : decode cX20_wantCompared 38 = .ok (.invokevirtual 188, 3) := dk_182 0 188 (dk_at dksX20_wantCompared_1 15 rfl rfl)
theorem dX20_wantCompared_41 : decode cX20_wantCompared 41 = .ok (.ifCond .eq 7, 3) := dk_153 0 7 (dk_at dksX20_wantCompared_1 18 rfl rfl)
theorem dX20_wantCompared_44 : decode cX20_wantCompared 44 = .ok (.iconst 1, 1) := dk_4 (dk_at dksX20_wantCompared_1 21 rfl rfl)
theorem dX20_wantCompared_45 : decode cX20_wantCompared 45 = .ok (.goto 4, 3) := dk_167 0 4 (dk_at dksX20_wantCompared_2 0 rfl rfl)
theorem dX20_wantCompared_48 : decode cX20_wantCompared 48 = .ok (.iconst 0, 1) := dk_3 (dk_at dksX20_wantCompared_2 3 rfl rfl)
theorem dX20_wantCompared_49 : decode cX20_wantCompared 49 = .ok (.putfield 178, 3) := dk_181 0 178 (dk_at dksX20_wantCompared_2 4 rfl rfl)
theorem dX20_wantCompared_52 : decode cX20_wantCompared 52 = .ok (.aload_n 0, 1) := dk_42 (dk_at dksX20_wantCompared_2 7 rfl rfl)
theorem dX20_wantCompared_53 : decode cX20_wantCompared 53 = .ok (.getfield 178, 3) := dk_180 0 178 (dk_at dksX20_wantCompared_2 8 rfl rfl)
theorem dX20_wantCompared_56 : decode cX20_wantCompared 56 = .ok (.ifCond .eq 12, 3) := dk_153 0 12 (dk_at dksX20_wantCompared_2 11 rfl rfl)
theorem dX20_wantCompared_59 : decode cX20_wantCompared 59 = .ok (.aload_n 0, 1) := dk_42 (dk_at dksX20_wantCompared_2 14 rfl rfl)
theorem dX20_wantCompared_60 : decode cX20_wantCompared 60 = .ok (.iload_n 1, 1) := dk_27 (dk_at dksX20_wantCompared_2 15 rfl rfl)
theorem dX20_wantCompared_61 : decode cX20_wantCompared 61 = .ok (.invokevirtual 170, 3) := dk_182 0 170 (dk_at dksX20_wantCompared_2 16 rfl rfl)
theorem dX20_wantCompared_64 : decode cX20_wantCompared 64 = .ok (.aload_n 0, 1) := dk_42 (dk_at dksX20_wantCompared_2 19 rfl rfl)
theorem dX20_wantCompared_65 : decode cX20_wantCompared 65 = .ok (.invokevirtual 182, 3) := dk_182 0 182 (dk_at dksX20_wantCompared_2 20 rfl rfl)
theorem dX20_wantCompared_68 : decode cX20_wantCompared 68 = .ok (.aload_n 0, 1) := dk_42 (dk_at dksX20_wantCompared_2 23 rfl rfl)
theorem dX20_wantCompared_69 : decode cX20_wantCompared 69 = .ok (.invokevirtual 185, 3) := dk_182 0 185 (dk_at dksX20_wantCompared_3 0 rfl rfl)
theorem dX20_wantCompared_72 : decode cX20_wantCompared 72 = .ok (.aload_n 0, 1) := dk_42 (dk_at dksX20_wantCompared_3 3 rfl rfl)
theorem dX20_wantCompared_73 : decode cX20_wantCompared 73 = .ok (.ldc 191, 2) := dk_18 191 (dk_at dksX20_wantCompared_3 4 rfl rfl)
theorem dX20_wantCompared_75 : decode cX20_wantCompared 75 = .ok (.invokevirtual 192, 3) := dk_182 0 192 (dk_at dksX20_wantCompared_3 6 rfl rfl)
theorem dX20_wantCompared_78 : decode cX20_wantCompared 78 = .ok (.return_, 1) := dk_177 (dk_at dksX20_wantCompared_3 9 rfl rfl)
abbrev cX20_wantValue : ByteArray := prog_38_method_18_code
def yX20_wantValue : MethodName := ⟨RX20, "wantValue", "()V"⟩
def dkwX20_wantValue_3 : List UInt8 := [182, 0, 182, 177]
abbrev dktX20_wantValue_3 : List UInt8 := dkwX20_wantValue_3 ++ []
def dkwX20_wantValue_2 : List UInt8 := [153, 0, 27, 42, 27, 155, 0, 11, 17, 78, 32, 27, 96, 167, 0, 7, 42, 180, 0, 136, 182, 0, 170, 42]
abbrev dktX20_wantValue_2 : List UInt8 := dkwX20_wantValue_2 ++ dktX20_wantValue_3
def dkwX20_wantValue_1 : List UInt8 := [160, 0, 14, 42, 180, 0, 136, 155, 0, 7, 4, 167, 0, 4, 3, 181, 0, 178, 42, 180, 0, 178]
abbrev dktX20_wantValue_1 : List UInt8 := dkwX20_wantValue_1 ++ dktX20_wantValue_2
def dkwX20_wantValue_0 : List UInt8 := [42, 182, 0, 174, 60, 42, 42, 180, 0, 178, 153, 0, 26, 27, 156, 0, 18, 42, 180, 0, 129, 5]
abbrev dktX20_wantValue_0 : List UInt8 := dkwX20_wantValue_0 ++ dktX20_wantValue_1
theorem dksX20_wantValue_0 : cX20_wantValue.data.toList.drop 0 = dktX20_wantValue_0 := by decide +kernel
theorem dksX20_wantValue_1 : cX20_wantValue.data.toList.drop 22 = dktX20_wantValue_1 := dk_seg dksX20_wantValue_0 22 rfl rfl
theorem dksX20_wantValue_2 : cX20_wantValue.data.toList.drop 44 = dktX20_wantValue_2 := dk_seg dksX20_wantValue_1 22 rfl rfl
theorem dksX20_wantValue_3 : cX20_wantValue.data.toList.drop 68 = dktX20_wantValue_3 := dk_seg dksX20_wantValue_2 24 rfl rfl
theorem dX20_wantValue_0 : decode cX20_wantValue 0 = .ok (.aload_n 0, 1) := dk_42 (dk_at dksX20_wantValue_0 0 rfl rfl)
theorem dX20_wantValue_1 : decode cX20_wantValue 1 = .ok (.invokevirtual 174, 3) := dk_182 0 174 (dk_at dksX20_wantValue_0 1 rfl rfl)
theorem dX20_wantValue_4 : decode cX20_wantValue 4 = .ok (.istore_n 1, 1) := dk_60 (dk_at dksX20_wantValue_0 4 rfl rfl)
theorem dX20_wantValue_5 : decode cX20_wantValue 5 = .ok (.aload_n 0, 1) := dk_42 (dk_at dksX20_wantValue_0 5 rfl rfl)
theorem dX20_wantValue_6 : decode cX20_wantValue 6 = .ok (.aload_n 0, 1) := dk_42 (dk_at dksX20_wantValue_0 6 rfl rfl)
theorem dX20_wantValue_7 : decode cX20_wantValue 7 = .ok (.getfield 178, 3) := dk_180 0 178 (dk_at dksX20_wantValue_0 7 rfl rfl)
theorem dX20_wantValue_10 : decode cX20_wantValue 10 = .ok (.ifCond .eq 26, 3) := dk_153 0 26 (dk_at dksX20_wantValue_0 10 rfl rfl)
theorem dX20_wantValue_13 : decode cX20_wantValue 13 = .ok (.iload_n 1, 1) := dk_27 (dk_at dksX20_wantValue_0 13 rfl rfl)
theorem dX20_wantValue_14 : decode cX20_wantValue 14 = .ok (.ifCond .ge 18, 3) := dk_156 0 18 (dk_at dksX20_wantValue_0 14 rfl rfl)
theorem dX20_wantValue_17 : decode cX20_wantValue 17 = .ok (.aload_n 0, 1) := dk_42 (dk_at dksX20_wantValue_0 17 rfl rfl)
theorem dX20_wantValue_18 : decode cX20_wantValue 18 = .ok (.getfield 129, 3) := dk_180 0 129 (dk_at dksX20_wantValue_0 18 rfl rfl)
theorem dX20_wantValue_21 : decode cX20_wantValue 21 = .ok (.iconst 2, 1) := dk_5 (dk_at dksX20_wantValue_0 21 rfl rfl)
theorem dX20_wantValue_22 : decode cX20_wantValue 22 = .ok (.if_icmp .ne 14, 3) := dk_160 0 14 (dk_at dksX20_wantValue_1 0 rfl rfl)
theorem dX20_wantValue_25 : decode cX20_wantValue 25 = .ok (.aload_n 0, 1) := dk_42 (dk_at dksX20_wantValue_1 3 rfl rfl)
theorem dX20_wantValue_26 : decode cX20_wantValue 26 = .ok (.getfield 136, 3) := dk_180 0 136 (dk_at dksX20_wantValue_1 4 rfl rfl)
theorem dX20_wantValue_29 : decode cX20_wantValue 29 = .ok (.ifCond .lt 7, 3) := dk_155 0 7 (dk_at dksX20_wantValue_1 7 rfl rfl)
theorem dX20_wantValue_32 : decode cX20_wantValue 32 = .ok (.iconst 1, 1) := dk_4 (dk_at dksX20_wantValue_1 10 rfl rfl)
theorem dX20_wantValue_33 : decode cX20_wantValue 33 = .ok (.goto 4, 3) := dk_167 0 4 (dk_at dksX20_wantValue_1 11 rfl rfl)
theorem dX20_wantValue_36 : decode cX20_wantValue 36 = .ok (.iconst 0, 1) := dk_3 (dk_at dksX20_wantValue_1 14 rfl rfl)
theorem dX20_wantValue_37 : decode cX20_wantValue 37 = .ok (.putfield 178, 3) := dk_181 0 178 (dk_at dksX20_wantValue_1 15 rfl rfl)
theorem dX20_wantValue_40 : decode cX20_wantValue 40 = .ok (.aload_n 0, 1) := dk_42 (dk_at dksX20_wantValue_1 18 rfl rfl)
theorem dX20_wantValue_41 : decode cX20_wantValue 41 = .ok (.getfield 178, 3) := dk_180 0 178 (dk_at dksX20_wantValue_1 19 rfl rfl)
theorem dX20_wantValue_44 : decode cX20_wantValue 44 = .ok (.ifCond .eq 27, 3) := dk_153 0 27 (dk_at dksX20_wantValue_2 0 rfl rfl)
theorem dX20_wantValue_47 : decode cX20_wantValue 47 = .ok (.aload_n 0, 1) := dk_42 (dk_at dksX20_wantValue_2 3 rfl rfl)
theorem dX20_wantValue_48 : decode cX20_wantValue 48 = .ok (.iload_n 1, 1) := dk_27 (dk_at dksX20_wantValue_2 4 rfl rfl)
theorem dX20_wantValue_49 : decode cX20_wantValue 49 = .ok (.ifCond .lt 11, 3) := dk_155 0 11 (dk_at dksX20_wantValue_2 5 rfl rfl)
theorem dX20_wantValue_52 : decode cX20_wantValue 52 = .ok (.sipush 20000, 3) := dk_17 78 32 (dk_at dksX20_wantValue_2 8 rfl rfl)
theorem dX20_wantValue_55 : decode cX20_wantValue 55 = .ok (.iload_n 1, 1) := dk_27 (dk_at dksX20_wantValue_2 11 rfl rfl)
theorem dX20_wantValue_56 : decode cX20_wantValue 56 = .ok (.iadd, 1) := dk_96 (dk_at dksX20_wantValue_2 12 rfl rfl)
theorem dX20_wantValue_57 : decode cX20_wantValue 57 = .ok (.goto 7, 3) := dk_167 0 7 (dk_at dksX20_wantValue_2 13 rfl rfl)
theorem dX20_wantValue_60 : decode cX20_wantValue 60 = .ok (.aload_n 0, 1) := dk_42 (dk_at dksX20_wantValue_2 16 rfl rfl)
theorem dX20_wantValue_61 : decode cX20_wantValue 61 = .ok (.getfield 136, 3) := dk_180 0 136 (dk_at dksX20_wantValue_2 17 rfl rfl)
theorem dX20_wantValue_64 : decode cX20_wantValue 64 = .ok (.invokevirtual 170, 3) := dk_182 0 170 (dk_at dksX20_wantValue_2 20 rfl rfl)
theorem dX20_wantValue_67 : decode cX20_wantValue 67 = .ok (.aload_n 0, 1) := dk_42 (dk_at dksX20_wantValue_2 23 rfl rfl)
theorem dX20_wantValue_68 : decode cX20_wantValue 68 = .ok (.invokevirtual 182, 3) := dk_182 0 182 (dk_at dksX20_wantValue_3 0 rfl rfl)
theorem dX20_wantValue_71 : decode cX20_wantValue 71 = .ok (.return_, 1) := dk_177 (dk_at dksX20_wantValue_3 3 rfl rfl)
abbrev cX20_factHere : ByteArray := prog_38_method_13_code
def yX20_factHere : MethodName := ⟨RX20, "factHere", "()I"⟩
def dkwX20_factHere_3 : List UInt8 := [42, 20, 0, 159, 182, 0, 147, 153, 0, 7, 8, 167, 0, 4, 2, 172]
abbrev dktX20_factHere_3 : List UInt8 := dkwX20_factHere_3 ++ []
def dkwX20_factHere_2 : List UInt8 := [182, 0, 147, 153, 0, 7, 6, 167, 0, 32, 42, 20, 0, 157, 182, 0, 147, 153, 0, 7, 7, 167, 0, 18]
abbrev dktX20_factHere_2 : List UInt8 := dkwX20_factHere_2 ++ dktX20_factHere_3
def dkwX20_factHere_1 : List UInt8 := [4, 167, 0, 60, 42, 20, 0, 153, 182, 0, 147, 153, 0, 7, 5, 167, 0, 46, 42, 20, 0, 155]
abbrev dktX20_factHere_1 : List UInt8 := dkwX20_factHere_1 ++ dktX20_factHere_2
def dkwX20_factHere_0 : List UInt8 := [42, 20, 0, 145, 182, 0, 147, 153, 0, 7, 3, 167, 0, 74, 42, 20, 0, 151, 182, 0, 147, 153, 0, 7]
abbrev dktX20_factHere_0 : List UInt8 := dkwX20_factHere_0 ++ dktX20_factHere_1
theorem dksX20_factHere_0 : cX20_factHere.data.toList.drop 0 = dktX20_factHere_0 := by decide +kernel
theorem dksX20_factHere_1 : cX20_factHere.data.toList.drop 24 = dktX20_factHere_1 := dk_seg dksX20_factHere_0 24 rfl rfl
theorem dksX20_factHere_2 : cX20_factHere.data.toList.drop 46 = dktX20_factHere_2 := dk_seg dksX20_factHere_1 22 rfl rfl
theorem dksX20_factHere_3 : cX20_factHere.data.toList.drop 70 = dktX20_factHere_3 := dk_seg dksX20_factHere_2 24 rfl rfl
theorem dX20_factHere_0 : decode cX20_factHere 0 = .ok (.aload_n 0, 1) := dk_42 (dk_at dksX20_factHere_0 0 rfl rfl)
theorem dX20_factHere_1 : decode cX20_factHere 1 = .ok (.ldc2_w 145, 3) := dk_20 0 145 (dk_at dksX20_factHere_0 1 rfl rfl)
theorem dX20_factHere_4 : decode cX20_factHere 4 = .ok (.invokevirtual 147, 3) := dk_182 0 147 (dk_at dksX20_factHere_0 4 rfl rfl)
theorem dX20_factHere_7 : decode cX20_factHere 7 = .ok (.ifCond .eq 7, 3) := dk_153 0 7 (dk_at dksX20_factHere_0 7 rfl rfl)
theorem dX20_factHere_10 : decode cX20_factHere 10 = .ok (.iconst 0, 1) := dk_3 (dk_at dksX20_factHere_0 10 rfl rfl)
theorem dX20_factHere_11 : decode cX20_factHere 11 = .ok (.goto 74, 3) := dk_167 0 74 (dk_at dksX20_factHere_0 11 rfl rfl)
theorem dX20_factHere_14 : decode cX20_factHere 14 = .ok (.aload_n 0, 1) := dk_42 (dk_at dksX20_factHere_0 14 rfl rfl)
theorem dX20_factHere_15 : decode cX20_factHere 15 = .ok (.ldc2_w 151, 3) := dk_20 0 151 (dk_at dksX20_factHere_0 15 rfl rfl)
theorem dX20_factHere_18 : decode cX20_factHere 18 = .ok (.invokevirtual 147, 3) := dk_182 0 147 (dk_at dksX20_factHere_0 18 rfl rfl)
theorem dX20_factHere_21 : decode cX20_factHere 21 = .ok (.ifCond .eq 7, 3) := dk_153 0 7 (dk_at dksX20_factHere_0 21 rfl rfl)
theorem dX20_factHere_24 : decode cX20_factHere 24 = .ok (.iconst 1, 1) := dk_4 (dk_at dksX20_factHere_1 0 rfl rfl)
theorem dX20_factHere_25 : decode cX20_factHere 25 = .ok (.goto 60, 3) := dk_167 0 60 (dk_at dksX20_factHere_1 1 rfl rfl)
theorem dX20_factHere_28 : decode cX20_factHere 28 = .ok (.aload_n 0, 1) := dk_42 (dk_at dksX20_factHere_1 4 rfl rfl)
theorem dX20_factHere_29 : decode cX20_factHere 29 = .ok (.ldc2_w 153, 3) := dk_20 0 153 (dk_at dksX20_factHere_1 5 rfl rfl)
theorem dX20_factHere_32 : decode cX20_factHere 32 = .ok (.invokevirtual 147, 3) := dk_182 0 147 (dk_at dksX20_factHere_1 8 rfl rfl)
theorem dX20_factHere_35 : decode cX20_factHere 35 = .ok (.ifCond .eq 7, 3) := dk_153 0 7 (dk_at dksX20_factHere_1 11 rfl rfl)
theorem dX20_factHere_38 : decode cX20_factHere 38 = .ok (.iconst 2, 1) := dk_5 (dk_at dksX20_factHere_1 14 rfl rfl)
theorem dX20_factHere_39 : decode cX20_factHere 39 = .ok (.goto 46, 3) := dk_167 0 46 (dk_at dksX20_factHere_1 15 rfl rfl)
theorem dX20_factHere_42 : decode cX20_factHere 42 = .ok (.aload_n 0, 1) := dk_42 (dk_at dksX20_factHere_1 18 rfl rfl)
theorem dX20_factHere_43 : decode cX20_factHere 43 = .ok (.ldc2_w 155, 3) := dk_20 0 155 (dk_at dksX20_factHere_1 19 rfl rfl)
theorem dX20_factHere_46 : decode cX20_factHere 46 = .ok (.invokevirtual 147, 3) := dk_182 0 147 (dk_at dksX20_factHere_2 0 rfl rfl)
theorem dX20_factHere_49 : decode cX20_factHere 49 = .ok (.ifCond .eq 7, 3) := dk_153 0 7 (dk_at dksX20_factHere_2 3 rfl rfl)
theorem dX20_factHere_52 : decode cX20_factHere 52 = .ok (.iconst 3, 1) := dk_6 (dk_at dksX20_factHere_2 6 rfl rfl)
theorem dX20_factHere_53 : decode cX20_factHere 53 = .ok (.goto 32, 3) := dk_167 0 32 (dk_at dksX20_factHere_2 7 rfl rfl)
theorem dX20_factHere_56 : decode cX20_factHere 56 = .ok (.aload_n 0, 1) := dk_42 (dk_at dksX20_factHere_2 10 rfl rfl)
theorem dX20_factHere_57 : decode cX20_factHere 57 = .ok (.ldc2_w 157, 3) := dk_20 0 157 (dk_at dksX20_factHere_2 11 rfl rfl)
theorem dX20_factHere_60 : decode cX20_factHere 60 = .ok (.invokevirtual 147, 3) := dk_182 0 147 (dk_at dksX20_factHere_2 14 rfl rfl)
theorem dX20_factHere_63 : decode cX20_factHere 63 = .ok (.ifCond .eq 7, 3) := dk_153 0 7 (dk_at dksX20_factHere_2 17 rfl rfl)
theorem dX20_factHere_66 : decode cX20_factHere 66 = .ok (.iconst 4, 1) := dk_7 (dk_at dksX20_factHere_2 20 rfl rfl)
theorem dX20_factHere_67 : decode cX20_factHere 67 = .ok (.goto 18, 3) := dk_167 0 18 (dk_at dksX20_factHere_2 21 rfl rfl)
theorem dX20_factHere_70 : decode cX20_factHere 70 = .ok (.aload_n 0, 1) := dk_42 (dk_at dksX20_factHere_3 0 rfl rfl)
theorem dX20_factHere_71 : decode cX20_factHere 71 = .ok (.ldc2_w 159, 3) := dk_20 0 159 (dk_at dksX20_factHere_3 1 rfl rfl)
theorem dX20_factHere_74 : decode cX20_factHere 74 = .ok (.invokevirtual 147, 3) := dk_182 0 147 (dk_at dksX20_factHere_3 4 rfl rfl)
theorem dX20_factHere_77 : decode cX20_factHere 77 = .ok (.ifCond .eq 7, 3) := dk_153 0 7 (dk_at dksX20_factHere_3 7 rfl rfl)
theorem dX20_factHere_80 : decode cX20_factHere 80 = .ok (.iconst 5, 1) := dk_8 (dk_at dksX20_factHere_3 10 rfl rfl)
theorem dX20_factHere_81 : decode cX20_factHere 81 = .ok (.goto 4, 3) := dk_167 0 4 (dk_at dksX20_factHere_3 11 rfl rfl)
theorem dX20_factHere_84 : decode cX20_factHere 84 = .ok (.iconst (-1), 1) := dk_2 (dk_at dksX20_factHere_3 14 rfl rfl)
theorem dX20_factHere_85 : decode cX20_factHere 85 = .ok (.ireturn, 1) := dk_172 (dk_at dksX20_factHere_3 15 rfl rfl)
abbrev cX20_emit : ByteArray := prog_38_method_14_code
def yX20_emit : MethodName := ⟨RX20, "emit", "(I)V"⟩
def dkwX20_emit_0 : List UInt8 := [42, 180, 0, 53, 42, 180, 0, 161, 27, 79, 42, 89, 180, 0, 161, 4, 96, 181, 0, 161, 177]
abbrev dktX20_emit_0 : List UInt8 := dkwX20_emit_0 ++ []
theorem dksX20_emit_0 : cX20_emit.data.toList.drop 0 = dktX20_emit_0 := by decide +kernel
theorem dX20_emit_0 : decode cX20_emit 0 = .ok (.aload_n 0, 1) := dk_42 (dk_at dksX20_emit_0 0 rfl rfl)
theorem dX20_emit_1 : decode cX20_emit 1 = .ok (.getfield 53, 3) := dk_180 0 53 (dk_at dksX20_emit_0 1 rfl rfl)
theorem dX20_emit_4 : decode cX20_emit 4 = .ok (.aload_n 0, 1) := dk_42 (dk_at dksX20_emit_0 4 rfl rfl)
theorem dX20_emit_5 : decode cX20_emit 5 = .ok (.getfield 161, 3) := dk_180 0 161 (dk_at dksX20_emit_0 5 rfl rfl)
theorem dX20_emit_8 : decode cX20_emit 8 = .ok (.iload_n 1, 1) := dk_27 (dk_at dksX20_emit_0 8 rfl rfl)
theorem dX20_emit_9 : decode cX20_emit 9 = .ok (.iastore, 1) := dk_79 (dk_at dksX20_emit_0 9 rfl rfl)
theorem dX20_emit_10 : decode cX20_emit 10 = .ok (.aload_n 0, 1) := dk_42 (dk_at dksX20_emit_0 10 rfl rfl)
theorem dX20_emit_11 : decode cX20_emit 11 = .ok (.dup, 1) := dk_89 (dk_at dksX20_emit_0 11 rfl rfl)
theorem dX20_emit_12 : decode cX20_emit 12 = .ok (.getfield 161, 3) := dk_180 0 161 (dk_at dksX20_emit_0 12 rfl rfl)
theorem dX20_emit_15 : decode cX20_emit 15 = .ok (.iconst 1, 1) := dk_4 (dk_at dksX20_emit_0 15 rfl rfl)
theorem dX20_emit_16 : decode cX20_emit 16 = .ok (.iadd, 1) := dk_96 (dk_at dksX20_emit_0 16 rfl rfl)
theorem dX20_emit_17 : decode cX20_emit 17 = .ok (.putfield 161, 3) := dk_181 0 161 (dk_at dksX20_emit_0 17 rfl rfl)
theorem dX20_emit_20 : decode cX20_emit 20 = .ok (.return_, 1) := dk_177 (dk_at dksX20_emit_0 20 rfl rfl)
abbrev cX20_settle : ByteArray := prog_38_method_17_code
def yX20_settle : MethodName := ⟨RX20, "settle", "(I)V"⟩
def dkwX20_settle_1 : List UInt8 := [167, 255, 233, 177]
abbrev dktX20_settle_1 : List UInt8 := dkwX20_settle_1 ++ []
def dkwX20_settle_0 : List UInt8 := [42, 27, 182, 0, 167, 153, 0, 21, 42, 27, 182, 0, 170, 42, 89, 180, 0, 164, 4, 100, 181, 0, 164]
abbrev dktX20_settle_0 : List UInt8 := dkwX20_settle_0 ++ dktX20_settle_1
theorem dksX20_settle_0 : cX20_settle.data.toList.drop 0 = dktX20_settle_0 := by decide +kernel
theorem dksX20_settle_1 : cX20_settle.data.toList.drop 23 = dktX20_settle_1 := dk_seg dksX20_settle_0 23 rfl rfl
theorem dX20_settle_0 : decode cX20_settle 0 = .ok (.aload_n 0, 1) := dk_42 (dk_at dksX20_settle_0 0 rfl rfl)
theorem dX20_settle_1 : decode cX20_settle 1 = .ok (.iload_n 1, 1) := dk_27 (dk_at dksX20_settle_0 1 rfl rfl)
theorem dX20_settle_2 : decode cX20_settle 2 = .ok (.invokevirtual 167, 3) := dk_182 0 167 (dk_at dksX20_settle_0 2 rfl rfl)
theorem dX20_settle_5 : decode cX20_settle 5 = .ok (.ifCond .eq 21, 3) := dk_153 0 21 (dk_at dksX20_settle_0 5 rfl rfl)
theorem dX20_settle_8 : decode cX20_settle 8 = .ok (.aload_n 0, 1) := dk_42 (dk_at dksX20_settle_0 8 rfl rfl)
theorem dX20_settle_9 : decode cX20_settle 9 = .ok (.iload_n 1, 1) := dk_27 (dk_at dksX20_settle_0 9 rfl rfl)
theorem dX20_settle_10 : decode cX20_settle 10 = .ok (.invokevirtual 170, 3) := dk_182 0 170 (dk_at dksX20_settle_0 10 rfl rfl)
theorem dX20_settle_13 : decode cX20_settle 13 = .ok (.aload_n 0, 1) := dk_42 (dk_at dksX20_settle_0 13 rfl rfl)
theorem dX20_settle_14 : decode cX20_settle 14 = .ok (.dup, 1) := dk_89 (dk_at dksX20_settle_0 14 rfl rfl)
theorem dX20_settle_15 : decode cX20_settle 15 = .ok (.getfield 164, 3) := dk_180 0 164 (dk_at dksX20_settle_0 15 rfl rfl)
theorem dX20_settle_18 : decode cX20_settle 18 = .ok (.iconst 1, 1) := dk_4 (dk_at dksX20_settle_0 18 rfl rfl)
theorem dX20_settle_19 : decode cX20_settle 19 = .ok (.isub, 1) := dk_100 (dk_at dksX20_settle_0 19 rfl rfl)
theorem dX20_settle_20 : decode cX20_settle 20 = .ok (.putfield 164, 3) := dk_181 0 164 (dk_at dksX20_settle_0 20 rfl rfl)
theorem dX20_settle_23 : decode cX20_settle 23 = .ok (.goto (-23), 3) := dk_167 255 233 (dk_at dksX20_settle_1 0 rfl rfl)
theorem dX20_settle_26 : decode cX20_settle 26 = .ok (.return_, 1) := dk_177 (dk_at dksX20_settle_1 3 rfl rfl)
abbrev cX20_isTop : ByteArray := prog_38_method_16_code
def yX20_isTop : MethodName := ⟨RX20, "isTop", "(I)Z"⟩
def dkwX20_isTop_1 : List UInt8 := [167, 0, 4, 3, 172]
abbrev dktX20_isTop_1 : List UInt8 := dkwX20_isTop_1 ++ []
def dkwX20_isTop_0 : List UInt8 := [42, 180, 0, 164, 158, 0, 22, 42, 180, 0, 56, 42, 180, 0, 164, 4, 100, 46, 27, 160, 0, 7, 4]
abbrev dktX20_isTop_0 : List UInt8 := dkwX20_isTop_0 ++ dktX20_isTop_1
theorem dksX20_isTop_0 : cX20_isTop.data.toList.drop 0 = dktX20_isTop_0 := by decide +kernel
theorem dksX20_isTop_1 : cX20_isTop.data.toList.drop 23 = dktX20_isTop_1 := dk_seg dksX20_isTop_0 23 rfl rfl
theorem dX20_isTop_0 : decode cX20_isTop 0 = .ok (.aload_n 0, 1) := dk_42 (dk_at dksX20_isTop_0 0 rfl rfl)
theorem dX20_isTop_1 : decode cX20_isTop 1 = .ok (.getfield 164, 3) := dk_180 0 164 (dk_at dksX20_isTop_0 1 rfl rfl)
theorem dX20_isTop_4 : decode cX20_isTop 4 = .ok (.ifCond .le 22, 3) := dk_158 0 22 (dk_at dksX20_isTop_0 4 rfl rfl)
theorem dX20_isTop_7 : decode cX20_isTop 7 = .ok (.aload_n 0, 1) := dk_42 (dk_at dksX20_isTop_0 7 rfl rfl)
theorem dX20_isTop_8 : decode cX20_isTop 8 = .ok (.getfield 56, 3) := dk_180 0 56 (dk_at dksX20_isTop_0 8 rfl rfl)
theorem dX20_isTop_11 : decode cX20_isTop 11 = .ok (.aload_n 0, 1) := dk_42 (dk_at dksX20_isTop_0 11 rfl rfl)
theorem dX20_isTop_12 : decode cX20_isTop 12 = .ok (.getfield 164, 3) := dk_180 0 164 (dk_at dksX20_isTop_0 12 rfl rfl)
theorem dX20_isTop_15 : decode cX20_isTop 15 = .ok (.iconst 1, 1) := dk_4 (dk_at dksX20_isTop_0 15 rfl rfl)
theorem dX20_isTop_16 : decode cX20_isTop 16 = .ok (.isub, 1) := dk_100 (dk_at dksX20_isTop_0 16 rfl rfl)
theorem dX20_isTop_17 : decode cX20_isTop 17 = .ok (.iaload, 1) := dk_46 (dk_at dksX20_isTop_0 17 rfl rfl)
theorem dX20_isTop_18 : decode cX20_isTop 18 = .ok (.iload_n 1, 1) := dk_27 (dk_at dksX20_isTop_0 18 rfl rfl)
theorem dX20_isTop_19 : decode cX20_isTop 19 = .ok (.if_icmp .ne 7, 3) := dk_160 0 7 (dk_at dksX20_isTop_0 19 rfl rfl)
theorem dX20_isTop_22 : decode cX20_isTop 22 = .ok (.iconst 1, 1) := dk_4 (dk_at dksX20_isTop_0 22 rfl rfl)
theorem dX20_isTop_23 : decode cX20_isTop 23 = .ok (.goto 4, 3) := dk_167 0 4 (dk_at dksX20_isTop_1 0 rfl rfl)
theorem dX20_isTop_26 : decode cX20_isTop 26 = .ok (.iconst 0, 1) := dk_3 (dk_at dksX20_isTop_1 3 rfl rfl)
theorem dX20_isTop_27 : decode cX20_isTop 27 = .ok (.ireturn, 1) := dk_172 (dk_at dksX20_isTop_1 4 rfl rfl)
abbrev cX20_out : ByteArray := prog_38_method_25_code
def yX20_out : MethodName := ⟨RX20, "out", "(II)I"⟩
def dkwX20_out_1 : List UInt8 := [180, 0, 19, 27, 46, 62, 42, 180, 0, 19, 27, 28, 79, 29, 172]
abbrev dktX20_out_1 : List UInt8 := dkwX20_out_1 ++ []
def dkwX20_out_0 : List UInt8 := [27, 184, 0, 238, 153, 0, 14, 28, 16, 236, 16, 30, 184, 0, 100, 154, 0, 6, 18, 241, 172, 42]
abbrev dktX20_out_0 : List UInt8 := dkwX20_out_0 ++ dktX20_out_1
theorem dksX20_out_0 : cX20_out.data.toList.drop 0 = dktX20_out_0 := by decide +kernel
theorem dksX20_out_1 : cX20_out.data.toList.drop 22 = dktX20_out_1 := dk_seg dksX20_out_0 22 rfl rfl
theorem dX20_out_0 : decode cX20_out 0 = .ok (.iload_n 1, 1) := dk_27 (dk_at dksX20_out_0 0 rfl rfl)
theorem dX20_out_1 : decode cX20_out 1 = .ok (.invokestatic 238, 3) := dk_184 0 238 (dk_at dksX20_out_0 1 rfl rfl)
theorem dX20_out_4 : decode cX20_out 4 = .ok (.ifCond .eq 14, 3) := dk_153 0 14 (dk_at dksX20_out_0 4 rfl rfl)
theorem dX20_out_7 : decode cX20_out 7 = .ok (.iload_n 2, 1) := dk_28 (dk_at dksX20_out_0 7 rfl rfl)
theorem dX20_out_8 : decode cX20_out 8 = .ok (.bipush (-20), 2) := dk_16 236 (dk_at dksX20_out_0 8 rfl rfl)
theorem dX20_out_10 : decode cX20_out 10 = .ok (.bipush 30, 2) := dk_16 30 (dk_at dksX20_out_0 10 rfl rfl)
theorem dX20_out_12 : decode cX20_out 12 = .ok (.invokestatic 100, 3) := dk_184 0 100 (dk_at dksX20_out_0 12 rfl rfl)
theorem dX20_out_15 : decode cX20_out 15 = .ok (.ifCond .ne 6, 3) := dk_154 0 6 (dk_at dksX20_out_0 15 rfl rfl)
theorem dX20_out_18 : decode cX20_out 18 = .ok (.ldc 241, 2) := dk_18 241 (dk_at dksX20_out_0 18 rfl rfl)
theorem dX20_out_20 : decode cX20_out 20 = .ok (.ireturn, 1) := dk_172 (dk_at dksX20_out_0 20 rfl rfl)
theorem dX20_out_21 : decode cX20_out 21 = .ok (.aload_n 0, 1) := dk_42 (dk_at dksX20_out_0 21 rfl rfl)
theorem dX20_out_22 : decode cX20_out 22 = .ok (.getfield 19, 3) := dk_180 0 19 (dk_at dksX20_out_1 0 rfl rfl)
theorem dX20_out_25 : decode cX20_out 25 = .ok (.iload_n 1, 1) := dk_27 (dk_at dksX20_out_1 3 rfl rfl)
theorem dX20_out_26 : decode cX20_out 26 = .ok (.iaload, 1) := dk_46 (dk_at dksX20_out_1 4 rfl rfl)
theorem dX20_out_27 : decode cX20_out 27 = .ok (.istore_n 3, 1) := dk_62 (dk_at dksX20_out_1 5 rfl rfl)
theorem dX20_out_28 : decode cX20_out 28 = .ok (.aload_n 0, 1) := dk_42 (dk_at dksX20_out_1 6 rfl rfl)
theorem dX20_out_29 : decode cX20_out 29 = .ok (.getfield 19, 3) := dk_180 0 19 (dk_at dksX20_out_1 7 rfl rfl)
theorem dX20_out_32 : decode cX20_out 32 = .ok (.iload_n 1, 1) := dk_27 (dk_at dksX20_out_1 10 rfl rfl)
theorem dX20_out_33 : decode cX20_out 33 = .ok (.iload_n 2, 1) := dk_28 (dk_at dksX20_out_1 11 rfl rfl)
theorem dX20_out_34 : decode cX20_out 34 = .ok (.iastore, 1) := dk_79 (dk_at dksX20_out_1 12 rfl rfl)
theorem dX20_out_35 : decode cX20_out 35 = .ok (.iload_n 3, 1) := dk_29 (dk_at dksX20_out_1 13 rfl rfl)
theorem dX20_out_36 : decode cX20_out 36 = .ok (.ireturn, 1) := dk_172 (dk_at dksX20_out_1 14 rfl rfl)
abbrev cX20_isWeek : ByteArray := prog_38_method_3_code
def yX20_isWeek : MethodName := ⟨RX20, "isWeek", "(I)Z"⟩
def dkwX20_isWeek_0 : List UInt8 := [26, 3, 16, 23, 184, 0, 100, 172]
abbrev dktX20_isWeek_0 : List UInt8 := dkwX20_isWeek_0 ++ []
theorem dksX20_isWeek_0 : cX20_isWeek.data.toList.drop 0 = dktX20_isWeek_0 := by decide +kernel
theorem dX20_isWeek_0 : decode cX20_isWeek 0 = .ok (.iload_n 0, 1) := dk_26 (dk_at dksX20_isWeek_0 0 rfl rfl)
theorem dX20_isWeek_1 : decode cX20_isWeek 1 = .ok (.iconst 0, 1) := dk_3 (dk_at dksX20_isWeek_0 1 rfl rfl)
theorem dX20_isWeek_2 : decode cX20_isWeek 2 = .ok (.bipush 23, 2) := dk_16 23 (dk_at dksX20_isWeek_0 2 rfl rfl)
theorem dX20_isWeek_4 : decode cX20_isWeek 4 = .ok (.invokestatic 100, 3) := dk_184 0 100 (dk_at dksX20_isWeek_0 4 rfl rfl)
theorem dX20_isWeek_7 : decode cX20_isWeek 7 = .ok (.ireturn, 1) := dk_172 (dk_at dksX20_isWeek_0 7 rfl rfl)
abbrev cX20_air : ByteArray := prog_38_method_26_code
def yX20_air : MethodName := ⟨RX20, "air", "(II)I"⟩
def dkwX20_air_1 : List UInt8 := [46, 62, 42, 180, 0, 22, 27, 28, 79, 29, 172]
abbrev dktX20_air_1 : List UInt8 := dkwX20_air_1 ++ []
def dkwX20_air_0 : List UInt8 := [27, 184, 0, 238, 153, 0, 13, 28, 3, 16, 9, 184, 0, 100, 154, 0, 5, 2, 172, 42, 180, 0, 22, 27]
abbrev dktX20_air_0 : List UInt8 := dkwX20_air_0 ++ dktX20_air_1
theorem dksX20_air_0 : cX20_air.data.toList.drop 0 = dktX20_air_0 := by decide +kernel
theorem dksX20_air_1 : cX20_air.data.toList.drop 24 = dktX20_air_1 := dk_seg dksX20_air_0 24 rfl rfl
theorem dX20_air_0 : decode cX20_air 0 = .ok (.iload_n 1, 1) := dk_27 (dk_at dksX20_air_0 0 rfl rfl)
theorem dX20_air_1 : decode cX20_air 1 = .ok (.invokestatic 238, 3) := dk_184 0 238 (dk_at dksX20_air_0 1 rfl rfl)
theorem dX20_air_4 : decode cX20_air 4 = .ok (.ifCond .eq 13, 3) := dk_153 0 13 (dk_at dksX20_air_0 4 rfl rfl)
theorem dX20_air_7 : decode cX20_air 7 = .ok (.iload_n 2, 1) := dk_28 (dk_at dksX20_air_0 7 rfl rfl)
theorem dX20_air_8 : decode cX20_air 8 = .ok (.iconst 0, 1) := dk_3 (dk_at dksX20_air_0 8 rfl rfl)
theorem dX20_air_9 : decode cX20_air 9 = .ok (.bipush 9, 2) := dk_16 9 (dk_at dksX20_air_0 9 rfl rfl)
theorem dX20_air_11 : decode cX20_air 11 = .ok (.invokestatic 100, 3) := dk_184 0 100 (dk_at dksX20_air_0 11 rfl rfl)
theorem dX20_air_14 : decode cX20_air 14 = .ok (.ifCond .ne 5, 3) := dk_154 0 5 (dk_at dksX20_air_0 14 rfl rfl)
theorem dX20_air_17 : decode cX20_air 17 = .ok (.iconst (-1), 1) := dk_2 (dk_at dksX20_air_0 17 rfl rfl)
theorem dX20_air_18 : decode cX20_air 18 = .ok (.ireturn, 1) := dk_172 (dk_at dksX20_air_0 18 rfl rfl)
theorem dX20_air_19 : decode cX20_air 19 = .ok (.aload_n 0, 1) := dk_42 (dk_at dksX20_air_0 19 rfl rfl)
theorem dX20_air_20 : decode cX20_air 20 = .ok (.getfield 22, 3) := dk_180 0 22 (dk_at dksX20_air_0 20 rfl rfl)
theorem dX20_air_23 : decode cX20_air 23 = .ok (.iload_n 1, 1) := dk_27 (dk_at dksX20_air_0 23 rfl rfl)
theorem dX20_air_24 : decode cX20_air 24 = .ok (.iaload, 1) := dk_46 (dk_at dksX20_air_1 0 rfl rfl)
theorem dX20_air_25 : decode cX20_air 25 = .ok (.istore_n 3, 1) := dk_62 (dk_at dksX20_air_1 1 rfl rfl)
theorem dX20_air_26 : decode cX20_air 26 = .ok (.aload_n 0, 1) := dk_42 (dk_at dksX20_air_1 2 rfl rfl)
theorem dX20_air_27 : decode cX20_air 27 = .ok (.getfield 22, 3) := dk_180 0 22 (dk_at dksX20_air_1 3 rfl rfl)
theorem dX20_air_30 : decode cX20_air 30 = .ok (.iload_n 1, 1) := dk_27 (dk_at dksX20_air_1 6 rfl rfl)
theorem dX20_air_31 : decode cX20_air 31 = .ok (.iload_n 2, 1) := dk_28 (dk_at dksX20_air_1 7 rfl rfl)
theorem dX20_air_32 : decode cX20_air 32 = .ok (.iastore, 1) := dk_79 (dk_at dksX20_air_1 8 rfl rfl)
theorem dX20_air_33 : decode cX20_air 33 = .ok (.iload_n 3, 1) := dk_29 (dk_at dksX20_air_1 9 rfl rfl)
theorem dX20_air_34 : decode cX20_air 34 = .ok (.ireturn, 1) := dk_172 (dk_at dksX20_air_1 10 rfl rfl)
abbrev cX20_weekOf : ByteArray := prog_38_method_29_code
def yX20_weekOf : MethodName := ⟨RX20, "weekOf", "(III)I"⟩
def dkwX20_weekOf_3 : List UInt8 := [28, 182, 0, 249, 172]
abbrev dktX20_weekOf_3 : List UInt8 := dkwX20_weekOf_3 ++ []
def dkwX20_weekOf_2 : List UInt8 := [180, 0, 19, 27, 46, 167, 0, 23, 29, 5, 160, 0, 12, 42, 180, 0, 22, 27, 46, 167, 0, 9, 42, 27]
abbrev dktX20_weekOf_2 : List UInt8 := dkwX20_weekOf_2 ++ dktX20_weekOf_3
def dkwX20_weekOf_1 : List UInt8 := [18, 241, 172, 29, 154, 0, 12, 42, 27, 28, 182, 0, 242, 167, 0, 37, 29, 4, 160, 0, 12, 42]
abbrev dktX20_weekOf_1 : List UInt8 := dkwX20_weekOf_1 ++ dktX20_weekOf_2
def dkwX20_weekOf_0 : List UInt8 := [27, 184, 0, 238, 153, 0, 19, 28, 184, 0, 246, 153, 0, 12, 29, 3, 6, 184, 0, 100, 154, 0, 6]
abbrev dktX20_weekOf_0 : List UInt8 := dkwX20_weekOf_0 ++ dktX20_weekOf_1
theorem dksX20_weekOf_0 : cX20_weekOf.data.toList.drop 0 = dktX20_weekOf_0 := by decide +kernel
theorem dksX20_weekOf_1 : cX20_weekOf.data.toList.drop 23 = dktX20_weekOf_1 := dk_seg dksX20_weekOf_0 23 rfl rfl
theorem dksX20_weekOf_2 : cX20_weekOf.data.toList.drop 45 = dktX20_weekOf_2 := dk_seg dksX20_weekOf_1 22 rfl rfl
theorem dksX20_weekOf_3 : cX20_weekOf.data.toList.drop 69 = dktX20_weekOf_3 := dk_seg dksX20_weekOf_2 24 rfl rfl
theorem dX20_weekOf_0 : decode cX20_weekOf 0 = .ok (.iload_n 1, 1) := dk_27 (dk_at dksX20_weekOf_0 0 rfl rfl)
theorem dX20_weekOf_1 : decode cX20_weekOf 1 = .ok (.invokestatic 238, 3) := dk_184 0 238 (dk_at dksX20_weekOf_0 1 rfl rfl)
theorem dX20_weekOf_4 : decode cX20_weekOf 4 = .ok (.ifCond .eq 19, 3) := dk_153 0 19 (dk_at dksX20_weekOf_0 4 rfl rfl)
theorem dX20_weekOf_7 : decode cX20_weekOf 7 = .ok (.iload_n 2, 1) := dk_28 (dk_at dksX20_weekOf_0 7 rfl rfl)
theorem dX20_weekOf_8 : decode cX20_weekOf 8 = .ok (.invokestatic 246, 3) := dk_184 0 246 (dk_at dksX20_weekOf_0 8 rfl rfl)
theorem dX20_weekOf_11 : decode cX20_weekOf 11 = .ok (.ifCond .eq 12, 3) := dk_153 0 12 (dk_at dksX20_weekOf_0 11 rfl rfl)
theorem dX20_weekOf_14 : decode cX20_weekOf 14 = .ok (.iload_n 3, 1) := dk_29 (dk_at dksX20_weekOf_0 14 rfl rfl)
theorem dX20_weekOf_15 : decode cX20_weekOf 15 = .ok (.iconst 0, 1) := dk_3 (dk_at dksX20_weekOf_0 15 rfl rfl)
theorem dX20_weekOf_16 : decode cX20_weekOf 16 = .ok (.iconst 3, 1) := dk_6 (dk_at dksX20_weekOf_0 16 rfl rfl)
theorem dX20_weekOf_17 : decode cX20_weekOf 17 = .ok (.invokestatic 100, 3) := dk_184 0 100 (dk_at dksX20_weekOf_0 17 rfl rfl)
theorem dX20_weekOf_20 : decode cX20_weekOf 20 = .ok (.ifCond .ne 6, 3) := dk_154 0 6 (dk_at dksX20_weekOf_0 20 rfl rfl)
theorem dX20_weekOf_23 : decode cX20_weekOf 23 = .ok (.ldc 241, 2) := dk_18 241 (dk_at dksX20_weekOf_1 0 rfl rfl)
theorem dX20_weekOf_25 : decode cX20_weekOf 25 = .ok (.ireturn, 1) := dk_172 (dk_at dksX20_weekOf_1 2 rfl rfl)
theorem dX20_weekOf_26 : decode cX20_weekOf 26 = .ok (.iload_n 3, 1) := dk_29 (dk_at dksX20_weekOf_1 3 rfl rfl)
theorem dX20_weekOf_27 : decode cX20_weekOf 27 = .ok (.ifCond .ne 12, 3) := dk_154 0 12 (dk_at dksX20_weekOf_1 4 rfl rfl)
theorem dX20_weekOf_30 : decode cX20_weekOf 30 = .ok (.aload_n 0, 1) := dk_42 (dk_at dksX20_weekOf_1 7 rfl rfl)
theorem dX20_weekOf_31 : decode cX20_weekOf 31 = .ok (.iload_n 1, 1) := dk_27 (dk_at dksX20_weekOf_1 8 rfl rfl)
theorem dX20_weekOf_32 : decode cX20_weekOf 32 = .ok (.iload_n 2, 1) := dk_28 (dk_at dksX20_weekOf_1 9 rfl rfl)
theorem dX20_weekOf_33 : decode cX20_weekOf 33 = .ok (.invokevirtual 242, 3) := dk_182 0 242 (dk_at dksX20_weekOf_1 10 rfl rfl)
theorem dX20_weekOf_36 : decode cX20_weekOf 36 = .ok (.goto 37, 3) := dk_167 0 37 (dk_at dksX20_weekOf_1 13 rfl rfl)
theorem dX20_weekOf_39 : decode cX20_weekOf 39 = .ok (.iload_n 3, 1) := dk_29 (dk_at dksX20_weekOf_1 16 rfl rfl)
theorem dX20_weekOf_40 : decode cX20_weekOf 40 = .ok (.iconst 1, 1) := dk_4 (dk_at dksX20_weekOf_1 17 rfl rfl)
theorem dX20_weekOf_41 : decode cX20_weekOf 41 = .ok (.if_icmp .ne 12, 3) := dk_160 0 12 (dk_at dksX20_weekOf_1 18 rfl rfl)
theorem dX20_weekOf_44 : decode cX20_weekOf 44 = .ok (.aload_n 0, 1) := dk_42 (dk_at dksX20_weekOf_1 21 rfl rfl)
theorem dX20_weekOf_45 : decode cX20_weekOf 45 = .ok (.getfield 19, 3) := dk_180 0 19 (dk_at dksX20_weekOf_2 0 rfl rfl)
theorem dX20_weekOf_48 : decode cX20_weekOf 48 = .ok (.iload_n 1, 1) := dk_27 (dk_at dksX20_weekOf_2 3 rfl rfl)
theorem dX20_weekOf_49 : decode cX20_weekOf 49 = .ok (.iaload, 1) := dk_46 (dk_at dksX20_weekOf_2 4 rfl rfl)
theorem dX20_weekOf_50 : decode cX20_weekOf 50 = .ok (.goto 23, 3) := dk_167 0 23 (dk_at dksX20_weekOf_2 5 rfl rfl)
theorem dX20_weekOf_53 : decode cX20_weekOf 53 = .ok (.iload_n 3, 1) := dk_29 (dk_at dksX20_weekOf_2 8 rfl rfl)
theorem dX20_weekOf_54 : decode cX20_weekOf 54 = .ok (.iconst 2, 1) := dk_5 (dk_at dksX20_weekOf_2 9 rfl rfl)
theorem dX20_weekOf_55 : decode cX20_weekOf 55 = .ok (.if_icmp .ne 12, 3) := dk_160 0 12 (dk_at dksX20_weekOf_2 10 rfl rfl)
theorem dX20_weekOf_58 : decode cX20_weekOf 58 = .ok (.aload_n 0, 1) := dk_42 (dk_at dksX20_weekOf_2 13 rfl rfl)
theorem dX20_weekOf_59 : decode cX20_weekOf 59 = .ok (.getfield 22, 3) := dk_180 0 22 (dk_at dksX20_weekOf_2 14 rfl rfl)
theorem dX20_weekOf_62 : decode cX20_weekOf 62 = .ok (.iload_n 1, 1) := dk_27 (dk_at dksX20_weekOf_2 17 rfl rfl)
theorem dX20_weekOf_63 : decode cX20_weekOf 63 = .ok (.iaload, 1) := dk_46 (dk_at dksX20_weekOf_2 18 rfl rfl)
theorem dX20_weekOf_64 : decode cX20_weekOf 64 = .ok (.goto 9, 3) := dk_167 0 9 (dk_at dksX20_weekOf_2 19 rfl rfl)
theorem dX20_weekOf_67 : decode cX20_weekOf 67 = .ok (.aload_n 0, 1) := dk_42 (dk_at dksX20_weekOf_2 22 rfl rfl)
theorem dX20_weekOf_68 : decode cX20_weekOf 68 = .ok (.iload_n 1, 1) := dk_27 (dk_at dksX20_weekOf_2 23 rfl rfl)
theorem dX20_weekOf_69 : decode cX20_weekOf 69 = .ok (.iload_n 2, 1) := dk_28 (dk_at dksX20_weekOf_3 0 rfl rfl)
theorem dX20_weekOf_70 : decode cX20_weekOf 70 = .ok (.invokevirtual 249, 3) := dk_182 0 249 (dk_at dksX20_weekOf_3 1 rfl rfl)
theorem dX20_weekOf_73 : decode cX20_weekOf 73 = .ok (.ireturn, 1) := dk_172 (dk_at dksX20_weekOf_3 4 rfl rfl)
abbrev cX20_isPlace : ByteArray := prog_38_method_4_code
def yX20_isPlace : MethodName := ⟨RX20, "isPlace", "(I)Z"⟩
def dkwX20_isPlace_0 : List UInt8 := [26, 3, 6, 184, 0, 100, 172]
abbrev dktX20_isPlace_0 : List UInt8 := dkwX20_isPlace_0 ++ []
theorem dksX20_isPlace_0 : cX20_isPlace.data.toList.drop 0 = dktX20_isPlace_0 := by decide +kernel
theorem dX20_isPlace_0 : decode cX20_isPlace 0 = .ok (.iload_n 0, 1) := dk_26 (dk_at dksX20_isPlace_0 0 rfl rfl)
theorem dX20_isPlace_1 : decode cX20_isPlace 1 = .ok (.iconst 0, 1) := dk_3 (dk_at dksX20_isPlace_0 1 rfl rfl)
theorem dX20_isPlace_2 : decode cX20_isPlace 2 = .ok (.iconst 3, 1) := dk_6 (dk_at dksX20_isPlace_0 2 rfl rfl)
theorem dX20_isPlace_3 : decode cX20_isPlace 3 = .ok (.invokestatic 100, 3) := dk_184 0 100 (dk_at dksX20_isPlace_0 3 rfl rfl)
theorem dX20_isPlace_6 : decode cX20_isPlace 6 = .ok (.ireturn, 1) := dk_172 (dk_at dksX20_isPlace_0 6 rfl rfl)
abbrev cX20_warmthOf : ByteArray := prog_38_method_27_code
def yX20_warmthOf : MethodName := ⟨RX20, "warmthOf", "(II)I"⟩
def dkwX20_warmthOf_2 : List UInt8 := [172]
abbrev dktX20_warmthOf_2 : List UInt8 := dkwX20_warmthOf_2 ++ []
def dkwX20_warmthOf_1 : List UInt8 := [96, 167, 0, 23, 28, 5, 160, 0, 12, 42, 180, 0, 25, 3, 46, 167, 0, 9, 29, 7, 108, 16, 6, 96]
abbrev dktX20_warmthOf_1 : List UInt8 := dkwX20_warmthOf_1 ++ dktX20_warmthOf_2
def dkwX20_warmthOf_0 : List UInt8 := [42, 180, 0, 19, 27, 46, 62, 28, 154, 0, 7, 29, 167, 0, 36, 28, 4, 160, 0, 11, 29, 5, 108, 7]
abbrev dktX20_warmthOf_0 : List UInt8 := dkwX20_warmthOf_0 ++ dktX20_warmthOf_1
theorem dksX20_warmthOf_0 : cX20_warmthOf.data.toList.drop 0 = dktX20_warmthOf_0 := by decide +kernel
theorem dksX20_warmthOf_1 : cX20_warmthOf.data.toList.drop 24 = dktX20_warmthOf_1 := dk_seg dksX20_warmthOf_0 24 rfl rfl
theorem dksX20_warmthOf_2 : cX20_warmthOf.data.toList.drop 48 = dktX20_warmthOf_2 := dk_seg dksX20_warmthOf_1 24 rfl rfl
theorem dX20_warmthOf_0 : decode cX20_warmthOf 0 = .ok (.aload_n 0, 1) := dk_42 (dk_at dksX20_warmthOf_0 0 rfl rfl)
theorem dX20_warmthOf_1 : decode cX20_warmthOf 1 = .ok (.getfield 19, 3) := dk_180 0 19 (dk_at dksX20_warmthOf_0 1 rfl rfl)
theorem dX20_warmthOf_4 : decode cX20_warmthOf 4 = .ok (.iload_n 1, 1) := dk_27 (dk_at dksX20_warmthOf_0 4 rfl rfl)
theorem dX20_warmthOf_5 : decode cX20_warmthOf 5 = .ok (.iaload, 1) := dk_46 (dk_at dksX20_warmthOf_0 5 rfl rfl)
theorem dX20_warmthOf_6 : decode cX20_warmthOf 6 = .ok (.istore_n 3, 1) := dk_62 (dk_at dksX20_warmthOf_0 6 rfl rfl)
theorem dX20_warmthOf_7 : decode cX20_warmthOf 7 = .ok (.iload_n 2, 1) := dk_28 (dk_at dksX20_warmthOf_0 7 rfl rfl)
theorem dX20_warmthOf_8 : decode cX20_warmthOf 8 = .ok (.ifCond .ne 7, 3) := dk_154 0 7 (dk_at dksX20_warmthOf_0 8 rfl rfl)
theorem dX20_warmthOf_11 : decode cX20_warmthOf 11 = .ok (.iload_n 3, 1) := dk_29 (dk_at dksX20_warmthOf_0 11 rfl rfl)
theorem dX20_warmthOf_12 : decode cX20_warmthOf 12 = .ok (.goto 36, 3) := dk_167 0 36 (dk_at dksX20_warmthOf_0 12 rfl rfl)
theorem dX20_warmthOf_15 : decode cX20_warmthOf 15 = .ok (.iload_n 2, 1) := dk_28 (dk_at dksX20_warmthOf_0 15 rfl rfl)
theorem dX20_warmthOf_16 : decode cX20_warmthOf 16 = .ok (.iconst 1, 1) := dk_4 (dk_at dksX20_warmthOf_0 16 rfl rfl)
theorem dX20_warmthOf_17 : decode cX20_warmthOf 17 = .ok (.if_icmp .ne 11, 3) := dk_160 0 11 (dk_at dksX20_warmthOf_0 17 rfl rfl)
theorem dX20_warmthOf_20 : decode cX20_warmthOf 20 = .ok (.iload_n 3, 1) := dk_29 (dk_at dksX20_warmthOf_0 20 rfl rfl)
theorem dX20_warmthOf_21 : decode cX20_warmthOf 21 = .ok (.iconst 2, 1) := dk_5 (dk_at dksX20_warmthOf_0 21 rfl rfl)
theorem dX20_warmthOf_22 : decode cX20_warmthOf 22 = .ok (.idiv, 1) := dk_108 (dk_at dksX20_warmthOf_0 22 rfl rfl)
theorem dX20_warmthOf_23 : decode cX20_warmthOf 23 = .ok (.iconst 4, 1) := dk_7 (dk_at dksX20_warmthOf_0 23 rfl rfl)
theorem dX20_warmthOf_24 : decode cX20_warmthOf 24 = .ok (.iadd, 1) := dk_96 (dk_at dksX20_warmthOf_1 0 rfl rfl)
theorem dX20_warmthOf_25 : decode cX20_warmthOf 25 = .ok (.goto 23, 3) := dk_167 0 23 (dk_at dksX20_warmthOf_1 1 rfl rfl)
theorem dX20_warmthOf_28 : decode cX20_warmthOf 28 = .ok (.iload_n 2, 1) := dk_28 (dk_at dksX20_warmthOf_1 4 rfl rfl)
theorem dX20_warmthOf_29 : decode cX20_warmthOf 29 = .ok (.iconst 2, 1) := dk_5 (dk_at dksX20_warmthOf_1 5 rfl rfl)
theorem dX20_warmthOf_30 : decode cX20_warmthOf 30 = .ok (.if_icmp .ne 12, 3) := dk_160 0 12 (dk_at dksX20_warmthOf_1 6 rfl rfl)
theorem dX20_warmthOf_33 : decode cX20_warmthOf 33 = .ok (.aload_n 0, 1) := dk_42 (dk_at dksX20_warmthOf_1 9 rfl rfl)
theorem dX20_warmthOf_34 : decode cX20_warmthOf 34 = .ok (.getfield 25, 3) := dk_180 0 25 (dk_at dksX20_warmthOf_1 10 rfl rfl)
theorem dX20_warmthOf_37 : decode cX20_warmthOf 37 = .ok (.iconst 0, 1) := dk_3 (dk_at dksX20_warmthOf_1 13 rfl rfl)
theorem dX20_warmthOf_38 : decode cX20_warmthOf 38 = .ok (.iaload, 1) := dk_46 (dk_at dksX20_warmthOf_1 14 rfl rfl)
theorem dX20_warmthOf_39 : decode cX20_warmthOf 39 = .ok (.goto 9, 3) := dk_167 0 9 (dk_at dksX20_warmthOf_1 15 rfl rfl)
theorem dX20_warmthOf_42 : decode cX20_warmthOf 42 = .ok (.iload_n 3, 1) := dk_29 (dk_at dksX20_warmthOf_1 18 rfl rfl)
theorem dX20_warmthOf_43 : decode cX20_warmthOf 43 = .ok (.iconst 4, 1) := dk_7 (dk_at dksX20_warmthOf_1 19 rfl rfl)
theorem dX20_warmthOf_44 : decode cX20_warmthOf 44 = .ok (.idiv, 1) := dk_108 (dk_at dksX20_warmthOf_1 20 rfl rfl)
theorem dX20_warmthOf_45 : decode cX20_warmthOf 45 = .ok (.bipush 6, 2) := dk_16 6 (dk_at dksX20_warmthOf_1 21 rfl rfl)
theorem dX20_warmthOf_47 : decode cX20_warmthOf 47 = .ok (.iadd, 1) := dk_96 (dk_at dksX20_warmthOf_1 23 rfl rfl)
theorem dX20_warmthOf_48 : decode cX20_warmthOf 48 = .ok (.ireturn, 1) := dk_172 (dk_at dksX20_warmthOf_2 0 rfl rfl)
abbrev cX20_kindOf : ByteArray := prog_38_method_28_code
def yX20_kindOf : MethodName := ⟨RX20, "kindOf", "(II)I"⟩
def dkwX20_kindOf_3 : List UInt8 := [167, 0, 14, 29, 16, 6, 162, 0, 7, 4, 167, 0, 4, 3, 172]
abbrev dktX20_kindOf_3 : List UInt8 := dkwX20_kindOf_3 ++ []
def dkwX20_kindOf_2 : List UInt8 := [180, 0, 25, 7, 46, 161, 0, 7, 6, 167, 0, 28, 42, 180, 0, 22, 27, 46, 6, 162, 0, 7, 8]
abbrev dktX20_kindOf_2 : List UInt8 := dkwX20_kindOf_2 ++ dktX20_kindOf_3
def dkwX20_kindOf_1 : List UInt8 := [6, 46, 161, 0, 19, 29, 42, 180, 0, 25, 7, 46, 161, 0, 7, 6, 167, 0, 4, 5, 172, 29, 42]
abbrev dktX20_kindOf_1 : List UInt8 := dkwX20_kindOf_1 ++ dktX20_kindOf_2
def dkwX20_kindOf_0 : List UInt8 := [42, 27, 28, 182, 0, 242, 62, 29, 42, 180, 0, 25, 5, 46, 162, 0, 5, 7, 172, 29, 42, 180, 0, 25]
abbrev dktX20_kindOf_0 : List UInt8 := dkwX20_kindOf_0 ++ dktX20_kindOf_1
theorem dksX20_kindOf_0 : cX20_kindOf.data.toList.drop 0 = dktX20_kindOf_0 := by decide +kernel
theorem dksX20_kindOf_1 : cX20_kindOf.data.toList.drop 24 = dktX20_kindOf_1 := dk_seg dksX20_kindOf_0 24 rfl rfl
theorem dksX20_kindOf_2 : cX20_kindOf.data.toList.drop 47 = dktX20_kindOf_2 := dk_seg dksX20_kindOf_1 23 rfl rfl
theorem dksX20_kindOf_3 : cX20_kindOf.data.toList.drop 70 = dktX20_kindOf_3 := dk_seg dksX20_kindOf_2 23 rfl rfl
theorem dX20_kindOf_0 : decode cX20_kindOf 0 = .ok (.aload_n 0, 1) := dk_42 (dk_at dksX20_kindOf_0 0 rfl rfl)
theorem dX20_kindOf_1 : decode cX20_kindOf 1 = .ok (.iload_n 1, 1) := dk_27 (dk_at dksX20_kindOf_0 1 rfl rfl)
theorem dX20_kindOf_2 : decode cX20_kindOf 2 = .ok (.iload_n 2, 1) := dk_28 (dk_at dksX20_kindOf_0 2 rfl rfl)
theorem dX20_kindOf_3 : decode cX20_kindOf 3 = .ok (.invokevirtual 242, 3) := dk_182 0 242 (dk_at dksX20_kindOf_0 3 rfl rfl)
theorem dX20_kindOf_6 : decode cX20_kindOf 6 = .ok (.istore_n 3, 1) := dk_62 (dk_at dksX20_kindOf_0 6 rfl rfl)
theorem dX20_kindOf_7 : decode cX20_kindOf 7 = .ok (.iload_n 3, 1) := dk_29 (dk_at dksX20_kindOf_0 7 rfl rfl)
theorem dX20_kindOf_8 : decode cX20_kindOf 8 = .ok (.aload_n 0, 1) := dk_42 (dk_at dksX20_kindOf_0 8 rfl rfl)
theorem dX20_kindOf_9 : decode cX20_kindOf 9 = .ok (.getfield 25, 3) := dk_180 0 25 (dk_at dksX20_kindOf_0 9 rfl rfl)
theorem dX20_kindOf_12 : decode cX20_kindOf 12 = .ok (.iconst 2, 1) := dk_5 (dk_at dksX20_kindOf_0 12 rfl rfl)
theorem dX20_kindOf_13 : decode cX20_kindOf 13 = .ok (.iaload, 1) := dk_46 (dk_at dksX20_kindOf_0 13 rfl rfl)
theorem dX20_kindOf_14 : decode cX20_kindOf 14 = .ok (.if_icmp .ge 5, 3) := dk_162 0 5 (dk_at dksX20_kindOf_0 14 rfl rfl)
theorem dX20_kindOf_17 : decode cX20_kindOf 17 = .ok (.iconst 4, 1) := dk_7 (dk_at dksX20_kindOf_0 17 rfl rfl)
theorem dX20_kindOf_18 : decode cX20_kindOf 18 = .ok (.ireturn, 1) := dk_172 (dk_at dksX20_kindOf_0 18 rfl rfl)
theorem dX20_kindOf_19 : decode cX20_kindOf 19 = .ok (.iload_n 3, 1) := dk_29 (dk_at dksX20_kindOf_0 19 rfl rfl)
theorem dX20_kindOf_20 : decode cX20_kindOf 20 = .ok (.aload_n 0, 1) := dk_42 (dk_at dksX20_kindOf_0 20 rfl rfl)
theorem dX20_kindOf_21 : decode cX20_kindOf 21 = .ok (.getfield 25, 3) := dk_180 0 25 (dk_at dksX20_kindOf_0 21 rfl rfl)
theorem dX20_kindOf_24 : decode cX20_kindOf 24 = .ok (.iconst 3, 1) := dk_6 (dk_at dksX20_kindOf_1 0 rfl rfl)
theorem dX20_kindOf_25 : decode cX20_kindOf 25 = .ok (.iaload, 1) := dk_46 (dk_at dksX20_kindOf_1 1 rfl rfl)
theorem dX20_kindOf_26 : decode cX20_kindOf 26 = .ok (.if_icmp .lt 19, 3) := dk_161 0 19 (dk_at dksX20_kindOf_1 2 rfl rfl)
theorem dX20_kindOf_29 : decode cX20_kindOf 29 = .ok (.iload_n 3, 1) := dk_29 (dk_at dksX20_kindOf_1 5 rfl rfl)
theorem dX20_kindOf_30 : decode cX20_kindOf 30 = .ok (.aload_n 0, 1) := dk_42 (dk_at dksX20_kindOf_1 6 rfl rfl)
theorem dX20_kindOf_31 : decode cX20_kindOf 31 = .ok (.getfield 25, 3) := dk_180 0 25 (dk_at dksX20_kindOf_1 7 rfl rfl)
theorem dX20_kindOf_34 : decode cX20_kindOf 34 = .ok (.iconst 4, 1) := dk_7 (dk_at dksX20_kindOf_1 10 rfl rfl)
theorem dX20_kindOf_35 : decode cX20_kindOf 35 = .ok (.iaload, 1) := dk_46 (dk_at dksX20_kindOf_1 11 rfl rfl)
theorem dX20_kindOf_36 : decode cX20_kindOf 36 = .ok (.if_icmp .lt 7, 3) := dk_161 0 7 (dk_at dksX20_kindOf_1 12 rfl rfl)
theorem dX20_kindOf_39 : decode cX20_kindOf 39 = .ok (.iconst 3, 1) := dk_6 (dk_at dksX20_kindOf_1 15 rfl rfl)
theorem dX20_kindOf_40 : decode cX20_kindOf 40 = .ok (.goto 4, 3) := dk_167 0 4 (dk_at dksX20_kindOf_1 16 rfl rfl)
theorem dX20_kindOf_43 : decode cX20_kindOf 43 = .ok (.iconst 2, 1) := dk_5 (dk_at dksX20_kindOf_1 19 rfl rfl)
theorem dX20_kindOf_44 : decode cX20_kindOf 44 = .ok (.ireturn, 1) := dk_172 (dk_at dksX20_kindOf_1 20 rfl rfl)
theorem dX20_kindOf_45 : decode cX20_kindOf 45 = .ok (.iload_n 3, 1) := dk_29 (dk_at dksX20_kindOf_1 21 rfl rfl)
theorem dX20_kindOf_46 : decode cX20_kindOf 46 = .ok (.aload_n 0, 1) := dk_42 (dk_at dksX20_kindOf_1 22 rfl rfl)
theorem dX20_kindOf_47 : decode cX20_kindOf 47 = .ok (.getfield 25, 3) := dk_180 0 25 (dk_at dksX20_kindOf_2 0 rfl rfl)
theorem dX20_kindOf_50 : decode cX20_kindOf 50 = .ok (.iconst 4, 1) := dk_7 (dk_at dksX20_kindOf_2 3 rfl rfl)
theorem dX20_kindOf_51 : decode cX20_kindOf 51 = .ok (.iaload, 1) := dk_46 (dk_at dksX20_kindOf_2 4 rfl rfl)
theorem dX20_kindOf_52 : decode cX20_kindOf 52 = .ok (.if_icmp .lt 7, 3) := dk_161 0 7 (dk_at dksX20_kindOf_2 5 rfl rfl)
theorem dX20_kindOf_55 : decode cX20_kindOf 55 = .ok (.iconst 3, 1) := dk_6 (dk_at dksX20_kindOf_2 8 rfl rfl)
theorem dX20_kindOf_56 : decode cX20_kindOf 56 = .ok (.goto 28, 3) := dk_167 0 28 (dk_at dksX20_kindOf_2 9 rfl rfl)
theorem dX20_kindOf_59 : decode cX20_kindOf 59 = .ok (.aload_n 0, 1) := dk_42 (dk_at dksX20_kindOf_2 12 rfl rfl)
theorem dX20_kindOf_60 : decode cX20_kindOf 60 = .ok (.getfield 22, 3) := dk_180 0 22 (dk_at dksX20_kindOf_2 13 rfl rfl)
theorem dX20_kindOf_63 : decode cX20_kindOf 63 = .ok (.iload_n 1, 1) := dk_27 (dk_at dksX20_kindOf_2 16 rfl rfl)
theorem dX20_kindOf_64 : decode cX20_kindOf 64 = .ok (.iaload, 1) := dk_46 (dk_at dksX20_kindOf_2 17 rfl rfl)
theorem dX20_kindOf_65 : decode cX20_kindOf 65 = .ok (.iconst 3, 1) := dk_6 (dk_at dksX20_kindOf_2 18 rfl rfl)
theorem dX20_kindOf_66 : decode cX20_kindOf 66 = .ok (.if_icmp .ge 7, 3) := dk_162 0 7 (dk_at dksX20_kindOf_2 19 rfl rfl)
theorem dX20_kindOf_69 : decode cX20_kindOf 69 = .ok (.iconst 5, 1) := dk_8 (dk_at dksX20_kindOf_2 22 rfl rfl)
theorem dX20_kindOf_70 : decode cX20_kindOf 70 = .ok (.goto 14, 3) := dk_167 0 14 (dk_at dksX20_kindOf_3 0 rfl rfl)
theorem dX20_kindOf_73 : decode cX20_kindOf 73 = .ok (.iload_n 3, 1) := dk_29 (dk_at dksX20_kindOf_3 3 rfl rfl)
theorem dX20_kindOf_74 : decode cX20_kindOf 74 = .ok (.bipush 6, 2) := dk_16 6 (dk_at dksX20_kindOf_3 4 rfl rfl)
theorem dX20_kindOf_76 : decode cX20_kindOf 76 = .ok (.if_icmp .ge 7, 3) := dk_162 0 7 (dk_at dksX20_kindOf_3 6 rfl rfl)
theorem dX20_kindOf_79 : decode cX20_kindOf 79 = .ok (.iconst 1, 1) := dk_4 (dk_at dksX20_kindOf_3 9 rfl rfl)
theorem dX20_kindOf_80 : decode cX20_kindOf 80 = .ok (.goto 4, 3) := dk_167 0 4 (dk_at dksX20_kindOf_3 10 rfl rfl)
theorem dX20_kindOf_83 : decode cX20_kindOf 83 = .ok (.iconst 0, 1) := dk_3 (dk_at dksX20_kindOf_3 13 rfl rfl)
theorem dX20_kindOf_84 : decode cX20_kindOf 84 = .ok (.ireturn, 1) := dk_172 (dk_at dksX20_kindOf_3 14 rfl rfl)
abbrev cX20_rule : ByteArray := prog_38_method_30_code
def yX20_rule : MethodName := ⟨RX20, "rule", "(II)I"⟩
def dkwX20_rule_2 : List UInt8 := [27, 46, 54, 4, 42, 180, 0, 25, 27, 28, 79, 21, 4, 172]
abbrev dktX20_rule_2 : List UInt8 := dkwX20_rule_2 ++ []
def dkwX20_rule_1 : List UInt8 := [180, 0, 28, 29, 46, 42, 180, 0, 31, 29, 46, 184, 0, 100, 154, 0, 6, 18, 241, 172, 42, 180, 0, 25]
abbrev dktX20_rule_1 : List UInt8 := dkwX20_rule_1 ++ dktX20_rule_2
def dkwX20_rule_0 : List UInt8 := [27, 3, 7, 184, 0, 100, 153, 0, 7, 27, 167, 0, 4, 3, 62, 29, 27, 160, 0, 22, 28, 42]
abbrev dktX20_rule_0 : List UInt8 := dkwX20_rule_0 ++ dktX20_rule_1
theorem dksX20_rule_0 : cX20_rule.data.toList.drop 0 = dktX20_rule_0 := by decide +kernel
theorem dksX20_rule_1 : cX20_rule.data.toList.drop 22 = dktX20_rule_1 := dk_seg dksX20_rule_0 22 rfl rfl
theorem dksX20_rule_2 : cX20_rule.data.toList.drop 46 = dktX20_rule_2 := dk_seg dksX20_rule_1 24 rfl rfl
theorem dX20_rule_0 : decode cX20_rule 0 = .ok (.iload_n 1, 1) := dk_27 (dk_at dksX20_rule_0 0 rfl rfl)
theorem dX20_rule_1 : decode cX20_rule 1 = .ok (.iconst 0, 1) := dk_3 (dk_at dksX20_rule_0 1 rfl rfl)
theorem dX20_rule_2 : decode cX20_rule 2 = .ok (.iconst 4, 1) := dk_7 (dk_at dksX20_rule_0 2 rfl rfl)
theorem dX20_rule_3 : decode cX20_rule 3 = .ok (.invokestatic 100, 3) := dk_184 0 100 (dk_at dksX20_rule_0 3 rfl rfl)
theorem dX20_rule_6 : decode cX20_rule 6 = .ok (.ifCond .eq 7, 3) := dk_153 0 7 (dk_at dksX20_rule_0 6 rfl rfl)
theorem dX20_rule_9 : decode cX20_rule 9 = .ok (.iload_n 1, 1) := dk_27 (dk_at dksX20_rule_0 9 rfl rfl)
theorem dX20_rule_10 : decode cX20_rule 10 = .ok (.goto 4, 3) := dk_167 0 4 (dk_at dksX20_rule_0 10 rfl rfl)
theorem dX20_rule_13 : decode cX20_rule 13 = .ok (.iconst 0, 1) := dk_3 (dk_at dksX20_rule_0 13 rfl rfl)
theorem dX20_rule_14 : decode cX20_rule 14 = .ok (.istore_n 3, 1) := dk_62 (dk_at dksX20_rule_0 14 rfl rfl)
theorem dX20_rule_15 : decode cX20_rule 15 = .ok (.iload_n 3, 1) := dk_29 (dk_at dksX20_rule_0 15 rfl rfl)
theorem dX20_rule_16 : decode cX20_rule 16 = .ok (.iload_n 1, 1) := dk_27 (dk_at dksX20_rule_0 16 rfl rfl)
theorem dX20_rule_17 : decode cX20_rule 17 = .ok (.if_icmp .ne 22, 3) := dk_160 0 22 (dk_at dksX20_rule_0 17 rfl rfl)
theorem dX20_rule_20 : decode cX20_rule 20 = .ok (.iload_n 2, 1) := dk_28 (dk_at dksX20_rule_0 20 rfl rfl)
theorem dX20_rule_21 : decode cX20_rule 21 = .ok (.aload_n 0, 1) := dk_42 (dk_at dksX20_rule_0 21 rfl rfl)
theorem dX20_rule_22 : decode cX20_rule 22 = .ok (.getfield 28, 3) := dk_180 0 28 (dk_at dksX20_rule_1 0 rfl rfl)
theorem dX20_rule_25 : decode cX20_rule 25 = .ok (.iload_n 3, 1) := dk_29 (dk_at dksX20_rule_1 3 rfl rfl)
theorem dX20_rule_26 : decode cX20_rule 26 = .ok (.iaload, 1) := dk_46 (dk_at dksX20_rule_1 4 rfl rfl)
theorem dX20_rule_27 : decode cX20_rule 27 = .ok (.aload_n 0, 1) := dk_42 (dk_at dksX20_rule_1 5 rfl rfl)
theorem dX20_rule_28 : decode cX20_rule 28 = .ok (.getfield 31, 3) := dk_180 0 31 (dk_at dksX20_rule_1 6 rfl rfl)
theorem dX20_rule_31 : decode cX20_rule 31 = .ok (.iload_n 3, 1) := dk_29 (dk_at dksX20_rule_1 9 rfl rfl)
theorem dX20_rule_32 : decode cX20_rule 32 = .ok (.iaload, 1) := dk_46 (dk_at dksX20_rule_1 10 rfl rfl)
theorem dX20_rule_33 : decode cX20_rule 33 = .ok (.invokestatic 100, 3) := dk_184 0 100 (dk_at dksX20_rule_1 11 rfl rfl)
theorem dX20_rule_36 : decode cX20_rule 36 = .ok (.ifCond .ne 6, 3) := dk_154 0 6 (dk_at dksX20_rule_1 14 rfl rfl)
theorem dX20_rule_39 : decode cX20_rule 39 = .ok (.ldc 241, 2) := dk_18 241 (dk_at dksX20_rule_1 17 rfl rfl)
theorem dX20_rule_41 : decode cX20_rule 41 = .ok (.ireturn, 1) := dk_172 (dk_at dksX20_rule_1 19 rfl rfl)
theorem dX20_rule_42 : decode cX20_rule 42 = .ok (.aload_n 0, 1) := dk_42 (dk_at dksX20_rule_1 20 rfl rfl)
theorem dX20_rule_43 : decode cX20_rule 43 = .ok (.getfield 25, 3) := dk_180 0 25 (dk_at dksX20_rule_1 21 rfl rfl)
theorem dX20_rule_46 : decode cX20_rule 46 = .ok (.iload_n 1, 1) := dk_27 (dk_at dksX20_rule_2 0 rfl rfl)
theorem dX20_rule_47 : decode cX20_rule 47 = .ok (.iaload, 1) := dk_46 (dk_at dksX20_rule_2 1 rfl rfl)
theorem dX20_rule_48 : decode cX20_rule 48 = .ok (.istore 4, 2) := dk_54 4 (dk_at dksX20_rule_2 2 rfl rfl)
theorem dX20_rule_50 : decode cX20_rule 50 = .ok (.aload_n 0, 1) := dk_42 (dk_at dksX20_rule_2 4 rfl rfl)
theorem dX20_rule_51 : decode cX20_rule 51 = .ok (.getfield 25, 3) := dk_180 0 25 (dk_at dksX20_rule_2 5 rfl rfl)
theorem dX20_rule_54 : decode cX20_rule 54 = .ok (.iload_n 1, 1) := dk_27 (dk_at dksX20_rule_2 8 rfl rfl)
theorem dX20_rule_55 : decode cX20_rule 55 = .ok (.iload_n 2, 1) := dk_28 (dk_at dksX20_rule_2 9 rfl rfl)
theorem dX20_rule_56 : decode cX20_rule 56 = .ok (.iastore, 1) := dk_79 (dk_at dksX20_rule_2 10 rfl rfl)
theorem dX20_rule_57 : decode cX20_rule 57 = .ok (.iload 4, 2) := dk_21 4 (dk_at dksX20_rule_2 11 rfl rfl)
theorem dX20_rule_59 : decode cX20_rule 59 = .ok (.ireturn, 1) := dk_172 (dk_at dksX20_rule_2 13 rfl rfl)
abbrev cX20_rate : ByteArray := prog_38_method_32_code
def yX20_rate : MethodName := ⟨RX20, "rate", "(I)I"⟩
def dkwX20_rate_0 : List UInt8 := [27, 16, 236, 16, 30, 184, 0, 100, 153, 0, 11, 42, 27, 182, 0, 252, 167, 0, 4, 2, 172]
abbrev dktX20_rate_0 : List UInt8 := dkwX20_rate_0 ++ []
theorem dksX20_rate_0 : cX20_rate.data.toList.drop 0 = dktX20_rate_0 := by decide +kernel
theorem dX20_rate_0 : decode cX20_rate 0 = .ok (.iload_n 1, 1) := dk_27 (dk_at dksX20_rate_0 0 rfl rfl)
theorem dX20_rate_1 : decode cX20_rate 1 = .ok (.bipush (-20), 2) := dk_16 236 (dk_at dksX20_rate_0 1 rfl rfl)
theorem dX20_rate_3 : decode cX20_rate 3 = .ok (.bipush 30, 2) := dk_16 30 (dk_at dksX20_rate_0 3 rfl rfl)
theorem dX20_rate_5 : decode cX20_rate 5 = .ok (.invokestatic 100, 3) := dk_184 0 100 (dk_at dksX20_rate_0 5 rfl rfl)
theorem dX20_rate_8 : decode cX20_rate 8 = .ok (.ifCond .eq 11, 3) := dk_153 0 11 (dk_at dksX20_rate_0 8 rfl rfl)
theorem dX20_rate_11 : decode cX20_rate 11 = .ok (.aload_n 0, 1) := dk_42 (dk_at dksX20_rate_0 11 rfl rfl)
theorem dX20_rate_12 : decode cX20_rate 12 = .ok (.iload_n 1, 1) := dk_27 (dk_at dksX20_rate_0 12 rfl rfl)
theorem dX20_rate_13 : decode cX20_rate 13 = .ok (.invokevirtual 252, 3) := dk_182 0 252 (dk_at dksX20_rate_0 13 rfl rfl)
theorem dX20_rate_16 : decode cX20_rate 16 = .ok (.goto 4, 3) := dk_167 0 4 (dk_at dksX20_rate_0 16 rfl rfl)
theorem dX20_rate_19 : decode cX20_rate 19 = .ok (.iconst (-1), 1) := dk_2 (dk_at dksX20_rate_0 19 rfl rfl)
theorem dX20_rate_20 : decode cX20_rate 20 = .ok (.ireturn, 1) := dk_172 (dk_at dksX20_rate_0 20 rfl rfl)
abbrev cX20_rateAt : ByteArray := prog_38_method_31_code
def yX20_rateAt : MethodName := ⟨RX20, "rateAt", "(I)I"⟩
def dkwX20_rateAt_1 : List UInt8 := [108, 120, 16, 10, 27, 16, 10, 112, 96, 104, 16, 10, 108, 172]
abbrev dktX20_rateAt_1 : List UInt8 := dkwX20_rateAt_1 ++ []
def dkwX20_rateAt_0 : List UInt8 := [27, 156, 0, 14, 42, 180, 0, 25, 4, 46, 5, 108, 167, 0, 25, 42, 180, 0, 25, 4, 46, 27, 16, 10]
abbrev dktX20_rateAt_0 : List UInt8 := dkwX20_rateAt_0 ++ dktX20_rateAt_1
theorem dksX20_rateAt_0 : cX20_rateAt.data.toList.drop 0 = dktX20_rateAt_0 := by decide +kernel
theorem dksX20_rateAt_1 : cX20_rateAt.data.toList.drop 24 = dktX20_rateAt_1 := dk_seg dksX20_rateAt_0 24 rfl rfl
theorem dX20_rateAt_0 : decode cX20_rateAt 0 = .ok (.iload_n 1, 1) := dk_27 (dk_at dksX20_rateAt_0 0 rfl rfl)
theorem dX20_rateAt_1 : decode cX20_rateAt 1 = .ok (.ifCond .ge 14, 3) := dk_156 0 14 (dk_at dksX20_rateAt_0 1 rfl rfl)
theorem dX20_rateAt_4 : decode cX20_rateAt 4 = .ok (.aload_n 0, 1) := dk_42 (dk_at dksX20_rateAt_0 4 rfl rfl)
theorem dX20_rateAt_5 : decode cX20_rateAt 5 = .ok (.getfield 25, 3) := dk_180 0 25 (dk_at dksX20_rateAt_0 5 rfl rfl)
theorem dX20_rateAt_8 : decode cX20_rateAt 8 = .ok (.iconst 1, 1) := dk_4 (dk_at dksX20_rateAt_0 8 rfl rfl)
theorem dX20_rateAt_9 : decode cX20_rateAt 9 = .ok (.iaload, 1) := dk_46 (dk_at dksX20_rateAt_0 9 rfl rfl)
theorem dX20_rateAt_10 : decode cX20_rateAt 10 = .ok (.iconst 2, 1) := dk_5 (dk_at dksX20_rateAt_0 10 rfl rfl)
theorem dX20_rateAt_11 : decode cX20_rateAt 11 = .ok (.idiv, 1) := dk_108 (dk_at dksX20_rateAt_0 11 rfl rfl)
theorem dX20_rateAt_12 : decode cX20_rateAt 12 = .ok (.goto 25, 3) := dk_167 0 25 (dk_at dksX20_rateAt_0 12 rfl rfl)
theorem dX20_rateAt_15 : decode cX20_rateAt 15 = .ok (.aload_n 0, 1) := dk_42 (dk_at dksX20_rateAt_0 15 rfl rfl)
theorem dX20_rateAt_16 : decode cX20_rateAt 16 = .ok (.getfield 25, 3) := dk_180 0 25 (dk_at dksX20_rateAt_0 16 rfl rfl)
theorem dX20_rateAt_19 : decode cX20_rateAt 19 = .ok (.iconst 1, 1) := dk_4 (dk_at dksX20_rateAt_0 19 rfl rfl)
theorem dX20_rateAt_20 : decode cX20_rateAt 20 = .ok (.iaload, 1) := dk_46 (dk_at dksX20_rateAt_0 20 rfl rfl)
theorem dX20_rateAt_21 : decode cX20_rateAt 21 = .ok (.iload_n 1, 1) := dk_27 (dk_at dksX20_rateAt_0 21 rfl rfl)
theorem dX20_rateAt_22 : decode cX20_rateAt 22 = .ok (.bipush 10, 2) := dk_16 10 (dk_at dksX20_rateAt_0 22 rfl rfl)
theorem dX20_rateAt_24 : decode cX20_rateAt 24 = .ok (.idiv, 1) := dk_108 (dk_at dksX20_rateAt_1 0 rfl rfl)
theorem dX20_rateAt_25 : decode cX20_rateAt 25 = .ok (.ishl, 1) := dk_120 (dk_at dksX20_rateAt_1 1 rfl rfl)
theorem dX20_rateAt_26 : decode cX20_rateAt 26 = .ok (.bipush 10, 2) := dk_16 10 (dk_at dksX20_rateAt_1 2 rfl rfl)
theorem dX20_rateAt_28 : decode cX20_rateAt 28 = .ok (.iload_n 1, 1) := dk_27 (dk_at dksX20_rateAt_1 4 rfl rfl)
theorem dX20_rateAt_29 : decode cX20_rateAt 29 = .ok (.bipush 10, 2) := dk_16 10 (dk_at dksX20_rateAt_1 5 rfl rfl)
theorem dX20_rateAt_31 : decode cX20_rateAt 31 = .ok (.irem, 1) := dk_112 (dk_at dksX20_rateAt_1 7 rfl rfl)
theorem dX20_rateAt_32 : decode cX20_rateAt 32 = .ok (.iadd, 1) := dk_96 (dk_at dksX20_rateAt_1 8 rfl rfl)
theorem dX20_rateAt_33 : decode cX20_rateAt 33 = .ok (.imul, 1) := dk_104 (dk_at dksX20_rateAt_1 9 rfl rfl)
theorem dX20_rateAt_34 : decode cX20_rateAt 34 = .ok (.bipush 10, 2) := dk_16 10 (dk_at dksX20_rateAt_1 10 rfl rfl)
theorem dX20_rateAt_36 : decode cX20_rateAt 36 = .ok (.idiv, 1) := dk_108 (dk_at dksX20_rateAt_1 12 rfl rfl)
theorem dX20_rateAt_37 : decode cX20_rateAt 37 = .ok (.ireturn, 1) := dk_172 (dk_at dksX20_rateAt_1 13 rfl rfl)
abbrev cX20_body : ByteArray := prog_38_method_33_code
def yX20_body : MethodName := ⟨RX20, "body", "(II)I"⟩
def dkwX20_body_2 : List UInt8 := [46, 54, 4, 42, 180, 0, 7, 27, 28, 79, 21, 4, 172]
abbrev dktX20_body_2 : List UInt8 := dkwX20_body_2 ++ []
def dkwX20_body_1 : List UInt8 := [180, 0, 13, 29, 46, 42, 180, 0, 16, 29, 46, 184, 0, 100, 154, 0, 5, 2, 172, 42, 180, 0, 7, 27]
abbrev dktX20_body_1 : List UInt8 := dkwX20_body_1 ++ dktX20_body_2
def dkwX20_body_0 : List UInt8 := [27, 3, 8, 184, 0, 100, 153, 0, 7, 27, 167, 0, 4, 3, 62, 29, 27, 160, 0, 22, 28, 42]
abbrev dktX20_body_0 : List UInt8 := dkwX20_body_0 ++ dktX20_body_1
theorem dksX20_body_0 : cX20_body.data.toList.drop 0 = dktX20_body_0 := by decide +kernel
theorem dksX20_body_1 : cX20_body.data.toList.drop 22 = dktX20_body_1 := dk_seg dksX20_body_0 22 rfl rfl
theorem dksX20_body_2 : cX20_body.data.toList.drop 46 = dktX20_body_2 := dk_seg dksX20_body_1 24 rfl rfl
theorem dX20_body_0 : decode cX20_body 0 = .ok (.iload_n 1, 1) := dk_27 (dk_at dksX20_body_0 0 rfl rfl)
theorem dX20_body_1 : decode cX20_body 1 = .ok (.iconst 0, 1) := dk_3 (dk_at dksX20_body_0 1 rfl rfl)
theorem dX20_body_2 : decode cX20_body 2 = .ok (.iconst 5, 1) := dk_8 (dk_at dksX20_body_0 2 rfl rfl)
theorem dX20_body_3 : decode cX20_body 3 = .ok (.invokestatic 100, 3) := dk_184 0 100 (dk_at dksX20_body_0 3 rfl rfl)
theorem dX20_body_6 : decode cX20_body 6 = .ok (.ifCond .eq 7, 3) := dk_153 0 7 (dk_at dksX20_body_0 6 rfl rfl)
theorem dX20_body_9 : decode cX20_body 9 = .ok (.iload_n 1, 1) := dk_27 (dk_at dksX20_body_0 9 rfl rfl)
theorem dX20_body_10 : decode cX20_body 10 = .ok (.goto 4, 3) := dk_167 0 4 (dk_at dksX20_body_0 10 rfl rfl)
theorem dX20_body_13 : decode cX20_body 13 = .ok (.iconst 0, 1) := dk_3 (dk_at dksX20_body_0 13 rfl rfl)
theorem dX20_body_14 : decode cX20_body 14 = .ok (.istore_n 3, 1) := dk_62 (dk_at dksX20_body_0 14 rfl rfl)
theorem dX20_body_15 : decode cX20_body 15 = .ok (.iload_n 3, 1) := dk_29 (dk_at dksX20_body_0 15 rfl rfl)
theorem dX20_body_16 : decode cX20_body 16 = .ok (.iload_n 1, 1) := dk_27 (dk_at dksX20_body_0 16 rfl rfl)
theorem dX20_body_17 : decode cX20_body 17 = .ok (.if_icmp .ne 22, 3) := dk_160 0 22 (dk_at dksX20_body_0 17 rfl rfl)
theorem dX20_body_20 : decode cX20_body 20 = .ok (.iload_n 2, 1) := dk_28 (dk_at dksX20_body_0 20 rfl rfl)
theorem dX20_body_21 : decode cX20_body 21 = .ok (.aload_n 0, 1) := dk_42 (dk_at dksX20_body_0 21 rfl rfl)
theorem dX20_body_22 : decode cX20_body 22 = .ok (.getfield 13, 3) := dk_180 0 13 (dk_at dksX20_body_1 0 rfl rfl)
theorem dX20_body_25 : decode cX20_body 25 = .ok (.iload_n 3, 1) := dk_29 (dk_at dksX20_body_1 3 rfl rfl)
theorem dX20_body_26 : decode cX20_body 26 = .ok (.iaload, 1) := dk_46 (dk_at dksX20_body_1 4 rfl rfl)
theorem dX20_body_27 : decode cX20_body 27 = .ok (.aload_n 0, 1) := dk_42 (dk_at dksX20_body_1 5 rfl rfl)
theorem dX20_body_28 : decode cX20_body 28 = .ok (.getfield 16, 3) := dk_180 0 16 (dk_at dksX20_body_1 6 rfl rfl)
theorem dX20_body_31 : decode cX20_body 31 = .ok (.iload_n 3, 1) := dk_29 (dk_at dksX20_body_1 9 rfl rfl)
theorem dX20_body_32 : decode cX20_body 32 = .ok (.iaload, 1) := dk_46 (dk_at dksX20_body_1 10 rfl rfl)
theorem dX20_body_33 : decode cX20_body 33 = .ok (.invokestatic 100, 3) := dk_184 0 100 (dk_at dksX20_body_1 11 rfl rfl)
theorem dX20_body_36 : decode cX20_body 36 = .ok (.ifCond .ne 5, 3) := dk_154 0 5 (dk_at dksX20_body_1 14 rfl rfl)
theorem dX20_body_39 : decode cX20_body 39 = .ok (.iconst (-1), 1) := dk_2 (dk_at dksX20_body_1 17 rfl rfl)
theorem dX20_body_40 : decode cX20_body 40 = .ok (.ireturn, 1) := dk_172 (dk_at dksX20_body_1 18 rfl rfl)
theorem dX20_body_41 : decode cX20_body 41 = .ok (.aload_n 0, 1) := dk_42 (dk_at dksX20_body_1 19 rfl rfl)
theorem dX20_body_42 : decode cX20_body 42 = .ok (.getfield 7, 3) := dk_180 0 7 (dk_at dksX20_body_1 20 rfl rfl)
theorem dX20_body_45 : decode cX20_body 45 = .ok (.iload_n 1, 1) := dk_27 (dk_at dksX20_body_1 23 rfl rfl)
theorem dX20_body_46 : decode cX20_body 46 = .ok (.iaload, 1) := dk_46 (dk_at dksX20_body_2 0 rfl rfl)
theorem dX20_body_47 : decode cX20_body 47 = .ok (.istore 4, 2) := dk_54 4 (dk_at dksX20_body_2 1 rfl rfl)
theorem dX20_body_49 : decode cX20_body 49 = .ok (.aload_n 0, 1) := dk_42 (dk_at dksX20_body_2 3 rfl rfl)
theorem dX20_body_50 : decode cX20_body 50 = .ok (.getfield 7, 3) := dk_180 0 7 (dk_at dksX20_body_2 4 rfl rfl)
theorem dX20_body_53 : decode cX20_body 53 = .ok (.iload_n 1, 1) := dk_27 (dk_at dksX20_body_2 7 rfl rfl)
theorem dX20_body_54 : decode cX20_body 54 = .ok (.iload_n 2, 1) := dk_28 (dk_at dksX20_body_2 8 rfl rfl)
theorem dX20_body_55 : decode cX20_body 55 = .ok (.iastore, 1) := dk_79 (dk_at dksX20_body_2 9 rfl rfl)
theorem dX20_body_56 : decode cX20_body 56 = .ok (.iload 4, 2) := dk_21 4 (dk_at dksX20_body_2 10 rfl rfl)
theorem dX20_body_58 : decode cX20_body 58 = .ok (.ireturn, 1) := dk_172 (dk_at dksX20_body_2 12 rfl rfl)
abbrev cX20_bodyOf : ByteArray := prog_38_method_37_code
def yX20_bodyOf : MethodName := ⟨RX20, "bodyOf", "(I)I"⟩
def dkwX20_bodyOf_4 : List UInt8 := [153, 0, 12, 42, 180, 0, 7, 27, 46, 167, 0, 4, 2, 172]
abbrev dktX20_bodyOf_4 : List UInt8 := dkwX20_bodyOf_4 ++ []
def dkwX20_bodyOf_3 : List UInt8 := [3, 172, 42, 180, 0, 7, 3, 46, 42, 182, 1, 4, 184, 1, 11, 172, 27, 3, 8, 184, 0, 100]
abbrev dktX20_bodyOf_3 : List UInt8 := dkwX20_bodyOf_3 ++ dktX20_bodyOf_4
def dkwX20_bodyOf_2 : List UInt8 := [42, 182, 1, 4, 172, 42, 180, 0, 7, 16, 6, 46, 172, 42, 182, 1, 7, 153, 0, 7, 4, 167, 0, 4]
abbrev dktX20_bodyOf_2 : List UInt8 := dkwX20_bodyOf_2 ++ dktX20_bodyOf_3
def dkwX20_bodyOf_1 : List UInt8 := [170, 0, 0, 0, 0, 0, 71, 0, 0, 0, 6, 0, 0, 0, 9, 0, 0, 0, 31, 0, 0, 0, 36, 0, 0, 0, 44, 0, 0, 0, 57]
abbrev dktX20_bodyOf_1 : List UInt8 := dkwX20_bodyOf_1 ++ dktX20_bodyOf_2
def dkwX20_bodyOf_0 : List UInt8 := [27]
abbrev dktX20_bodyOf_0 : List UInt8 := dkwX20_bodyOf_0 ++ dktX20_bodyOf_1
theorem dksX20_bodyOf_0 : cX20_bodyOf.data.toList.drop 0 = dktX20_bodyOf_0 := by decide +kernel
theorem dksX20_bodyOf_1 : cX20_bodyOf.data.toList.drop 1 = dktX20_bodyOf_1 := dk_seg dksX20_bodyOf_0 1 rfl rfl
theorem dksX20_bodyOf_2 : cX20_bodyOf.data.toList.drop 32 = dktX20_bodyOf_2 := dk_seg dksX20_bodyOf_1 31 rfl rfl
theorem dksX20_bodyOf_3 : cX20_bodyOf.data.toList.drop 56 = dktX20_bodyOf_3 := dk_seg dksX20_bodyOf_2 24 rfl rfl
theorem dksX20_bodyOf_4 : cX20_bodyOf.data.toList.drop 78 = dktX20_bodyOf_4 := dk_seg dksX20_bodyOf_3 22 rfl rfl
theorem dX20_bodyOf_0 : decode cX20_bodyOf 0 = .ok (.iload_n 1, 1) := dk_27 (dk_at dksX20_bodyOf_0 0 rfl rfl)
theorem dX20_bodyOf_1 : decode cX20_bodyOf 1 = .ok (.tableswitch 71 6 9 #[31, 36, 44, 57], 31) := by decide +kernel
theorem dX20_bodyOf_32 : decode cX20_bodyOf 32 = .ok (.aload_n 0, 1) := dk_42 (dk_at dksX20_bodyOf_2 0 rfl rfl)
theorem dX20_bodyOf_33 : decode cX20_bodyOf 33 = .ok (.invokevirtual 260, 3) := dk_182 1 4 (dk_at dksX20_bodyOf_2 1 rfl rfl)
theorem dX20_bodyOf_36 : decode cX20_bodyOf 36 = .ok (.ireturn, 1) := dk_172 (dk_at dksX20_bodyOf_2 4 rfl rfl)
theorem dX20_bodyOf_37 : decode cX20_bodyOf 37 = .ok (.aload_n 0, 1) := dk_42 (dk_at dksX20_bodyOf_2 5 rfl rfl)
theorem dX20_bodyOf_38 : decode cX20_bodyOf 38 = .ok (.getfield 7, 3) := dk_180 0 7 (dk_at dksX20_bodyOf_2 6 rfl rfl)
theorem dX20_bodyOf_41 : decode cX20_bodyOf 41 = .ok (.bipush 6, 2) := dk_16 6 (dk_at dksX20_bodyOf_2 9 rfl rfl)
theorem dX20_bodyOf_43 : decode cX20_bodyOf 43 = .ok (.iaload, 1) := dk_46 (dk_at dksX20_bodyOf_2 11 rfl rfl)
theorem dX20_bodyOf_44 : decode cX20_bodyOf 44 = .ok (.ireturn, 1) := dk_172 (dk_at dksX20_bodyOf_2 12 rfl rfl)
theorem dX20_bodyOf_45 : decode cX20_bodyOf 45 = .ok (.aload_n 0, 1) := dk_42 (dk_at dksX20_bodyOf_2 13 rfl rfl)
theorem dX20_bodyOf_46 : decode cX20_bodyOf 46 = .ok (.invokevirtual 263, 3) := dk_182 1 7 (dk_at dksX20_bodyOf_2 14 rfl rfl)
theorem dX20_bodyOf_49 : decode cX20_bodyOf 49 = .ok (.ifCond .eq 7, 3) := dk_153 0 7 (dk_at dksX20_bodyOf_2 17 rfl rfl)
theorem dX20_bodyOf_52 : decode cX20_bodyOf 52 = .ok (.iconst 1, 1) := dk_4 (dk_at dksX20_bodyOf_2 20 rfl rfl)
theorem dX20_bodyOf_53 : decode cX20_bodyOf 53 = .ok (.goto 4, 3) := dk_167 0 4 (dk_at dksX20_bodyOf_2 21 rfl rfl)
theorem dX20_bodyOf_56 : decode cX20_bodyOf 56 = .ok (.iconst 0, 1) := dk_3 (dk_at dksX20_bodyOf_3 0 rfl rfl)
theorem dX20_bodyOf_57 : decode cX20_bodyOf 57 = .ok (.ireturn, 1) := dk_172 (dk_at dksX20_bodyOf_3 1 rfl rfl)
theorem dX20_bodyOf_58 : decode cX20_bodyOf 58 = .ok (.aload_n 0, 1) := dk_42 (dk_at dksX20_bodyOf_3 2 rfl rfl)
theorem dX20_bodyOf_59 : decode cX20_bodyOf 59 = .ok (.getfield 7, 3) := dk_180 0 7 (dk_at dksX20_bodyOf_3 3 rfl rfl)
theorem dX20_bodyOf_62 : decode cX20_bodyOf 62 = .ok (.iconst 0, 1) := dk_3 (dk_at dksX20_bodyOf_3 6 rfl rfl)
theorem dX20_bodyOf_63 : decode cX20_bodyOf 63 = .ok (.iaload, 1) := dk_46 (dk_at dksX20_bodyOf_3 7 rfl rfl)
theorem dX20_bodyOf_64 : decode cX20_bodyOf 64 = .ok (.aload_n 0, 1) := dk_42 (dk_at dksX20_bodyOf_3 8 rfl rfl)
theorem dX20_bodyOf_65 : decode cX20_bodyOf 65 = .ok (.invokevirtual 260, 3) := dk_182 1 4 (dk_at dksX20_bodyOf_3 9 rfl rfl)
theorem dX20_bodyOf_68 : decode cX20_bodyOf 68 = .ok (.invokestatic 267, 3) := dk_184 1 11 (dk_at dksX20_bodyOf_3 12 rfl rfl)
theorem dX20_bodyOf_71 : decode cX20_bodyOf 71 = .ok (.ireturn, 1) := dk_172 (dk_at dksX20_bodyOf_3 15 rfl rfl)
theorem dX20_bodyOf_72 : decode cX20_bodyOf 72 = .ok (.iload_n 1, 1) := dk_27 (dk_at dksX20_bodyOf_3 16 rfl rfl)
theorem dX20_bodyOf_73 : decode cX20_bodyOf 73 = .ok (.iconst 0, 1) := dk_3 (dk_at dksX20_bodyOf_3 17 rfl rfl)
theorem dX20_bodyOf_74 : decode cX20_bodyOf 74 = .ok (.iconst 5, 1) := dk_8 (dk_at dksX20_bodyOf_3 18 rfl rfl)
theorem dX20_bodyOf_75 : decode cX20_bodyOf 75 = .ok (.invokestatic 100, 3) := dk_184 0 100 (dk_at dksX20_bodyOf_3 19 rfl rfl)
theorem dX20_bodyOf_78 : decode cX20_bodyOf 78 = .ok (.ifCond .eq 12, 3) := dk_153 0 12 (dk_at dksX20_bodyOf_4 0 rfl rfl)
theorem dX20_bodyOf_81 : decode cX20_bodyOf 81 = .ok (.aload_n 0, 1) := dk_42 (dk_at dksX20_bodyOf_4 3 rfl rfl)
theorem dX20_bodyOf_82 : decode cX20_bodyOf 82 = .ok (.getfield 7, 3) := dk_180 0 7 (dk_at dksX20_bodyOf_4 4 rfl rfl)
theorem dX20_bodyOf_85 : decode cX20_bodyOf 85 = .ok (.iload_n 1, 1) := dk_27 (dk_at dksX20_bodyOf_4 7 rfl rfl)
theorem dX20_bodyOf_86 : decode cX20_bodyOf 86 = .ok (.iaload, 1) := dk_46 (dk_at dksX20_bodyOf_4 8 rfl rfl)
theorem dX20_bodyOf_87 : decode cX20_bodyOf 87 = .ok (.goto 4, 3) := dk_167 0 4 (dk_at dksX20_bodyOf_4 9 rfl rfl)
theorem dX20_bodyOf_90 : decode cX20_bodyOf 90 = .ok (.iconst (-1), 1) := dk_2 (dk_at dksX20_bodyOf_4 12 rfl rfl)
theorem dX20_bodyOf_91 : decode cX20_bodyOf 91 = .ok (.ireturn, 1) := dk_172 (dk_at dksX20_bodyOf_4 13 rfl rfl)
abbrev cX20_weight : ByteArray := prog_38_method_34_code
def yX20_weight : MethodName := ⟨RX20, "weight", "()I"⟩
def dkwX20_weight_0 : List UInt8 := [42, 4, 182, 0, 255, 42, 5, 182, 0, 255, 96, 42, 6, 182, 0, 255, 96, 172]
abbrev dktX20_weight_0 : List UInt8 := dkwX20_weight_0 ++ []
theorem dksX20_weight_0 : cX20_weight.data.toList.drop 0 = dktX20_weight_0 := by decide +kernel
theorem dX20_weight_0 : decode cX20_weight 0 = .ok (.aload_n 0, 1) := dk_42 (dk_at dksX20_weight_0 0 rfl rfl)
theorem dX20_weight_1 : decode cX20_weight 1 = .ok (.iconst 1, 1) := dk_4 (dk_at dksX20_weight_0 1 rfl rfl)
theorem dX20_weight_2 : decode cX20_weight 2 = .ok (.invokevirtual 255, 3) := dk_182 0 255 (dk_at dksX20_weight_0 2 rfl rfl)
theorem dX20_weight_5 : decode cX20_weight 5 = .ok (.aload_n 0, 1) := dk_42 (dk_at dksX20_weight_0 5 rfl rfl)
theorem dX20_weight_6 : decode cX20_weight 6 = .ok (.iconst 2, 1) := dk_5 (dk_at dksX20_weight_0 6 rfl rfl)
theorem dX20_weight_7 : decode cX20_weight 7 = .ok (.invokevirtual 255, 3) := dk_182 0 255 (dk_at dksX20_weight_0 7 rfl rfl)
theorem dX20_weight_10 : decode cX20_weight 10 = .ok (.iadd, 1) := dk_96 (dk_at dksX20_weight_0 10 rfl rfl)
theorem dX20_weight_11 : decode cX20_weight 11 = .ok (.aload_n 0, 1) := dk_42 (dk_at dksX20_weight_0 11 rfl rfl)
theorem dX20_weight_12 : decode cX20_weight 12 = .ok (.iconst 3, 1) := dk_6 (dk_at dksX20_weight_0 12 rfl rfl)
theorem dX20_weight_13 : decode cX20_weight 13 = .ok (.invokevirtual 255, 3) := dk_182 0 255 (dk_at dksX20_weight_0 13 rfl rfl)
theorem dX20_weight_16 : decode cX20_weight 16 = .ok (.iadd, 1) := dk_96 (dk_at dksX20_weight_0 16 rfl rfl)
theorem dX20_weight_17 : decode cX20_weight 17 = .ok (.ireturn, 1) := dk_172 (dk_at dksX20_weight_0 17 rfl rfl)
abbrev cX20_its : ByteArray := prog_38_method_5_code
def yX20_its : MethodName := ⟨RX20, "its", "(I)I"⟩
def dkwX20_its_0 : List UInt8 := [42, 180, 0, 7, 42, 180, 0, 104, 27, 96, 46, 172]
abbrev dktX20_its_0 : List UInt8 := dkwX20_its_0 ++ []
theorem dksX20_its_0 : cX20_its.data.toList.drop 0 = dktX20_its_0 := by decide +kernel
theorem dX20_its_0 : decode cX20_its 0 = .ok (.aload_n 0, 1) := dk_42 (dk_at dksX20_its_0 0 rfl rfl)
theorem dX20_its_1 : decode cX20_its 1 = .ok (.getfield 7, 3) := dk_180 0 7 (dk_at dksX20_its_0 1 rfl rfl)
theorem dX20_its_4 : decode cX20_its 4 = .ok (.aload_n 0, 1) := dk_42 (dk_at dksX20_its_0 4 rfl rfl)
theorem dX20_its_5 : decode cX20_its 5 = .ok (.getfield 104, 3) := dk_180 0 104 (dk_at dksX20_its_0 5 rfl rfl)
theorem dX20_its_8 : decode cX20_its 8 = .ok (.iload_n 1, 1) := dk_27 (dk_at dksX20_its_0 8 rfl rfl)
theorem dX20_its_9 : decode cX20_its 9 = .ok (.iadd, 1) := dk_96 (dk_at dksX20_its_0 9 rfl rfl)
theorem dX20_its_10 : decode cX20_its 10 = .ok (.iaload, 1) := dk_46 (dk_at dksX20_its_0 10 rfl rfl)
theorem dX20_its_11 : decode cX20_its 11 = .ok (.ireturn, 1) := dk_172 (dk_at dksX20_its_0 11 rfl rfl)
abbrev cX20_isAlive : ByteArray := prog_38_method_35_code
def yX20_isAlive : MethodName := ⟨RX20, "isAlive", "()Z"⟩
def dkwX20_isAlive_0 : List UInt8 := [42, 4, 182, 0, 255, 158, 0, 15, 42, 5, 182, 0, 255, 158, 0, 7, 4, 167, 0, 4, 3, 172]
abbrev dktX20_isAlive_0 : List UInt8 := dkwX20_isAlive_0 ++ []
theorem dksX20_isAlive_0 : cX20_isAlive.data.toList.drop 0 = dktX20_isAlive_0 := by decide +kernel
theorem dX20_isAlive_0 : decode cX20_isAlive 0 = .ok (.aload_n 0, 1) := dk_42 (dk_at dksX20_isAlive_0 0 rfl rfl)
theorem dX20_isAlive_1 : decode cX20_isAlive 1 = .ok (.iconst 1, 1) := dk_4 (dk_at dksX20_isAlive_0 1 rfl rfl)
theorem dX20_isAlive_2 : decode cX20_isAlive 2 = .ok (.invokevirtual 255, 3) := dk_182 0 255 (dk_at dksX20_isAlive_0 2 rfl rfl)
theorem dX20_isAlive_5 : decode cX20_isAlive 5 = .ok (.ifCond .le 15, 3) := dk_158 0 15 (dk_at dksX20_isAlive_0 5 rfl rfl)
theorem dX20_isAlive_8 : decode cX20_isAlive 8 = .ok (.aload_n 0, 1) := dk_42 (dk_at dksX20_isAlive_0 8 rfl rfl)
theorem dX20_isAlive_9 : decode cX20_isAlive 9 = .ok (.iconst 2, 1) := dk_5 (dk_at dksX20_isAlive_0 9 rfl rfl)
theorem dX20_isAlive_10 : decode cX20_isAlive 10 = .ok (.invokevirtual 255, 3) := dk_182 0 255 (dk_at dksX20_isAlive_0 10 rfl rfl)
theorem dX20_isAlive_13 : decode cX20_isAlive 13 = .ok (.ifCond .le 7, 3) := dk_158 0 7 (dk_at dksX20_isAlive_0 13 rfl rfl)
theorem dX20_isAlive_16 : decode cX20_isAlive 16 = .ok (.iconst 1, 1) := dk_4 (dk_at dksX20_isAlive_0 16 rfl rfl)
theorem dX20_isAlive_17 : decode cX20_isAlive 17 = .ok (.goto 4, 3) := dk_167 0 4 (dk_at dksX20_isAlive_0 17 rfl rfl)
theorem dX20_isAlive_20 : decode cX20_isAlive 20 = .ok (.iconst 0, 1) := dk_3 (dk_at dksX20_isAlive_0 20 rfl rfl)
theorem dX20_isAlive_21 : decode cX20_isAlive 21 = .ok (.ireturn, 1) := dk_172 (dk_at dksX20_isAlive_0 21 rfl rfl)
abbrev cX20_ratioOf : ByteArray := prog_38_method_36_code
def yX20_ratioOf : MethodName := ⟨RX20, "ratioOf", "(II)I"⟩
def dkwX20_ratioOf_0 : List UInt8 := [27, 133, 20, 1, 2, 105, 26, 133, 109, 65, 32, 26, 133, 109, 65, 32, 26, 133, 109, 136, 172]
abbrev dktX20_ratioOf_0 : List UInt8 := dkwX20_ratioOf_0 ++ []
theorem dksX20_ratioOf_0 : cX20_ratioOf.data.toList.drop 0 = dktX20_ratioOf_0 := by decide +kernel
theorem dX20_ratioOf_0 : decode cX20_ratioOf 0 = .ok (.iload_n 1, 1) := dk_27 (dk_at dksX20_ratioOf_0 0 rfl rfl)
theorem dX20_ratioOf_1 : decode cX20_ratioOf 1 = .ok (.i2l, 1) := dk_133 (dk_at dksX20_ratioOf_0 1 rfl rfl)
theorem dX20_ratioOf_2 : decode cX20_ratioOf 2 = .ok (.ldc2_w 258, 3) := dk_20 1 2 (dk_at dksX20_ratioOf_0 2 rfl rfl)
theorem dX20_ratioOf_5 : decode cX20_ratioOf 5 = .ok (.lmul, 1) := dk_105 (dk_at dksX20_ratioOf_0 5 rfl rfl)
theorem dX20_ratioOf_6 : decode cX20_ratioOf 6 = .ok (.iload_n 0, 1) := dk_26 (dk_at dksX20_ratioOf_0 6 rfl rfl)
theorem dX20_ratioOf_7 : decode cX20_ratioOf 7 = .ok (.i2l, 1) := dk_133 (dk_at dksX20_ratioOf_0 7 rfl rfl)
theorem dX20_ratioOf_8 : decode cX20_ratioOf 8 = .ok (.ldiv, 1) := dk_109 (dk_at dksX20_ratioOf_0 8 rfl rfl)
theorem dX20_ratioOf_9 : decode cX20_ratioOf 9 = .ok (.lstore_n 2, 1) := dk_65 (dk_at dksX20_ratioOf_0 9 rfl rfl)
theorem dX20_ratioOf_10 : decode cX20_ratioOf 10 = .ok (.lload_n 2, 1) := dk_32 (dk_at dksX20_ratioOf_0 10 rfl rfl)
theorem dX20_ratioOf_11 : decode cX20_ratioOf 11 = .ok (.iload_n 0, 1) := dk_26 (dk_at dksX20_ratioOf_0 11 rfl rfl)
theorem dX20_ratioOf_12 : decode cX20_ratioOf 12 = .ok (.i2l, 1) := dk_133 (dk_at dksX20_ratioOf_0 12 rfl rfl)
theorem dX20_ratioOf_13 : decode cX20_ratioOf 13 = .ok (.ldiv, 1) := dk_109 (dk_at dksX20_ratioOf_0 13 rfl rfl)
theorem dX20_ratioOf_14 : decode cX20_ratioOf 14 = .ok (.lstore_n 2, 1) := dk_65 (dk_at dksX20_ratioOf_0 14 rfl rfl)
theorem dX20_ratioOf_15 : decode cX20_ratioOf 15 = .ok (.lload_n 2, 1) := dk_32 (dk_at dksX20_ratioOf_0 15 rfl rfl)
theorem dX20_ratioOf_16 : decode cX20_ratioOf 16 = .ok (.iload_n 0, 1) := dk_26 (dk_at dksX20_ratioOf_0 16 rfl rfl)
theorem dX20_ratioOf_17 : decode cX20_ratioOf 17 = .ok (.i2l, 1) := dk_133 (dk_at dksX20_ratioOf_0 17 rfl rfl)
theorem dX20_ratioOf_18 : decode cX20_ratioOf 18 = .ok (.ldiv, 1) := dk_109 (dk_at dksX20_ratioOf_0 18 rfl rfl)
theorem dX20_ratioOf_19 : decode cX20_ratioOf 19 = .ok (.l2i, 1) := dk_136 (dk_at dksX20_ratioOf_0 19 rfl rfl)
theorem dX20_ratioOf_20 : decode cX20_ratioOf 20 = .ok (.ireturn, 1) := dk_172 (dk_at dksX20_ratioOf_0 20 rfl rfl)
abbrev cX20_uses : ByteArray := prog_38_method_40_code
def yX20_uses : MethodName := ⟨RX20, "uses", "(II)I"⟩
def dkwX20_uses_1 : List UInt8 := [172]
abbrev dktX20_uses_1 : List UInt8 := dkwX20_uses_1 ++ []
def dkwX20_uses_0 : List UInt8 := [27, 184, 0, 238, 153, 0, 19, 28, 184, 0, 246, 153, 0, 12, 42, 27, 28, 182, 1, 14, 167, 0, 4, 2]
abbrev dktX20_uses_0 : List UInt8 := dkwX20_uses_0 ++ dktX20_uses_1
theorem dksX20_uses_0 : cX20_uses.data.toList.drop 0 = dktX20_uses_0 := by decide +kernel
theorem dksX20_uses_1 : cX20_uses.data.toList.drop 24 = dktX20_uses_1 := dk_seg dksX20_uses_0 24 rfl rfl
theorem dX20_uses_0 : decode cX20_uses 0 = .ok (.iload_n 1, 1) := dk_27 (dk_at dksX20_uses_0 0 rfl rfl)
theorem dX20_uses_1 : decode cX20_uses 1 = .ok (.invokestatic 238, 3) := dk_184 0 238 (dk_at dksX20_uses_0 1 rfl rfl)
theorem dX20_uses_4 : decode cX20_uses 4 = .ok (.ifCond .eq 19, 3) := dk_153 0 19 (dk_at dksX20_uses_0 4 rfl rfl)
theorem dX20_uses_7 : decode cX20_uses 7 = .ok (.iload_n 2, 1) := dk_28 (dk_at dksX20_uses_0 7 rfl rfl)
theorem dX20_uses_8 : decode cX20_uses 8 = .ok (.invokestatic 246, 3) := dk_184 0 246 (dk_at dksX20_uses_0 8 rfl rfl)
theorem dX20_uses_11 : decode cX20_uses 11 = .ok (.ifCond .eq 12, 3) := dk_153 0 12 (dk_at dksX20_uses_0 11 rfl rfl)
theorem dX20_uses_14 : decode cX20_uses 14 = .ok (.aload_n 0, 1) := dk_42 (dk_at dksX20_uses_0 14 rfl rfl)
theorem dX20_uses_15 : decode cX20_uses 15 = .ok (.iload_n 1, 1) := dk_27 (dk_at dksX20_uses_0 15 rfl rfl)
theorem dX20_uses_16 : decode cX20_uses 16 = .ok (.iload_n 2, 1) := dk_28 (dk_at dksX20_uses_0 16 rfl rfl)
theorem dX20_uses_17 : decode cX20_uses 17 = .ok (.invokevirtual 270, 3) := dk_182 1 14 (dk_at dksX20_uses_0 17 rfl rfl)
theorem dX20_uses_20 : decode cX20_uses 20 = .ok (.goto 4, 3) := dk_167 0 4 (dk_at dksX20_uses_0 20 rfl rfl)
theorem dX20_uses_23 : decode cX20_uses 23 = .ok (.iconst (-1), 1) := dk_2 (dk_at dksX20_uses_0 23 rfl rfl)
theorem dX20_uses_24 : decode cX20_uses 24 = .ok (.ireturn, 1) := dk_172 (dk_at dksX20_uses_1 0 rfl rfl)
abbrev cX20_usesOf : ByteArray := prog_38_method_38_code
def yX20_usesOf : MethodName := ⟨RX20, "usesOf", "(II)I"⟩
def dkwX20_usesOf_3 : List UInt8 := [29, 6, 104, 7, 108, 172, 5, 29, 104, 172, 7, 29, 104, 172, 29, 172]
abbrev dktX20_usesOf_3 : List UInt8 := dkwX20_usesOf_3 ++ []
def dkwX20_usesOf_2 : List UInt8 := [170, 0, 0, 0, 0, 44, 0, 0, 0, 1, 0, 0, 0, 4, 0, 0, 0, 30, 0, 0, 0, 36, 0, 0, 0, 40, 0, 0, 0, 30]
abbrev dktX20_usesOf_2 : List UInt8 := dkwX20_usesOf_2 ++ dktX20_usesOf_3
def dkwX20_usesOf_1 : List UInt8 := [182, 0, 249]
abbrev dktX20_usesOf_1 : List UInt8 := dkwX20_usesOf_1 ++ dktX20_usesOf_2
def dkwX20_usesOf_0 : List UInt8 := [42, 182, 1, 4, 42, 42, 27, 28, 182, 0, 242, 182, 0, 252, 104, 17, 3, 232, 108, 62, 42, 27, 28]
abbrev dktX20_usesOf_0 : List UInt8 := dkwX20_usesOf_0 ++ dktX20_usesOf_1
theorem dksX20_usesOf_0 : cX20_usesOf.data.toList.drop 0 = dktX20_usesOf_0 := by decide +kernel
theorem dksX20_usesOf_1 : cX20_usesOf.data.toList.drop 23 = dktX20_usesOf_1 := dk_seg dksX20_usesOf_0 23 rfl rfl
theorem dksX20_usesOf_2 : cX20_usesOf.data.toList.drop 26 = dktX20_usesOf_2 := dk_seg dksX20_usesOf_1 3 rfl rfl
theorem dksX20_usesOf_3 : cX20_usesOf.data.toList.drop 56 = dktX20_usesOf_3 := dk_seg dksX20_usesOf_2 30 rfl rfl
theorem dX20_usesOf_0 : decode cX20_usesOf 0 = .ok (.aload_n 0, 1) := dk_42 (dk_at dksX20_usesOf_0 0 rfl rfl)
theorem dX20_usesOf_1 : decode cX20_usesOf 1 = .ok (.invokevirtual 260, 3) := dk_182 1 4 (dk_at dksX20_usesOf_0 1 rfl rfl)
theorem dX20_usesOf_4 : decode cX20_usesOf 4 = .ok (.aload_n 0, 1) := dk_42 (dk_at dksX20_usesOf_0 4 rfl rfl)
theorem dX20_usesOf_5 : decode cX20_usesOf 5 = .ok (.aload_n 0, 1) := dk_42 (dk_at dksX20_usesOf_0 5 rfl rfl)
theorem dX20_usesOf_6 : decode cX20_usesOf 6 = .ok (.iload_n 1, 1) := dk_27 (dk_at dksX20_usesOf_0 6 rfl rfl)
theorem dX20_usesOf_7 : decode cX20_usesOf 7 = .ok (.iload_n 2, 1) := dk_28 (dk_at dksX20_usesOf_0 7 rfl rfl)
theorem dX20_usesOf_8 : decode cX20_usesOf 8 = .ok (.invokevirtual 242, 3) := dk_182 0 242 (dk_at dksX20_usesOf_0 8 rfl rfl)
theorem dX20_usesOf_11 : decode cX20_usesOf 11 = .ok (.invokevirtual 252, 3) := dk_182 0 252 (dk_at dksX20_usesOf_0 11 rfl rfl)
theorem dX20_usesOf_14 : decode cX20_usesOf 14 = .ok (.imul, 1) := dk_104 (dk_at dksX20_usesOf_0 14 rfl rfl)
theorem dX20_usesOf_15 : decode cX20_usesOf 15 = .ok (.sipush 1000, 3) := dk_17 3 232 (dk_at dksX20_usesOf_0 15 rfl rfl)
theorem dX20_usesOf_18 : decode cX20_usesOf 18 = .ok (.idiv, 1) := dk_108 (dk_at dksX20_usesOf_0 18 rfl rfl)
theorem dX20_usesOf_19 : decode cX20_usesOf 19 = .ok (.istore_n 3, 1) := dk_62 (dk_at dksX20_usesOf_0 19 rfl rfl)
theorem dX20_usesOf_20 : decode cX20_usesOf 20 = .ok (.aload_n 0, 1) := dk_42 (dk_at dksX20_usesOf_0 20 rfl rfl)
theorem dX20_usesOf_21 : decode cX20_usesOf 21 = .ok (.iload_n 1, 1) := dk_27 (dk_at dksX20_usesOf_0 21 rfl rfl)
theorem dX20_usesOf_22 : decode cX20_usesOf 22 = .ok (.iload_n 2, 1) := dk_28 (dk_at dksX20_usesOf_0 22 rfl rfl)
theorem dX20_usesOf_23 : decode cX20_usesOf 23 = .ok (.invokevirtual 249, 3) := dk_182 0 249 (dk_at dksX20_usesOf_1 0 rfl rfl)
theorem dX20_usesOf_26 : decode cX20_usesOf 26 = .ok (.tableswitch 44 1 4 #[30, 36, 40, 30], 30) := by decide +kernel
theorem dX20_usesOf_56 : decode cX20_usesOf 56 = .ok (.iload_n 3, 1) := dk_29 (dk_at dksX20_usesOf_3 0 rfl rfl)
theorem dX20_usesOf_57 : decode cX20_usesOf 57 = .ok (.iconst 3, 1) := dk_6 (dk_at dksX20_usesOf_3 1 rfl rfl)
theorem dX20_usesOf_58 : decode cX20_usesOf 58 = .ok (.imul, 1) := dk_104 (dk_at dksX20_usesOf_3 2 rfl rfl)
theorem dX20_usesOf_59 : decode cX20_usesOf 59 = .ok (.iconst 4, 1) := dk_7 (dk_at dksX20_usesOf_3 3 rfl rfl)
theorem dX20_usesOf_60 : decode cX20_usesOf 60 = .ok (.idiv, 1) := dk_108 (dk_at dksX20_usesOf_3 4 rfl rfl)
theorem dX20_usesOf_61 : decode cX20_usesOf 61 = .ok (.ireturn, 1) := dk_172 (dk_at dksX20_usesOf_3 5 rfl rfl)
theorem dX20_usesOf_62 : decode cX20_usesOf 62 = .ok (.iconst 2, 1) := dk_5 (dk_at dksX20_usesOf_3 6 rfl rfl)
theorem dX20_usesOf_63 : decode cX20_usesOf 63 = .ok (.iload_n 3, 1) := dk_29 (dk_at dksX20_usesOf_3 7 rfl rfl)
theorem dX20_usesOf_64 : decode cX20_usesOf 64 = .ok (.imul, 1) := dk_104 (dk_at dksX20_usesOf_3 8 rfl rfl)
theorem dX20_usesOf_65 : decode cX20_usesOf 65 = .ok (.ireturn, 1) := dk_172 (dk_at dksX20_usesOf_3 9 rfl rfl)
theorem dX20_usesOf_66 : decode cX20_usesOf 66 = .ok (.iconst 4, 1) := dk_7 (dk_at dksX20_usesOf_3 10 rfl rfl)
theorem dX20_usesOf_67 : decode cX20_usesOf 67 = .ok (.iload_n 3, 1) := dk_29 (dk_at dksX20_usesOf_3 11 rfl rfl)
theorem dX20_usesOf_68 : decode cX20_usesOf 68 = .ok (.imul, 1) := dk_104 (dk_at dksX20_usesOf_3 12 rfl rfl)
theorem dX20_usesOf_69 : decode cX20_usesOf 69 = .ok (.ireturn, 1) := dk_172 (dk_at dksX20_usesOf_3 13 rfl rfl)
theorem dX20_usesOf_70 : decode cX20_usesOf 70 = .ok (.iload_n 3, 1) := dk_29 (dk_at dksX20_usesOf_3 14 rfl rfl)
theorem dX20_usesOf_71 : decode cX20_usesOf 71 = .ok (.ireturn, 1) := dk_172 (dk_at dksX20_usesOf_3 15 rfl rfl)
abbrev cX20_dries : ByteArray := prog_38_method_41_code
def yX20_dries : MethodName := ⟨RX20, "dries", "(II)I"⟩
def dkwX20_dries_1 : List UInt8 := [172]
abbrev dktX20_dries_1 : List UInt8 := dkwX20_dries_1 ++ []
def dkwX20_dries_0 : List UInt8 := [27, 184, 0, 238, 153, 0, 19, 28, 184, 0, 246, 153, 0, 12, 42, 27, 28, 182, 1, 17, 167, 0, 4, 2]
abbrev dktX20_dries_0 : List UInt8 := dkwX20_dries_0 ++ dktX20_dries_1
theorem dksX20_dries_0 : cX20_dries.data.toList.drop 0 = dktX20_dries_0 := by decide +kernel
theorem dksX20_dries_1 : cX20_dries.data.toList.drop 24 = dktX20_dries_1 := dk_seg dksX20_dries_0 24 rfl rfl
theorem dX20_dries_0 : decode cX20_dries 0 = .ok (.iload_n 1, 1) := dk_27 (dk_at dksX20_dries_0 0 rfl rfl)
theorem dX20_dries_1 : decode cX20_dries 1 = .ok (.invokestatic 238, 3) := dk_184 0 238 (dk_at dksX20_dries_0 1 rfl rfl)
theorem dX20_dries_4 : decode cX20_dries 4 = .ok (.ifCond .eq 19, 3) := dk_153 0 19 (dk_at dksX20_dries_0 4 rfl rfl)
theorem dX20_dries_7 : decode cX20_dries 7 = .ok (.iload_n 2, 1) := dk_28 (dk_at dksX20_dries_0 7 rfl rfl)
theorem dX20_dries_8 : decode cX20_dries 8 = .ok (.invokestatic 246, 3) := dk_184 0 246 (dk_at dksX20_dries_0 8 rfl rfl)
theorem dX20_dries_11 : decode cX20_dries 11 = .ok (.ifCond .eq 12, 3) := dk_153 0 12 (dk_at dksX20_dries_0 11 rfl rfl)
theorem dX20_dries_14 : decode cX20_dries 14 = .ok (.aload_n 0, 1) := dk_42 (dk_at dksX20_dries_0 14 rfl rfl)
theorem dX20_dries_15 : decode cX20_dries 15 = .ok (.iload_n 1, 1) := dk_27 (dk_at dksX20_dries_0 15 rfl rfl)
theorem dX20_dries_16 : decode cX20_dries 16 = .ok (.iload_n 2, 1) := dk_28 (dk_at dksX20_dries_0 16 rfl rfl)
theorem dX20_dries_17 : decode cX20_dries 17 = .ok (.invokevirtual 273, 3) := dk_182 1 17 (dk_at dksX20_dries_0 17 rfl rfl)
theorem dX20_dries_20 : decode cX20_dries 20 = .ok (.goto 4, 3) := dk_167 0 4 (dk_at dksX20_dries_0 20 rfl rfl)
theorem dX20_dries_23 : decode cX20_dries 23 = .ok (.iconst (-1), 1) := dk_2 (dk_at dksX20_dries_0 23 rfl rfl)
theorem dX20_dries_24 : decode cX20_dries 24 = .ok (.ireturn, 1) := dk_172 (dk_at dksX20_dries_1 0 rfl rfl)
abbrev cX20_driesOf : ByteArray := prog_38_method_39_code
def yX20_driesOf : MethodName := ⟨RX20, "driesOf", "(II)I"⟩
def dkwX20_driesOf_3 : List UInt8 := [172]
abbrev dktX20_driesOf_3 : List UInt8 := dkwX20_driesOf_3 ++ []
def dkwX20_driesOf_2 : List UInt8 := [29, 5, 108, 172, 29, 5, 108, 4, 96, 172, 29, 8, 96, 172, 29, 16, 25, 96, 172, 5, 29, 104, 172, 29]
abbrev dktX20_driesOf_2 : List UInt8 := dkwX20_driesOf_2 ++ dktX20_driesOf_3
def dkwX20_driesOf_1 : List UInt8 := [170, 0, 0, 0, 0, 57, 0, 0, 0, 1, 0, 0, 0, 5, 0, 0, 0, 34, 0, 0, 0, 44, 0, 0, 0, 48, 0, 0, 0, 38, 0, 0, 0, 53]
abbrev dktX20_driesOf_1 : List UInt8 := dkwX20_driesOf_1 ++ dktX20_driesOf_2
def dkwX20_driesOf_0 : List UInt8 := [5, 16, 10, 42, 180, 0, 22, 27, 46, 100, 104, 62, 42, 27, 28, 182, 0, 249]
abbrev dktX20_driesOf_0 : List UInt8 := dkwX20_driesOf_0 ++ dktX20_driesOf_1
theorem dksX20_driesOf_0 : cX20_driesOf.data.toList.drop 0 = dktX20_driesOf_0 := by decide +kernel
theorem dksX20_driesOf_1 : cX20_driesOf.data.toList.drop 18 = dktX20_driesOf_1 := dk_seg dksX20_driesOf_0 18 rfl rfl
theorem dksX20_driesOf_2 : cX20_driesOf.data.toList.drop 52 = dktX20_driesOf_2 := dk_seg dksX20_driesOf_1 34 rfl rfl
theorem dksX20_driesOf_3 : cX20_driesOf.data.toList.drop 76 = dktX20_driesOf_3 := dk_seg dksX20_driesOf_2 24 rfl rfl
theorem dX20_driesOf_0 : decode cX20_driesOf 0 = .ok (.iconst 2, 1) := dk_5 (dk_at dksX20_driesOf_0 0 rfl rfl)
theorem dX20_driesOf_1 : decode cX20_driesOf 1 = .ok (.bipush 10, 2) := dk_16 10 (dk_at dksX20_driesOf_0 1 rfl rfl)
theorem dX20_driesOf_3 : decode cX20_driesOf 3 = .ok (.aload_n 0, 1) := dk_42 (dk_at dksX20_driesOf_0 3 rfl rfl)
theorem dX20_driesOf_4 : decode cX20_driesOf 4 = .ok (.getfield 22, 3) := dk_180 0 22 (dk_at dksX20_driesOf_0 4 rfl rfl)
theorem dX20_driesOf_7 : decode cX20_driesOf 7 = .ok (.iload_n 1, 1) := dk_27 (dk_at dksX20_driesOf_0 7 rfl rfl)
theorem dX20_driesOf_8 : decode cX20_driesOf 8 = .ok (.iaload, 1) := dk_46 (dk_at dksX20_driesOf_0 8 rfl rfl)
theorem dX20_driesOf_9 : decode cX20_driesOf 9 = .ok (.isub, 1) := dk_100 (dk_at dksX20_driesOf_0 9 rfl rfl)
theorem dX20_driesOf_10 : decode cX20_driesOf 10 = .ok (.imul, 1) := dk_104 (dk_at dksX20_driesOf_0 10 rfl rfl)
theorem dX20_driesOf_11 : decode cX20_driesOf 11 = .ok (.istore_n 3, 1) := dk_62 (dk_at dksX20_driesOf_0 11 rfl rfl)
theorem dX20_driesOf_12 : decode cX20_driesOf 12 = .ok (.aload_n 0, 1) := dk_42 (dk_at dksX20_driesOf_0 12 rfl rfl)
theorem dX20_driesOf_13 : decode cX20_driesOf 13 = .ok (.iload_n 1, 1) := dk_27 (dk_at dksX20_driesOf_0 13 rfl rfl)
theorem dX20_driesOf_14 : decode cX20_driesOf 14 = .ok (.iload_n 2, 1) := dk_28 (dk_at dksX20_driesOf_0 14 rfl rfl)
theorem dX20_driesOf_15 : decode cX20_driesOf 15 = .ok (.invokevirtual 249, 3) := dk_182 0 249 (dk_at dksX20_driesOf_0 15 rfl rfl)
theorem dX20_driesOf_18 : decode cX20_driesOf 18 = .ok (.tableswitch 57 1 5 #[34, 44, 48, 38, 53], 34) := by decide +kernel
theorem dX20_driesOf_52 : decode cX20_driesOf 52 = .ok (.iload_n 3, 1) := dk_29 (dk_at dksX20_driesOf_2 0 rfl rfl)
theorem dX20_driesOf_53 : decode cX20_driesOf 53 = .ok (.iconst 2, 1) := dk_5 (dk_at dksX20_driesOf_2 1 rfl rfl)
theorem dX20_driesOf_54 : decode cX20_driesOf 54 = .ok (.idiv, 1) := dk_108 (dk_at dksX20_driesOf_2 2 rfl rfl)
theorem dX20_driesOf_55 : decode cX20_driesOf 55 = .ok (.ireturn, 1) := dk_172 (dk_at dksX20_driesOf_2 3 rfl rfl)
theorem dX20_driesOf_56 : decode cX20_driesOf 56 = .ok (.iload_n 3, 1) := dk_29 (dk_at dksX20_driesOf_2 4 rfl rfl)
theorem dX20_driesOf_57 : decode cX20_driesOf 57 = .ok (.iconst 2, 1) := dk_5 (dk_at dksX20_driesOf_2 5 rfl rfl)
theorem dX20_driesOf_58 : decode cX20_driesOf 58 = .ok (.idiv, 1) := dk_108 (dk_at dksX20_driesOf_2 6 rfl rfl)
theorem dX20_driesOf_59 : decode cX20_driesOf 59 = .ok (.iconst 1, 1) := dk_4 (dk_at dksX20_driesOf_2 7 rfl rfl)
theorem dX20_driesOf_60 : decode cX20_driesOf 60 = .ok (.iadd, 1) := dk_96 (dk_at dksX20_driesOf_2 8 rfl rfl)
theorem dX20_driesOf_61 : decode cX20_driesOf 61 = .ok (.ireturn, 1) := dk_172 (dk_at dksX20_driesOf_2 9 rfl rfl)
theorem dX20_driesOf_62 : decode cX20_driesOf 62 = .ok (.iload_n 3, 1) := dk_29 (dk_at dksX20_driesOf_2 10 rfl rfl)
theorem dX20_driesOf_63 : decode cX20_driesOf 63 = .ok (.iconst 5, 1) := dk_8 (dk_at dksX20_driesOf_2 11 rfl rfl)
theorem dX20_driesOf_64 : decode cX20_driesOf 64 = .ok (.iadd, 1) := dk_96 (dk_at dksX20_driesOf_2 12 rfl rfl)
theorem dX20_driesOf_65 : decode cX20_driesOf 65 = .ok (.ireturn, 1) := dk_172 (dk_at dksX20_driesOf_2 13 rfl rfl)
theorem dX20_driesOf_66 : decode cX20_driesOf 66 = .ok (.iload_n 3, 1) := dk_29 (dk_at dksX20_driesOf_2 14 rfl rfl)
theorem dX20_driesOf_67 : decode cX20_driesOf 67 = .ok (.bipush 25, 2) := dk_16 25 (dk_at dksX20_driesOf_2 15 rfl rfl)
theorem dX20_driesOf_69 : decode cX20_driesOf 69 = .ok (.iadd, 1) := dk_96 (dk_at dksX20_driesOf_2 17 rfl rfl)
theorem dX20_driesOf_70 : decode cX20_driesOf 70 = .ok (.ireturn, 1) := dk_172 (dk_at dksX20_driesOf_2 18 rfl rfl)
theorem dX20_driesOf_71 : decode cX20_driesOf 71 = .ok (.iconst 2, 1) := dk_5 (dk_at dksX20_driesOf_2 19 rfl rfl)
theorem dX20_driesOf_72 : decode cX20_driesOf 72 = .ok (.iload_n 3, 1) := dk_29 (dk_at dksX20_driesOf_2 20 rfl rfl)
theorem dX20_driesOf_73 : decode cX20_driesOf 73 = .ok (.imul, 1) := dk_104 (dk_at dksX20_driesOf_2 21 rfl rfl)
theorem dX20_driesOf_74 : decode cX20_driesOf 74 = .ok (.ireturn, 1) := dk_172 (dk_at dksX20_driesOf_2 22 rfl rfl)
theorem dX20_driesOf_75 : decode cX20_driesOf 75 = .ok (.iload_n 3, 1) := dk_29 (dk_at dksX20_driesOf_2 23 rfl rfl)
theorem dX20_driesOf_76 : decode cX20_driesOf 76 = .ok (.ireturn, 1) := dk_172 (dk_at dksX20_driesOf_3 0 rfl rfl)
abbrev cX20_goes : ByteArray := prog_38_method_43_code
def yX20_goes : MethodName := ⟨RX20, "goes", "(I)I"⟩
def dkwX20_goes_2 : List UInt8 := [46, 172]
abbrev dktX20_goes_2 : List UInt8 := dkwX20_goes_2 ++ []
def dkwX20_goes_1 : List UInt8 := [16, 6, 46, 16, 24, 162, 0, 13, 42, 182, 1, 20, 132, 2, 1, 167, 255, 232, 42, 180, 0, 7, 16, 6]
abbrev dktX20_goes_1 : List UInt8 := dkwX20_goes_1 ++ dktX20_goes_2
def dkwX20_goes_0 : List UInt8 := [27, 3, 16, 24, 184, 0, 100, 154, 0, 5, 2, 172, 3, 61, 28, 27, 162, 0, 25, 42, 180, 0, 7]
abbrev dktX20_goes_0 : List UInt8 := dkwX20_goes_0 ++ dktX20_goes_1
theorem dksX20_goes_0 : cX20_goes.data.toList.drop 0 = dktX20_goes_0 := by decide +kernel
theorem dksX20_goes_1 : cX20_goes.data.toList.drop 23 = dktX20_goes_1 := dk_seg dksX20_goes_0 23 rfl rfl
theorem dksX20_goes_2 : cX20_goes.data.toList.drop 47 = dktX20_goes_2 := dk_seg dksX20_goes_1 24 rfl rfl
theorem dX20_goes_0 : decode cX20_goes 0 = .ok (.iload_n 1, 1) := dk_27 (dk_at dksX20_goes_0 0 rfl rfl)
theorem dX20_goes_1 : decode cX20_goes 1 = .ok (.iconst 0, 1) := dk_3 (dk_at dksX20_goes_0 1 rfl rfl)
theorem dX20_goes_2 : decode cX20_goes 2 = .ok (.bipush 24, 2) := dk_16 24 (dk_at dksX20_goes_0 2 rfl rfl)
theorem dX20_goes_4 : decode cX20_goes 4 = .ok (.invokestatic 100, 3) := dk_184 0 100 (dk_at dksX20_goes_0 4 rfl rfl)
theorem dX20_goes_7 : decode cX20_goes 7 = .ok (.ifCond .ne 5, 3) := dk_154 0 5 (dk_at dksX20_goes_0 7 rfl rfl)
theorem dX20_goes_10 : decode cX20_goes 10 = .ok (.iconst (-1), 1) := dk_2 (dk_at dksX20_goes_0 10 rfl rfl)
theorem dX20_goes_11 : decode cX20_goes 11 = .ok (.ireturn, 1) := dk_172 (dk_at dksX20_goes_0 11 rfl rfl)
theorem dX20_goes_12 : decode cX20_goes 12 = .ok (.iconst 0, 1) := dk_3 (dk_at dksX20_goes_0 12 rfl rfl)
theorem dX20_goes_13 : decode cX20_goes 13 = .ok (.istore_n 2, 1) := dk_61 (dk_at dksX20_goes_0 13 rfl rfl)
theorem dX20_goes_14 : decode cX20_goes 14 = .ok (.iload_n 2, 1) := dk_28 (dk_at dksX20_goes_0 14 rfl rfl)
theorem dX20_goes_15 : decode cX20_goes 15 = .ok (.iload_n 1, 1) := dk_27 (dk_at dksX20_goes_0 15 rfl rfl)
theorem dX20_goes_16 : decode cX20_goes 16 = .ok (.if_icmp .ge 25, 3) := dk_162 0 25 (dk_at dksX20_goes_0 16 rfl rfl)
theorem dX20_goes_19 : decode cX20_goes 19 = .ok (.aload_n 0, 1) := dk_42 (dk_at dksX20_goes_0 19 rfl rfl)
theorem dX20_goes_20 : decode cX20_goes 20 = .ok (.getfield 7, 3) := dk_180 0 7 (dk_at dksX20_goes_0 20 rfl rfl)
theorem dX20_goes_23 : decode cX20_goes 23 = .ok (.bipush 6, 2) := dk_16 6 (dk_at dksX20_goes_1 0 rfl rfl)
theorem dX20_goes_25 : decode cX20_goes 25 = .ok (.iaload, 1) := dk_46 (dk_at dksX20_goes_1 2 rfl rfl)
theorem dX20_goes_26 : decode cX20_goes 26 = .ok (.bipush 24, 2) := dk_16 24 (dk_at dksX20_goes_1 3 rfl rfl)
theorem dX20_goes_28 : decode cX20_goes 28 = .ok (.if_icmp .ge 13, 3) := dk_162 0 13 (dk_at dksX20_goes_1 5 rfl rfl)
theorem dX20_goes_31 : decode cX20_goes 31 = .ok (.aload_n 0, 1) := dk_42 (dk_at dksX20_goes_1 8 rfl rfl)
theorem dX20_goes_32 : decode cX20_goes 32 = .ok (.invokevirtual 276, 3) := dk_182 1 20 (dk_at dksX20_goes_1 9 rfl rfl)
theorem dX20_goes_35 : decode cX20_goes 35 = .ok (.iinc 2 1, 3) := dk_132 2 1 (dk_at dksX20_goes_1 12 rfl rfl)
theorem dX20_goes_38 : decode cX20_goes 38 = .ok (.goto (-24), 3) := dk_167 255 232 (dk_at dksX20_goes_1 15 rfl rfl)
theorem dX20_goes_41 : decode cX20_goes 41 = .ok (.aload_n 0, 1) := dk_42 (dk_at dksX20_goes_1 18 rfl rfl)
theorem dX20_goes_42 : decode cX20_goes 42 = .ok (.getfield 7, 3) := dk_180 0 7 (dk_at dksX20_goes_1 19 rfl rfl)
theorem dX20_goes_45 : decode cX20_goes 45 = .ok (.bipush 6, 2) := dk_16 6 (dk_at dksX20_goes_1 22 rfl rfl)
theorem dX20_goes_47 : decode cX20_goes 47 = .ok (.iaload, 1) := dk_46 (dk_at dksX20_goes_2 0 rfl rfl)
theorem dX20_goes_48 : decode cX20_goes 48 = .ok (.ireturn, 1) := dk_172 (dk_at dksX20_goes_2 1 rfl rfl)
abbrev cX20_weekGoes : ByteArray := prog_38_method_42_code
def yX20_weekGoes : MethodName := ⟨RX20, "weekGoes", "()V"⟩
def dkwX20_weekGoes_6 : List UInt8 := [180, 0, 7, 42, 180, 0, 104, 7, 96, 92, 46, 4, 96, 79, 177]
abbrev dktX20_weekGoes_6 : List UInt8 := dkwX20_weekGoes_6 ++ []
def dkwX20_weekGoes_5 : List UInt8 := [42, 8, 182, 0, 255, 182, 0, 249, 7, 160, 0, 28, 42, 7, 182, 0, 255, 16, 9, 162, 0, 18, 42]
abbrev dktX20_weekGoes_5 : List UInt8 := dkwX20_weekGoes_5 ++ dktX20_weekGoes_6
def dkwX20_weekGoes_4 : List UInt8 := [96, 42, 5, 182, 0, 255, 29, 162, 0, 7, 3, 167, 0, 10, 42, 5, 182, 0, 255, 29, 100, 79, 42, 27]
abbrev dktX20_weekGoes_4 : List UInt8 := dkwX20_weekGoes_4 ++ dktX20_weekGoes_5
def dkwX20_weekGoes_3 : List UInt8 := [162, 0, 7, 3, 167, 0, 10, 42, 4, 182, 0, 255, 28, 100, 79, 42, 180, 0, 7, 42, 180, 0, 104, 5]
abbrev dktX20_weekGoes_3 : List UInt8 := dkwX20_weekGoes_3 ++ dktX20_weekGoes_4
def dkwX20_weekGoes_2 : List UInt8 := [182, 0, 255, 182, 1, 17, 62, 42, 180, 0, 7, 42, 180, 0, 104, 4, 96, 42, 4, 182, 0, 255, 28]
abbrev dktX20_weekGoes_2 : List UInt8 := dkwX20_weekGoes_2 ++ dktX20_weekGoes_3
def dkwX20_weekGoes_1 : List UInt8 := [182, 1, 7, 154, 0, 4, 177, 42, 27, 42, 8, 182, 0, 255, 182, 1, 14, 61, 42, 27, 42, 8]
abbrev dktX20_weekGoes_1 : List UInt8 := dkwX20_weekGoes_1 ++ dktX20_weekGoes_2
def dkwX20_weekGoes_0 : List UInt8 := [42, 16, 6, 182, 0, 255, 60, 42, 180, 0, 7, 42, 180, 0, 104, 16, 6, 96, 92, 46, 4, 96, 79, 42]
abbrev dktX20_weekGoes_0 : List UInt8 := dkwX20_weekGoes_0 ++ dktX20_weekGoes_1
theorem dksX20_weekGoes_0 : cX20_weekGoes.data.toList.drop 0 = dktX20_weekGoes_0 := by decide +kernel
theorem dksX20_weekGoes_1 : cX20_weekGoes.data.toList.drop 24 = dktX20_weekGoes_1 := dk_seg dksX20_weekGoes_0 24 rfl rfl
theorem dksX20_weekGoes_2 : cX20_weekGoes.data.toList.drop 46 = dktX20_weekGoes_2 := dk_seg dksX20_weekGoes_1 22 rfl rfl
theorem dksX20_weekGoes_3 : cX20_weekGoes.data.toList.drop 69 = dktX20_weekGoes_3 := dk_seg dksX20_weekGoes_2 23 rfl rfl
theorem dksX20_weekGoes_4 : cX20_weekGoes.data.toList.drop 93 = dktX20_weekGoes_4 := dk_seg dksX20_weekGoes_3 24 rfl rfl
theorem dksX20_weekGoes_5 : cX20_weekGoes.data.toList.drop 117 = dktX20_weekGoes_5 := dk_seg dksX20_weekGoes_4 24 rfl rfl
theorem dksX20_weekGoes_6 : cX20_weekGoes.data.toList.drop 140 = dktX20_weekGoes_6 := dk_seg dksX20_weekGoes_5 23 rfl rfl
theorem dX20_weekGoes_0 : decode cX20_weekGoes 0 = .ok (.aload_n 0, 1) := dk_42 (dk_at dksX20_weekGoes_0 0 rfl rfl)
theorem dX20_weekGoes_1 : decode cX20_weekGoes 1 = .ok (.bipush 6, 2) := dk_16 6 (dk_at dksX20_weekGoes_0 1 rfl rfl)
theorem dX20_weekGoes_3 : decode cX20_weekGoes 3 = .ok (.invokevirtual 255, 3) := dk_182 0 255 (dk_at dksX20_weekGoes_0 3 rfl rfl)
theorem dX20_weekGoes_6 : decode cX20_weekGoes 6 = .ok (.istore_n 1, 1) := dk_60 (dk_at dksX20_weekGoes_0 6 rfl rfl)
theorem dX20_weekGoes_7 : decode cX20_weekGoes 7 = .ok (.aload_n 0, 1) := dk_42 (dk_at dksX20_weekGoes_0 7 rfl rfl)
theorem dX20_weekGoes_8 : decode cX20_weekGoes 8 = .ok (.getfield 7, 3) := dk_180 0 7 (dk_at dksX20_weekGoes_0 8 rfl rfl)
theorem dX20_weekGoes_11 : decode cX20_weekGoes 11 = .ok (.aload_n 0, 1) := dk_42 (dk_at dksX20_weekGoes_0 11 rfl rfl)
theorem dX20_weekGoes_12 : decode cX20_weekGoes 12 = .ok (.getfield 104, 3) := dk_180 0 104 (dk_at dksX20_weekGoes_0 12 rfl rfl)
theorem dX20_weekGoes_15 : decode cX20_weekGoes 15 = .ok (.bipush 6, 2) := dk_16 6 (dk_at dksX20_weekGoes_0 15 rfl rfl)
theorem dX20_weekGoes_17 : decode cX20_weekGoes 17 = .ok (.iadd, 1) := dk_96 (dk_at dksX20_weekGoes_0 17 rfl rfl)
theorem dX20_weekGoes_18 : decode cX20_weekGoes 18 = .ok (.dup2, 1) := dk_92 (dk_at dksX20_weekGoes_0 18 rfl rfl)
theorem dX20_weekGoes_19 : decode cX20_weekGoes 19 = .ok (.iaload, 1) := dk_46 (dk_at dksX20_weekGoes_0 19 rfl rfl)
theorem dX20_weekGoes_20 : decode cX20_weekGoes 20 = .ok (.iconst 1, 1) := dk_4 (dk_at dksX20_weekGoes_0 20 rfl rfl)
theorem dX20_weekGoes_21 : decode cX20_weekGoes 21 = .ok (.iadd, 1) := dk_96 (dk_at dksX20_weekGoes_0 21 rfl rfl)
theorem dX20_weekGoes_22 : decode cX20_weekGoes 22 = .ok (.iastore, 1) := dk_79 (dk_at dksX20_weekGoes_0 22 rfl rfl)
theorem dX20_weekGoes_23 : decode cX20_weekGoes 23 = .ok (.aload_n 0, 1) := dk_42 (dk_at dksX20_weekGoes_0 23 rfl rfl)
theorem dX20_weekGoes_24 : decode cX20_weekGoes 24 = .ok (.invokevirtual 263, 3) := dk_182 1 7 (dk_at dksX20_weekGoes_1 0 rfl rfl)
theorem dX20_weekGoes_27 : decode cX20_weekGoes 27 = .ok (.ifCond .ne 4, 3) := dk_154 0 4 (dk_at dksX20_weekGoes_1 3 rfl rfl)
theorem dX20_weekGoes_30 : decode cX20_weekGoes 30 = .ok (.return_, 1) := dk_177 (dk_at dksX20_weekGoes_1 6 rfl rfl)
theorem dX20_weekGoes_31 : decode cX20_weekGoes 31 = .ok (.aload_n 0, 1) := dk_42 (dk_at dksX20_weekGoes_1 7 rfl rfl)
theorem dX20_weekGoes_32 : decode cX20_weekGoes 32 = .ok (.iload_n 1, 1) := dk_27 (dk_at dksX20_weekGoes_1 8 rfl rfl)
theorem dX20_weekGoes_33 : decode cX20_weekGoes 33 = .ok (.aload_n 0, 1) := dk_42 (dk_at dksX20_weekGoes_1 9 rfl rfl)
theorem dX20_weekGoes_34 : decode cX20_weekGoes 34 = .ok (.iconst 5, 1) := dk_8 (dk_at dksX20_weekGoes_1 10 rfl rfl)
theorem dX20_weekGoes_35 : decode cX20_weekGoes 35 = .ok (.invokevirtual 255, 3) := dk_182 0 255 (dk_at dksX20_weekGoes_1 11 rfl rfl)
theorem dX20_weekGoes_38 : decode cX20_weekGoes 38 = .ok (.invokevirtual 270, 3) := dk_182 1 14 (dk_at dksX20_weekGoes_1 14 rfl rfl)
theorem dX20_weekGoes_41 : decode cX20_weekGoes 41 = .ok (.istore_n 2, 1) := dk_61 (dk_at dksX20_weekGoes_1 17 rfl rfl)
theorem dX20_weekGoes_42 : decode cX20_weekGoes 42 = .ok (.aload_n 0, 1) := dk_42 (dk_at dksX20_weekGoes_1 18 rfl rfl)
theorem dX20_weekGoes_43 : decode cX20_weekGoes 43 = .ok (.iload_n 1, 1) := dk_27 (dk_at dksX20_weekGoes_1 19 rfl rfl)
theorem dX20_weekGoes_44 : decode cX20_weekGoes 44 = .ok (.aload_n 0, 1) := dk_42 (dk_at dksX20_weekGoes_1 20 rfl rfl)
theorem dX20_weekGoes_45 : decode cX20_weekGoes 45 = .ok (.iconst 5, 1) := dk_8 (dk_at dksX20_weekGoes_1 21 rfl rfl)
theorem dX20_weekGoes_46 : decode cX20_weekGoes 46 = .ok (.invokevirtual 255, 3) := dk_182 0 255 (dk_at dksX20_weekGoes_2 0 rfl rfl)
theorem dX20_weekGoes_49 : decode cX20_weekGoes 49 = .ok (.invokevirtual 273, 3) := dk_182 1 17 (dk_at dksX20_weekGoes_2 3 rfl rfl)
theorem dX20_weekGoes_52 : decode cX20_weekGoes 52 = .ok (.istore_n 3, 1) := dk_62 (dk_at dksX20_weekGoes_2 6 rfl rfl)
theorem dX20_weekGoes_53 : decode cX20_weekGoes 53 = .ok (.aload_n 0, 1) := dk_42 (dk_at dksX20_weekGoes_2 7 rfl rfl)
theorem dX20_weekGoes_54 : decode cX20_weekGoes 54 = .ok (.getfield 7, 3) := dk_180 0 7 (dk_at dksX20_weekGoes_2 8 rfl rfl)
theorem dX20_weekGoes_57 : decode cX20_weekGoes 57 = .ok (.aload_n 0, 1) := dk_42 (dk_at dksX20_weekGoes_2 11 rfl rfl)
theorem dX20_weekGoes_58 : decode cX20_weekGoes 58 = .ok (.getfield 104, 3) := dk_180 0 104 (dk_at dksX20_weekGoes_2 12 rfl rfl)
theorem dX20_weekGoes_61 : decode cX20_weekGoes 61 = .ok (.iconst 1, 1) := dk_4 (dk_at dksX20_weekGoes_2 15 rfl rfl)
theorem dX20_weekGoes_62 : decode cX20_weekGoes 62 = .ok (.iadd, 1) := dk_96 (dk_at dksX20_weekGoes_2 16 rfl rfl)
theorem dX20_weekGoes_63 : decode cX20_weekGoes 63 = .ok (.aload_n 0, 1) := dk_42 (dk_at dksX20_weekGoes_2 17 rfl rfl)
theorem dX20_weekGoes_64 : decode cX20_weekGoes 64 = .ok (.iconst 1, 1) := dk_4 (dk_at dksX20_weekGoes_2 18 rfl rfl)
theorem dX20_weekGoes_65 : decode cX20_weekGoes 65 = .ok (.invokevirtual 255, 3) := dk_182 0 255 (dk_at dksX20_weekGoes_2 19 rfl rfl)
theorem dX20_weekGoes_68 : decode cX20_weekGoes 68 = .ok (.iload_n 2, 1) := dk_28 (dk_at dksX20_weekGoes_2 22 rfl rfl)
theorem dX20_weekGoes_69 : decode cX20_weekGoes 69 = .ok (.if_icmp .ge 7, 3) := dk_162 0 7 (dk_at dksX20_weekGoes_3 0 rfl rfl)
theorem dX20_weekGoes_72 : decode cX20_weekGoes 72 = .ok (.iconst 0, 1) := dk_3 (dk_at dksX20_weekGoes_3 3 rfl rfl)
theorem dX20_weekGoes_73 : decode cX20_weekGoes 73 = .ok (.goto 10, 3) := dk_167 0 10 (dk_at dksX20_weekGoes_3 4 rfl rfl)
theorem dX20_weekGoes_76 : decode cX20_weekGoes 76 = .ok (.aload_n 0, 1) := dk_42 (dk_at dksX20_weekGoes_3 7 rfl rfl)
theorem dX20_weekGoes_77 : decode cX20_weekGoes 77 = .ok (.iconst 1, 1) := dk_4 (dk_at dksX20_weekGoes_3 8 rfl rfl)
theorem dX20_weekGoes_78 : decode cX20_weekGoes 78 = .ok (.invokevirtual 255, 3) := dk_182 0 255 (dk_at dksX20_weekGoes_3 9 rfl rfl)
theorem dX20_weekGoes_81 : decode cX20_weekGoes 81 = .ok (.iload_n 2, 1) := dk_28 (dk_at dksX20_weekGoes_3 12 rfl rfl)
theorem dX20_weekGoes_82 : decode cX20_weekGoes 82 = .ok (.isub, 1) := dk_100 (dk_at dksX20_weekGoes_3 13 rfl rfl)
theorem dX20_weekGoes_83 : decode cX20_weekGoes 83 = .ok (.iastore, 1) := dk_79 (dk_at dksX20_weekGoes_3 14 rfl rfl)
theorem dX20_weekGoes_84 : decode cX20_weekGoes 84 = .ok (.aload_n 0, 1) := dk_42 (dk_at dksX20_weekGoes_3 15 rfl rfl)
theorem dX20_weekGoes_85 : decode cX20_weekGoes 85 = .ok (.getfield 7, 3) := dk_180 0 7 (dk_at dksX20_weekGoes_3 16 rfl rfl)
theorem dX20_weekGoes_88 : decode cX20_weekGoes 88 = .ok (.aload_n 0, 1) := dk_42 (dk_at dksX20_weekGoes_3 19 rfl rfl)
theorem dX20_weekGoes_89 : decode cX20_weekGoes 89 = .ok (.getfield 104, 3) := dk_180 0 104 (dk_at dksX20_weekGoes_3 20 rfl rfl)
theorem dX20_weekGoes_92 : decode cX20_weekGoes 92 = .ok (.iconst 2, 1) := dk_5 (dk_at dksX20_weekGoes_3 23 rfl rfl)
theorem dX20_weekGoes_93 : decode cX20_weekGoes 93 = .ok (.iadd, 1) := dk_96 (dk_at dksX20_weekGoes_4 0 rfl rfl)
theorem dX20_weekGoes_94 : decode cX20_weekGoes 94 = .ok (.aload_n 0, 1) := dk_42 (dk_at dksX20_weekGoes_4 1 rfl rfl)
theorem dX20_weekGoes_95 : decode cX20_weekGoes 95 = .ok (.iconst 2, 1) := dk_5 (dk_at dksX20_weekGoes_4 2 rfl rfl)
theorem dX20_weekGoes_96 : decode cX20_weekGoes 96 = .ok (.invokevirtual 255, 3) := dk_182 0 255 (dk_at dksX20_weekGoes_4 3 rfl rfl)
theorem dX20_weekGoes_99 : decode cX20_weekGoes 99 = .ok (.iload_n 3, 1) := dk_29 (dk_at dksX20_weekGoes_4 6 rfl rfl)
theorem dX20_weekGoes_100 : decode cX20_weekGoes 100 = .ok (.if_icmp .ge 7, 3) := dk_162 0 7 (dk_at dksX20_weekGoes_4 7 rfl rfl)
theorem dX20_weekGoes_103 : decode cX20_weekGoes 103 = .ok (.iconst 0, 1) := dk_3 (dk_at dksX20_weekGoes_4 10 rfl rfl)
theorem dX20_weekGoes_104 : decode cX20_weekGoes 104 = .ok (.goto 10, 3) := dk_167 0 10 (dk_at dksX20_weekGoes_4 11 rfl rfl)
theorem dX20_weekGoes_107 : decode cX20_weekGoes 107 = .ok (.aload_n 0, 1) := dk_42 (dk_at dksX20_weekGoes_4 14 rfl rfl)
theorem dX20_weekGoes_108 : decode cX20_weekGoes 108 = .ok (.iconst 2, 1) := dk_5 (dk_at dksX20_weekGoes_4 15 rfl rfl)
theorem dX20_weekGoes_109 : decode cX20_weekGoes 109 = .ok (.invokevirtual 255, 3) := dk_182 0 255 (dk_at dksX20_weekGoes_4 16 rfl rfl)
theorem dX20_weekGoes_112 : decode cX20_weekGoes 112 = .ok (.iload_n 3, 1) := dk_29 (dk_at dksX20_weekGoes_4 19 rfl rfl)
theorem dX20_weekGoes_113 : decode cX20_weekGoes 113 = .ok (.isub, 1) := dk_100 (dk_at dksX20_weekGoes_4 20 rfl rfl)
theorem dX20_weekGoes_114 : decode cX20_weekGoes 114 = .ok (.iastore, 1) := dk_79 (dk_at dksX20_weekGoes_4 21 rfl rfl)
theorem dX20_weekGoes_115 : decode cX20_weekGoes 115 = .ok (.aload_n 0, 1) := dk_42 (dk_at dksX20_weekGoes_4 22 rfl rfl)
theorem dX20_weekGoes_116 : decode cX20_weekGoes 116 = .ok (.iload_n 1, 1) := dk_27 (dk_at dksX20_weekGoes_4 23 rfl rfl)
theorem dX20_weekGoes_117 : decode cX20_weekGoes 117 = .ok (.aload_n 0, 1) := dk_42 (dk_at dksX20_weekGoes_5 0 rfl rfl)
theorem dX20_weekGoes_118 : decode cX20_weekGoes 118 = .ok (.iconst 5, 1) := dk_8 (dk_at dksX20_weekGoes_5 1 rfl rfl)
theorem dX20_weekGoes_119 : decode cX20_weekGoes 119 = .ok (.invokevirtual 255, 3) := dk_182 0 255 (dk_at dksX20_weekGoes_5 2 rfl rfl)
theorem dX20_weekGoes_122 : decode cX20_weekGoes 122 = .ok (.invokevirtual 249, 3) := dk_182 0 249 (dk_at dksX20_weekGoes_5 5 rfl rfl)
theorem dX20_weekGoes_125 : decode cX20_weekGoes 125 = .ok (.iconst 4, 1) := dk_7 (dk_at dksX20_weekGoes_5 8 rfl rfl)
theorem dX20_weekGoes_126 : decode cX20_weekGoes 126 = .ok (.if_icmp .ne 28, 3) := dk_160 0 28 (dk_at dksX20_weekGoes_5 9 rfl rfl)
theorem dX20_weekGoes_129 : decode cX20_weekGoes 129 = .ok (.aload_n 0, 1) := dk_42 (dk_at dksX20_weekGoes_5 12 rfl rfl)
theorem dX20_weekGoes_130 : decode cX20_weekGoes 130 = .ok (.iconst 4, 1) := dk_7 (dk_at dksX20_weekGoes_5 13 rfl rfl)
theorem dX20_weekGoes_131 : decode cX20_weekGoes 131 = .ok (.invokevirtual 255, 3) := dk_182 0 255 (dk_at dksX20_weekGoes_5 14 rfl rfl)
theorem dX20_weekGoes_134 : decode cX20_weekGoes 134 = .ok (.bipush 9, 2) := dk_16 9 (dk_at dksX20_weekGoes_5 17 rfl rfl)
theorem dX20_weekGoes_136 : decode cX20_weekGoes 136 = .ok (.if_icmp .ge 18, 3) := dk_162 0 18 (dk_at dksX20_weekGoes_5 19 rfl rfl)
theorem dX20_weekGoes_139 : decode cX20_weekGoes 139 = .ok (.aload_n 0, 1) := dk_42 (dk_at dksX20_weekGoes_5 22 rfl rfl)
theorem dX20_weekGoes_140 : decode cX20_weekGoes 140 = .ok (.getfield 7, 3) := dk_180 0 7 (dk_at dksX20_weekGoes_6 0 rfl rfl)
theorem dX20_weekGoes_143 : decode cX20_weekGoes 143 = .ok (.aload_n 0, 1) := dk_42 (dk_at dksX20_weekGoes_6 3 rfl rfl)
theorem dX20_weekGoes_144 : decode cX20_weekGoes 144 = .ok (.getfield 104, 3) := dk_180 0 104 (dk_at dksX20_weekGoes_6 4 rfl rfl)
theorem dX20_weekGoes_147 : decode cX20_weekGoes 147 = .ok (.iconst 4, 1) := dk_7 (dk_at dksX20_weekGoes_6 7 rfl rfl)
theorem dX20_weekGoes_148 : decode cX20_weekGoes 148 = .ok (.iadd, 1) := dk_96 (dk_at dksX20_weekGoes_6 8 rfl rfl)
theorem dX20_weekGoes_149 : decode cX20_weekGoes 149 = .ok (.dup2, 1) := dk_92 (dk_at dksX20_weekGoes_6 9 rfl rfl)
theorem dX20_weekGoes_150 : decode cX20_weekGoes 150 = .ok (.iaload, 1) := dk_46 (dk_at dksX20_weekGoes_6 10 rfl rfl)
theorem dX20_weekGoes_151 : decode cX20_weekGoes 151 = .ok (.iconst 1, 1) := dk_4 (dk_at dksX20_weekGoes_6 11 rfl rfl)
theorem dX20_weekGoes_152 : decode cX20_weekGoes 152 = .ok (.iadd, 1) := dk_96 (dk_at dksX20_weekGoes_6 12 rfl rfl)
theorem dX20_weekGoes_153 : decode cX20_weekGoes 153 = .ok (.iastore, 1) := dk_79 (dk_at dksX20_weekGoes_6 13 rfl rfl)
theorem dX20_weekGoes_154 : decode cX20_weekGoes 154 = .ok (.return_, 1) := dk_177 (dk_at dksX20_weekGoes_6 14 rfl rfl)
abbrev cX20_begin : ByteArray := prog_38_method_44_code
def yX20_begin : MethodName := ⟨RX20, "begin", "(I)I"⟩
def dkwX20_begin_1 : List UInt8 := [16, 6, 27, 79, 28, 172]
abbrev dktX20_begin_1 : List UInt8 := dkwX20_begin_1 ++ []
def dkwX20_begin_0 : List UInt8 := [27, 3, 16, 24, 184, 0, 100, 154, 0, 5, 2, 172, 42, 180, 0, 7, 16, 6, 46, 61, 42, 180, 0, 7]
abbrev dktX20_begin_0 : List UInt8 := dkwX20_begin_0 ++ dktX20_begin_1
theorem dksX20_begin_0 : cX20_begin.data.toList.drop 0 = dktX20_begin_0 := by decide +kernel
theorem dksX20_begin_1 : cX20_begin.data.toList.drop 24 = dktX20_begin_1 := dk_seg dksX20_begin_0 24 rfl rfl
theorem dX20_begin_0 : decode cX20_begin 0 = .ok (.iload_n 1, 1) := dk_27 (dk_at dksX20_begin_0 0 rfl rfl)
theorem dX20_begin_1 : decode cX20_begin 1 = .ok (.iconst 0, 1) := dk_3 (dk_at dksX20_begin_0 1 rfl rfl)
theorem dX20_begin_2 : decode cX20_begin 2 = .ok (.bipush 24, 2) := dk_16 24 (dk_at dksX20_begin_0 2 rfl rfl)
theorem dX20_begin_4 : decode cX20_begin 4 = .ok (.invokestatic 100, 3) := dk_184 0 100 (dk_at dksX20_begin_0 4 rfl rfl)
theorem dX20_begin_7 : decode cX20_begin 7 = .ok (.ifCond .ne 5, 3) := dk_154 0 5 (dk_at dksX20_begin_0 7 rfl rfl)
theorem dX20_begin_10 : decode cX20_begin 10 = .ok (.iconst (-1), 1) := dk_2 (dk_at dksX20_begin_0 10 rfl rfl)
theorem dX20_begin_11 : decode cX20_begin 11 = .ok (.ireturn, 1) := dk_172 (dk_at dksX20_begin_0 11 rfl rfl)
theorem dX20_begin_12 : decode cX20_begin 12 = .ok (.aload_n 0, 1) := dk_42 (dk_at dksX20_begin_0 12 rfl rfl)
theorem dX20_begin_13 : decode cX20_begin 13 = .ok (.getfield 7, 3) := dk_180 0 7 (dk_at dksX20_begin_0 13 rfl rfl)
theorem dX20_begin_16 : decode cX20_begin 16 = .ok (.bipush 6, 2) := dk_16 6 (dk_at dksX20_begin_0 16 rfl rfl)
theorem dX20_begin_18 : decode cX20_begin 18 = .ok (.iaload, 1) := dk_46 (dk_at dksX20_begin_0 18 rfl rfl)
theorem dX20_begin_19 : decode cX20_begin 19 = .ok (.istore_n 2, 1) := dk_61 (dk_at dksX20_begin_0 19 rfl rfl)
theorem dX20_begin_20 : decode cX20_begin 20 = .ok (.aload_n 0, 1) := dk_42 (dk_at dksX20_begin_0 20 rfl rfl)
theorem dX20_begin_21 : decode cX20_begin 21 = .ok (.getfield 7, 3) := dk_180 0 7 (dk_at dksX20_begin_0 21 rfl rfl)
theorem dX20_begin_24 : decode cX20_begin 24 = .ok (.bipush 6, 2) := dk_16 6 (dk_at dksX20_begin_1 0 rfl rfl)
theorem dX20_begin_26 : decode cX20_begin 26 = .ok (.iload_n 1, 1) := dk_27 (dk_at dksX20_begin_1 2 rfl rfl)
theorem dX20_begin_27 : decode cX20_begin 27 = .ok (.iastore, 1) := dk_79 (dk_at dksX20_begin_1 3 rfl rfl)
theorem dX20_begin_28 : decode cX20_begin 28 = .ok (.iload_n 2, 1) := dk_28 (dk_at dksX20_begin_1 4 rfl rfl)
theorem dX20_begin_29 : decode cX20_begin 29 = .ok (.ireturn, 1) := dk_172 (dk_at dksX20_begin_1 5 rfl rfl)
abbrev cX20_says : ByteArray := prog_38_method_47_code
def yX20_says : MethodName := ⟨RX20, "says", "()I"⟩
def dkwX20_says_0 : List UInt8 := [42, 42, 182, 1, 4, 182, 1, 30, 172]
abbrev dktX20_says_0 : List UInt8 := dkwX20_says_0 ++ []
theorem dksX20_says_0 : cX20_says.data.toList.drop 0 = dktX20_says_0 := by decide +kernel
theorem dX20_says_0 : decode cX20_says 0 = .ok (.aload_n 0, 1) := dk_42 (dk_at dksX20_says_0 0 rfl rfl)
theorem dX20_says_1 : decode cX20_says 1 = .ok (.aload_n 0, 1) := dk_42 (dk_at dksX20_says_0 1 rfl rfl)
theorem dX20_says_2 : decode cX20_says 2 = .ok (.invokevirtual 260, 3) := dk_182 1 4 (dk_at dksX20_says_0 2 rfl rfl)
theorem dX20_says_5 : decode cX20_says 5 = .ok (.invokevirtual 286, 3) := dk_182 1 30 (dk_at dksX20_says_0 5 rfl rfl)
theorem dX20_says_8 : decode cX20_says 8 = .ok (.ireturn, 1) := dk_172 (dk_at dksX20_says_0 8 rfl rfl)
abbrev cX20_clauseBy : ByteArray := prog_38_method_46_code
def yX20_clauseBy : MethodName := ⟨RX20, "clauseBy", "(I)I"⟩
def dkwX20_clauseBy_7 : List UInt8 := [16, 247, 172]
abbrev dktX20_clauseBy_7 : List UInt8 := dkwX20_clauseBy_7 ++ []
def dkwX20_clauseBy_6 : List UInt8 := [180, 0, 37, 6, 29, 104, 5, 96, 46, 182, 1, 26, 153, 0, 5, 29, 172, 132, 3, 1, 167, 255, 212]
abbrev dktX20_clauseBy_6 : List UInt8 := dkwX20_clauseBy_6 ++ dktX20_clauseBy_7
def dkwX20_clauseBy_5 : List UInt8 := [180, 0, 235, 162, 0, 42, 42, 42, 180, 0, 40, 42, 180, 0, 37, 6, 29, 104, 4, 96, 46, 42]
abbrev dktX20_clauseBy_5 : List UInt8 := dkwX20_clauseBy_5 ++ dktX20_clauseBy_6
def dkwX20_clauseBy_4 : List UInt8 := [180, 0, 19, 28, 16, 24, 162, 0, 7, 28, 167, 0, 4, 3, 46, 167, 0, 4, 3, 79, 3, 62, 29, 42]
abbrev dktX20_clauseBy_4 : List UInt8 := dkwX20_clauseBy_4 ++ dktX20_clauseBy_5
def dkwX20_clauseBy_3 : List UInt8 := [162, 0, 41, 42, 180, 0, 19, 28, 16, 24, 162, 0, 7, 28, 167, 0, 4, 3, 46, 158, 0, 22, 42]
abbrev dktX20_clauseBy_3 : List UInt8 := dkwX20_clauseBy_3 ++ dktX20_clauseBy_4
def dkwX20_clauseBy_2 : List UInt8 := [182, 0, 255, 79, 42, 180, 0, 50, 7, 42, 7, 182, 0, 255, 79, 42, 180, 0, 50, 8, 28, 16, 24]
abbrev dktX20_clauseBy_2 : List UInt8 := dkwX20_clauseBy_2 ++ dktX20_clauseBy_3
def dkwX20_clauseBy_1 : List UInt8 := [184, 1, 23, 79, 42, 180, 0, 50, 5, 42, 4, 182, 0, 255, 79, 42, 180, 0, 50, 6, 42, 5]
abbrev dktX20_clauseBy_1 : List UInt8 := dkwX20_clauseBy_1 ++ dktX20_clauseBy_2
def dkwX20_clauseBy_0 : List UInt8 := [42, 16, 6, 182, 0, 255, 61, 42, 180, 0, 50, 3, 28, 79, 42, 180, 0, 50, 4, 27, 42, 182, 1, 4]
abbrev dktX20_clauseBy_0 : List UInt8 := dkwX20_clauseBy_0 ++ dktX20_clauseBy_1
theorem dksX20_clauseBy_0 : cX20_clauseBy.data.toList.drop 0 = dktX20_clauseBy_0 := by decide +kernel
theorem dksX20_clauseBy_1 : cX20_clauseBy.data.toList.drop 24 = dktX20_clauseBy_1 := dk_seg dksX20_clauseBy_0 24 rfl rfl
theorem dksX20_clauseBy_2 : cX20_clauseBy.data.toList.drop 46 = dktX20_clauseBy_2 := dk_seg dksX20_clauseBy_1 22 rfl rfl
theorem dksX20_clauseBy_3 : cX20_clauseBy.data.toList.drop 69 = dktX20_clauseBy_3 := dk_seg dksX20_clauseBy_2 23 rfl rfl
theorem dksX20_clauseBy_4 : cX20_clauseBy.data.toList.drop 92 = dktX20_clauseBy_4 := dk_seg dksX20_clauseBy_3 23 rfl rfl
theorem dksX20_clauseBy_5 : cX20_clauseBy.data.toList.drop 116 = dktX20_clauseBy_5 := dk_seg dksX20_clauseBy_4 24 rfl rfl
theorem dksX20_clauseBy_6 : cX20_clauseBy.data.toList.drop 138 = dktX20_clauseBy_6 := dk_seg dksX20_clauseBy_5 22 rfl rfl
theorem dksX20_clauseBy_7 : cX20_clauseBy.data.toList.drop 161 = dktX20_clauseBy_7 := dk_seg dksX20_clauseBy_6 23 rfl rfl
theorem dX20_clauseBy_0 : decode cX20_clauseBy 0 = .ok (.aload_n 0, 1) := dk_42 (dk_at dksX20_clauseBy_0 0 rfl rfl)
theorem dX20_clauseBy_1 : decode cX20_clauseBy 1 = .ok (.bipush 6, 2) := dk_16 6 (dk_at dksX20_clauseBy_0 1 rfl rfl)
theorem dX20_clauseBy_3 : decode cX20_clauseBy 3 = .ok (.invokevirtual 255, 3) := dk_182 0 255 (dk_at dksX20_clauseBy_0 3 rfl rfl)
theorem dX20_clauseBy_6 : decode cX20_clauseBy 6 = .ok (.istore_n 2, 1) := dk_61 (dk_at dksX20_clauseBy_0 6 rfl rfl)
theorem dX20_clauseBy_7 : decode cX20_clauseBy 7 = .ok (.aload_n 0, 1) := dk_42 (dk_at dksX20_clauseBy_0 7 rfl rfl)
theorem dX20_clauseBy_8 : decode cX20_clauseBy 8 = .ok (.getfield 50, 3) := dk_180 0 50 (dk_at dksX20_clauseBy_0 8 rfl rfl)
theorem dX20_clauseBy_11 : decode cX20_clauseBy 11 = .ok (.iconst 0, 1) := dk_3 (dk_at dksX20_clauseBy_0 11 rfl rfl)
theorem dX20_clauseBy_12 : decode cX20_clauseBy 12 = .ok (.iload_n 2, 1) := dk_28 (dk_at dksX20_clauseBy_0 12 rfl rfl)
theorem dX20_clauseBy_13 : decode cX20_clauseBy 13 = .ok (.iastore, 1) := dk_79 (dk_at dksX20_clauseBy_0 13 rfl rfl)
theorem dX20_clauseBy_14 : decode cX20_clauseBy 14 = .ok (.aload_n 0, 1) := dk_42 (dk_at dksX20_clauseBy_0 14 rfl rfl)
theorem dX20_clauseBy_15 : decode cX20_clauseBy 15 = .ok (.getfield 50, 3) := dk_180 0 50 (dk_at dksX20_clauseBy_0 15 rfl rfl)
theorem dX20_clauseBy_18 : decode cX20_clauseBy 18 = .ok (.iconst 1, 1) := dk_4 (dk_at dksX20_clauseBy_0 18 rfl rfl)
theorem dX20_clauseBy_19 : decode cX20_clauseBy 19 = .ok (.iload_n 1, 1) := dk_27 (dk_at dksX20_clauseBy_0 19 rfl rfl)
theorem dX20_clauseBy_20 : decode cX20_clauseBy 20 = .ok (.aload_n 0, 1) := dk_42 (dk_at dksX20_clauseBy_0 20 rfl rfl)
theorem dX20_clauseBy_21 : decode cX20_clauseBy 21 = .ok (.invokevirtual 260, 3) := dk_182 1 4 (dk_at dksX20_clauseBy_0 21 rfl rfl)
theorem dX20_clauseBy_24 : decode cX20_clauseBy 24 = .ok (.invokestatic 279, 3) := dk_184 1 23 (dk_at dksX20_clauseBy_1 0 rfl rfl)
theorem dX20_clauseBy_27 : decode cX20_clauseBy 27 = .ok (.iastore, 1) := dk_79 (dk_at dksX20_clauseBy_1 3 rfl rfl)
theorem dX20_clauseBy_28 : decode cX20_clauseBy 28 = .ok (.aload_n 0, 1) := dk_42 (dk_at dksX20_clauseBy_1 4 rfl rfl)
theorem dX20_clauseBy_29 : decode cX20_clauseBy 29 = .ok (.getfield 50, 3) := dk_180 0 50 (dk_at dksX20_clauseBy_1 5 rfl rfl)
theorem dX20_clauseBy_32 : decode cX20_clauseBy 32 = .ok (.iconst 2, 1) := dk_5 (dk_at dksX20_clauseBy_1 8 rfl rfl)
theorem dX20_clauseBy_33 : decode cX20_clauseBy 33 = .ok (.aload_n 0, 1) := dk_42 (dk_at dksX20_clauseBy_1 9 rfl rfl)
theorem dX20_clauseBy_34 : decode cX20_clauseBy 34 = .ok (.iconst 1, 1) := dk_4 (dk_at dksX20_clauseBy_1 10 rfl rfl)
theorem dX20_clauseBy_35 : decode cX20_clauseBy 35 = .ok (.invokevirtual 255, 3) := dk_182 0 255 (dk_at dksX20_clauseBy_1 11 rfl rfl)
theorem dX20_clauseBy_38 : decode cX20_clauseBy 38 = .ok (.iastore, 1) := dk_79 (dk_at dksX20_clauseBy_1 14 rfl rfl)
theorem dX20_clauseBy_39 : decode cX20_clauseBy 39 = .ok (.aload_n 0, 1) := dk_42 (dk_at dksX20_clauseBy_1 15 rfl rfl)
theorem dX20_clauseBy_40 : decode cX20_clauseBy 40 = .ok (.getfield 50, 3) := dk_180 0 50 (dk_at dksX20_clauseBy_1 16 rfl rfl)
theorem dX20_clauseBy_43 : decode cX20_clauseBy 43 = .ok (.iconst 3, 1) := dk_6 (dk_at dksX20_clauseBy_1 19 rfl rfl)
theorem dX20_clauseBy_44 : decode cX20_clauseBy 44 = .ok (.aload_n 0, 1) := dk_42 (dk_at dksX20_clauseBy_1 20 rfl rfl)
theorem dX20_clauseBy_45 : decode cX20_clauseBy 45 = .ok (.iconst 2, 1) := dk_5 (dk_at dksX20_clauseBy_1 21 rfl rfl)
theorem dX20_clauseBy_46 : decode cX20_clauseBy 46 = .ok (.invokevirtual 255, 3) := dk_182 0 255 (dk_at dksX20_clauseBy_2 0 rfl rfl)
theorem dX20_clauseBy_49 : decode cX20_clauseBy 49 = .ok (.iastore, 1) := dk_79 (dk_at dksX20_clauseBy_2 3 rfl rfl)
theorem dX20_clauseBy_50 : decode cX20_clauseBy 50 = .ok (.aload_n 0, 1) := dk_42 (dk_at dksX20_clauseBy_2 4 rfl rfl)
theorem dX20_clauseBy_51 : decode cX20_clauseBy 51 = .ok (.getfield 50, 3) := dk_180 0 50 (dk_at dksX20_clauseBy_2 5 rfl rfl)
theorem dX20_clauseBy_54 : decode cX20_clauseBy 54 = .ok (.iconst 4, 1) := dk_7 (dk_at dksX20_clauseBy_2 8 rfl rfl)
theorem dX20_clauseBy_55 : decode cX20_clauseBy 55 = .ok (.aload_n 0, 1) := dk_42 (dk_at dksX20_clauseBy_2 9 rfl rfl)
theorem dX20_clauseBy_56 : decode cX20_clauseBy 56 = .ok (.iconst 4, 1) := dk_7 (dk_at dksX20_clauseBy_2 10 rfl rfl)
theorem dX20_clauseBy_57 : decode cX20_clauseBy 57 = .ok (.invokevirtual 255, 3) := dk_182 0 255 (dk_at dksX20_clauseBy_2 11 rfl rfl)
theorem dX20_clauseBy_60 : decode cX20_clauseBy 60 = .ok (.iastore, 1) := dk_79 (dk_at dksX20_clauseBy_2 14 rfl rfl)
theorem dX20_clauseBy_61 : decode cX20_clauseBy 61 = .ok (.aload_n 0, 1) := dk_42 (dk_at dksX20_clauseBy_2 15 rfl rfl)
theorem dX20_clauseBy_62 : decode cX20_clauseBy 62 = .ok (.getfield 50, 3) := dk_180 0 50 (dk_at dksX20_clauseBy_2 16 rfl rfl)
theorem dX20_clauseBy_65 : decode cX20_clauseBy 65 = .ok (.iconst 5, 1) := dk_8 (dk_at dksX20_clauseBy_2 19 rfl rfl)
theorem dX20_clauseBy_66 : decode cX20_clauseBy 66 = .ok (.iload_n 2, 1) := dk_28 (dk_at dksX20_clauseBy_2 20 rfl rfl)
theorem dX20_clauseBy_67 : decode cX20_clauseBy 67 = .ok (.bipush 24, 2) := dk_16 24 (dk_at dksX20_clauseBy_2 21 rfl rfl)
theorem dX20_clauseBy_69 : decode cX20_clauseBy 69 = .ok (.if_icmp .ge 41, 3) := dk_162 0 41 (dk_at dksX20_clauseBy_3 0 rfl rfl)
theorem dX20_clauseBy_72 : decode cX20_clauseBy 72 = .ok (.aload_n 0, 1) := dk_42 (dk_at dksX20_clauseBy_3 3 rfl rfl)
theorem dX20_clauseBy_73 : decode cX20_clauseBy 73 = .ok (.getfield 19, 3) := dk_180 0 19 (dk_at dksX20_clauseBy_3 4 rfl rfl)
theorem dX20_clauseBy_76 : decode cX20_clauseBy 76 = .ok (.iload_n 2, 1) := dk_28 (dk_at dksX20_clauseBy_3 7 rfl rfl)
theorem dX20_clauseBy_77 : decode cX20_clauseBy 77 = .ok (.bipush 24, 2) := dk_16 24 (dk_at dksX20_clauseBy_3 8 rfl rfl)
theorem dX20_clauseBy_79 : decode cX20_clauseBy 79 = .ok (.if_icmp .ge 7, 3) := dk_162 0 7 (dk_at dksX20_clauseBy_3 10 rfl rfl)
theorem dX20_clauseBy_82 : decode cX20_clauseBy 82 = .ok (.iload_n 2, 1) := dk_28 (dk_at dksX20_clauseBy_3 13 rfl rfl)
theorem dX20_clauseBy_83 : decode cX20_clauseBy 83 = .ok (.goto 4, 3) := dk_167 0 4 (dk_at dksX20_clauseBy_3 14 rfl rfl)
theorem dX20_clauseBy_86 : decode cX20_clauseBy 86 = .ok (.iconst 0, 1) := dk_3 (dk_at dksX20_clauseBy_3 17 rfl rfl)
theorem dX20_clauseBy_87 : decode cX20_clauseBy 87 = .ok (.iaload, 1) := dk_46 (dk_at dksX20_clauseBy_3 18 rfl rfl)
theorem dX20_clauseBy_88 : decode cX20_clauseBy 88 = .ok (.ifCond .le 22, 3) := dk_158 0 22 (dk_at dksX20_clauseBy_3 19 rfl rfl)
theorem dX20_clauseBy_91 : decode cX20_clauseBy 91 = .ok (.aload_n 0, 1) := dk_42 (dk_at dksX20_clauseBy_3 22 rfl rfl)
theorem dX20_clauseBy_92 : decode cX20_clauseBy 92 = .ok (.getfield 19, 3) := dk_180 0 19 (dk_at dksX20_clauseBy_4 0 rfl rfl)
theorem dX20_clauseBy_95 : decode cX20_clauseBy 95 = .ok (.iload_n 2, 1) := dk_28 (dk_at dksX20_clauseBy_4 3 rfl rfl)
theorem dX20_clauseBy_96 : decode cX20_clauseBy 96 = .ok (.bipush 24, 2) := dk_16 24 (dk_at dksX20_clauseBy_4 4 rfl rfl)
theorem dX20_clauseBy_98 : decode cX20_clauseBy 98 = .ok (.if_icmp .ge 7, 3) := dk_162 0 7 (dk_at dksX20_clauseBy_4 6 rfl rfl)
theorem dX20_clauseBy_101 : decode cX20_clauseBy 101 = .ok (.iload_n 2, 1) := dk_28 (dk_at dksX20_clauseBy_4 9 rfl rfl)
theorem dX20_clauseBy_102 : decode cX20_clauseBy 102 = .ok (.goto 4, 3) := dk_167 0 4 (dk_at dksX20_clauseBy_4 10 rfl rfl)
theorem dX20_clauseBy_105 : decode cX20_clauseBy 105 = .ok (.iconst 0, 1) := dk_3 (dk_at dksX20_clauseBy_4 13 rfl rfl)
theorem dX20_clauseBy_106 : decode cX20_clauseBy 106 = .ok (.iaload, 1) := dk_46 (dk_at dksX20_clauseBy_4 14 rfl rfl)
theorem dX20_clauseBy_107 : decode cX20_clauseBy 107 = .ok (.goto 4, 3) := dk_167 0 4 (dk_at dksX20_clauseBy_4 15 rfl rfl)
theorem dX20_clauseBy_110 : decode cX20_clauseBy 110 = .ok (.iconst 0, 1) := dk_3 (dk_at dksX20_clauseBy_4 18 rfl rfl)
theorem dX20_clauseBy_111 : decode cX20_clauseBy 111 = .ok (.iastore, 1) := dk_79 (dk_at dksX20_clauseBy_4 19 rfl rfl)
theorem dX20_clauseBy_112 : decode cX20_clauseBy 112 = .ok (.iconst 0, 1) := dk_3 (dk_at dksX20_clauseBy_4 20 rfl rfl)
theorem dX20_clauseBy_113 : decode cX20_clauseBy 113 = .ok (.istore_n 3, 1) := dk_62 (dk_at dksX20_clauseBy_4 21 rfl rfl)
theorem dX20_clauseBy_114 : decode cX20_clauseBy 114 = .ok (.iload_n 3, 1) := dk_29 (dk_at dksX20_clauseBy_4 22 rfl rfl)
theorem dX20_clauseBy_115 : decode cX20_clauseBy 115 = .ok (.aload_n 0, 1) := dk_42 (dk_at dksX20_clauseBy_4 23 rfl rfl)
theorem dX20_clauseBy_116 : decode cX20_clauseBy 116 = .ok (.getfield 235, 3) := dk_180 0 235 (dk_at dksX20_clauseBy_5 0 rfl rfl)
theorem dX20_clauseBy_119 : decode cX20_clauseBy 119 = .ok (.if_icmp .ge 42, 3) := dk_162 0 42 (dk_at dksX20_clauseBy_5 3 rfl rfl)
theorem dX20_clauseBy_122 : decode cX20_clauseBy 122 = .ok (.aload_n 0, 1) := dk_42 (dk_at dksX20_clauseBy_5 6 rfl rfl)
theorem dX20_clauseBy_123 : decode cX20_clauseBy 123 = .ok (.aload_n 0, 1) := dk_42 (dk_at dksX20_clauseBy_5 7 rfl rfl)
theorem dX20_clauseBy_124 : decode cX20_clauseBy 124 = .ok (.getfield 40, 3) := dk_180 0 40 (dk_at dksX20_clauseBy_5 8 rfl rfl)
theorem dX20_clauseBy_127 : decode cX20_clauseBy 127 = .ok (.aload_n 0, 1) := dk_42 (dk_at dksX20_clauseBy_5 11 rfl rfl)
theorem dX20_clauseBy_128 : decode cX20_clauseBy 128 = .ok (.getfield 37, 3) := dk_180 0 37 (dk_at dksX20_clauseBy_5 12 rfl rfl)
theorem dX20_clauseBy_131 : decode cX20_clauseBy 131 = .ok (.iconst 3, 1) := dk_6 (dk_at dksX20_clauseBy_5 15 rfl rfl)
theorem dX20_clauseBy_132 : decode cX20_clauseBy 132 = .ok (.iload_n 3, 1) := dk_29 (dk_at dksX20_clauseBy_5 16 rfl rfl)
theorem dX20_clauseBy_133 : decode cX20_clauseBy 133 = .ok (.imul, 1) := dk_104 (dk_at dksX20_clauseBy_5 17 rfl rfl)
theorem dX20_clauseBy_134 : decode cX20_clauseBy 134 = .ok (.iconst 1, 1) := dk_4 (dk_at dksX20_clauseBy_5 18 rfl rfl)
theorem dX20_clauseBy_135 : decode cX20_clauseBy 135 = .ok (.iadd, 1) := dk_96 (dk_at dksX20_clauseBy_5 19 rfl rfl)
theorem dX20_clauseBy_136 : decode cX20_clauseBy 136 = .ok (.iaload, 1) := dk_46 (dk_at dksX20_clauseBy_5 20 rfl rfl)
theorem dX20_clauseBy_137 : decode cX20_clauseBy 137 = .ok (.aload_n 0, 1) := dk_42 (dk_at dksX20_clauseBy_5 21 rfl rfl)
theorem dX20_clauseBy_138 : decode cX20_clauseBy 138 = .ok (.getfield 37, 3) := dk_180 0 37 (dk_at dksX20_clauseBy_6 0 rfl rfl)
theorem dX20_clauseBy_141 : decode cX20_clauseBy 141 = .ok (.iconst 3, 1) := dk_6 (dk_at dksX20_clauseBy_6 3 rfl rfl)
theorem dX20_clauseBy_142 : decode cX20_clauseBy 142 = .ok (.iload_n 3, 1) := dk_29 (dk_at dksX20_clauseBy_6 4 rfl rfl)
theorem dX20_clauseBy_143 : decode cX20_clauseBy 143 = .ok (.imul, 1) := dk_104 (dk_at dksX20_clauseBy_6 5 rfl rfl)
theorem dX20_clauseBy_144 : decode cX20_clauseBy 144 = .ok (.iconst 2, 1) := dk_5 (dk_at dksX20_clauseBy_6 6 rfl rfl)
theorem dX20_clauseBy_145 : decode cX20_clauseBy 145 = .ok (.iadd, 1) := dk_96 (dk_at dksX20_clauseBy_6 7 rfl rfl)
theorem dX20_clauseBy_146 : decode cX20_clauseBy 146 = .ok (.iaload, 1) := dk_46 (dk_at dksX20_clauseBy_6 8 rfl rfl)
theorem dX20_clauseBy_147 : decode cX20_clauseBy 147 = .ok (.invokevirtual 282, 3) := dk_182 1 26 (dk_at dksX20_clauseBy_6 9 rfl rfl)
theorem dX20_clauseBy_150 : decode cX20_clauseBy 150 = .ok (.ifCond .eq 5, 3) := dk_153 0 5 (dk_at dksX20_clauseBy_6 12 rfl rfl)
theorem dX20_clauseBy_153 : decode cX20_clauseBy 153 = .ok (.iload_n 3, 1) := dk_29 (dk_at dksX20_clauseBy_6 15 rfl rfl)
theorem dX20_clauseBy_154 : decode cX20_clauseBy 154 = .ok (.ireturn, 1) := dk_172 (dk_at dksX20_clauseBy_6 16 rfl rfl)
theorem dX20_clauseBy_155 : decode cX20_clauseBy 155 = .ok (.iinc 3 1, 3) := dk_132 3 1 (dk_at dksX20_clauseBy_6 17 rfl rfl)
theorem dX20_clauseBy_158 : decode cX20_clauseBy 158 = .ok (.goto (-44), 3) := dk_167 255 212 (dk_at dksX20_clauseBy_6 20 rfl rfl)
theorem dX20_clauseBy_161 : decode cX20_clauseBy 161 = .ok (.bipush (-9), 2) := dk_16 247 (dk_at dksX20_clauseBy_7 0 rfl rfl)
theorem dX20_clauseBy_163 : decode cX20_clauseBy 163 = .ok (.ireturn, 1) := dk_172 (dk_at dksX20_clauseBy_7 2 rfl rfl)
abbrev cX20_lossOf : ByteArray := prog_38_method_45_code
def yX20_lossOf : MethodName := ⟨RX20, "lossOf", "(II)I"⟩
def dkwX20_lossOf_0 : List UInt8 := [26, 27, 100, 17, 3, 232, 104, 26, 108, 172]
abbrev dktX20_lossOf_0 : List UInt8 := dkwX20_lossOf_0 ++ []
theorem dksX20_lossOf_0 : cX20_lossOf.data.toList.drop 0 = dktX20_lossOf_0 := by decide +kernel
theorem dX20_lossOf_0 : decode cX20_lossOf 0 = .ok (.iload_n 0, 1) := dk_26 (dk_at dksX20_lossOf_0 0 rfl rfl)
theorem dX20_lossOf_1 : decode cX20_lossOf 1 = .ok (.iload_n 1, 1) := dk_27 (dk_at dksX20_lossOf_0 1 rfl rfl)
theorem dX20_lossOf_2 : decode cX20_lossOf 2 = .ok (.isub, 1) := dk_100 (dk_at dksX20_lossOf_0 2 rfl rfl)
theorem dX20_lossOf_3 : decode cX20_lossOf 3 = .ok (.sipush 1000, 3) := dk_17 3 232 (dk_at dksX20_lossOf_0 3 rfl rfl)
theorem dX20_lossOf_6 : decode cX20_lossOf 6 = .ok (.imul, 1) := dk_104 (dk_at dksX20_lossOf_0 6 rfl rfl)
theorem dX20_lossOf_7 : decode cX20_lossOf 7 = .ok (.iload_n 0, 1) := dk_26 (dk_at dksX20_lossOf_0 7 rfl rfl)
theorem dX20_lossOf_8 : decode cX20_lossOf 8 = .ok (.idiv, 1) := dk_108 (dk_at dksX20_lossOf_0 8 rfl rfl)
theorem dX20_lossOf_9 : decode cX20_lossOf 9 = .ok (.ireturn, 1) := dk_172 (dk_at dksX20_lossOf_0 9 rfl rfl)
abbrev cX20_isSo : ByteArray := prog_38_method_21_code
def yX20_isSo : MethodName := ⟨RX20, "isSo", "([III)Z"⟩
def dkwX20_isSo_13 : List UInt8 := [51, 153, 0, 7, 4, 167, 0, 4, 3, 172]
abbrev dktX20_isSo_13 : List UInt8 := dkwX20_isSo_13 ++ []
def dkwX20_isSo_12 : List UInt8 := [3, 84, 132, 4, 1, 132, 5, 2, 132, 5, 1, 167, 254, 227, 21, 4, 153, 0, 12, 42, 180, 0, 59, 3]
abbrev dktX20_isSo_12 : List UInt8 := dkwX20_isSo_12 ++ dktX20_isSo_13
def dkwX20_isSo_11 : List UInt8 := [21, 8, 160, 0, 7, 4, 167, 0, 19, 3, 167, 0, 15, 21, 7, 21, 8, 164, 0, 7, 4, 167, 0, 4]
abbrev dktX20_isSo_11 : List UInt8 := dkwX20_isSo_11 ++ dktX20_isSo_12
def dkwX20_isSo_10 : List UInt8 := [162, 0, 7, 4, 167, 0, 45, 3, 167, 0, 41, 43, 21, 5, 4, 96, 46, 16, 61, 160, 0, 18, 21, 7]
abbrev dktX20_isSo_10 : List UInt8 := dkwX20_isSo_10 ++ dktX20_isSo_11
def dkwX20_isSo_9 : List UInt8 := [54, 8, 42, 180, 0, 59, 21, 4, 43, 21, 5, 4, 96, 46, 16, 60, 160, 0, 18, 21, 7, 21, 8]
abbrev dktX20_isSo_9 : List UInt8 := dkwX20_isSo_9 ++ dktX20_isSo_10
def dkwX20_isSo_8 : List UInt8 := [42, 180, 0, 50, 43, 21, 5, 5, 96, 46, 17, 78, 32, 100, 46, 167, 0, 9, 43, 21, 5, 5, 96, 46]
abbrev dktX20_isSo_8 : List UInt8 := dkwX20_isSo_8 ++ dktX20_isSo_9
def dkwX20_isSo_7 : List UInt8 := [17, 78, 32, 100, 46, 167, 0, 5, 21, 6, 54, 7, 43, 21, 5, 5, 96, 46, 17, 78, 32, 161, 0, 21]
abbrev dktX20_isSo_7 : List UInt8 := dkwX20_isSo_7 ++ dktX20_isSo_8
def dkwX20_isSo_6 : List UInt8 := [167, 0, 4, 3, 84, 167, 0, 144, 21, 6, 17, 78, 32, 161, 0, 17, 42, 180, 0, 50, 21, 6]
abbrev dktX20_isSo_6 : List UInt8 := dkwX20_isSo_6 ++ dktX20_isSo_7
def dkwX20_isSo_5 : List UInt8 := [42, 180, 0, 59, 21, 4, 4, 100, 51, 154, 0, 13, 42, 180, 0, 59, 21, 4, 51, 153, 0, 7, 4]
abbrev dktX20_isSo_5 : List UInt8 := dkwX20_isSo_5 ++ dktX20_isSo_6
def dkwX20_isSo_4 : List UInt8 := [4, 100, 51, 153, 0, 17, 42, 180, 0, 59, 21, 4, 51, 153, 0, 7, 4, 167, 0, 34, 3, 167, 0, 30]
abbrev dktX20_isSo_4 : List UInt8 := dkwX20_isSo_4 ++ dktX20_isSo_5
def dkwX20_isSo_3 : List UInt8 := [132, 4, 255, 42, 180, 0, 59, 21, 4, 4, 100, 21, 6, 18, 205, 160, 0, 33, 42, 180, 0, 59, 21, 4]
abbrev dktX20_isSo_3 : List UInt8 := dkwX20_isSo_3 ++ dktX20_isSo_4
def dkwX20_isSo_2 : List UInt8 := [167, 0, 4, 3, 84, 167, 0, 237, 21, 6, 18, 205, 159, 0, 10, 21, 6, 18, 206, 160, 0, 82]
abbrev dktX20_isSo_2 : List UInt8 := dkwX20_isSo_2 ++ dktX20_isSo_3
def dkwX20_isSo_1 : List UInt8 := [160, 0, 32, 42, 180, 0, 59, 21, 4, 4, 100, 42, 180, 0, 59, 21, 4, 4, 100, 51, 154, 0, 7, 4]
abbrev dktX20_isSo_1 : List UInt8 := dkwX20_isSo_1 ++ dktX20_isSo_2
def dkwX20_isSo_0 : List UInt8 := [3, 54, 4, 28, 54, 5, 21, 5, 29, 162, 1, 29, 43, 21, 5, 46, 54, 6, 21, 6, 18, 191]
abbrev dktX20_isSo_0 : List UInt8 := dkwX20_isSo_0 ++ dktX20_isSo_1
theorem dksX20_isSo_0 : cX20_isSo.data.toList.drop 0 = dktX20_isSo_0 := by decide +kernel
theorem dksX20_isSo_1 : cX20_isSo.data.toList.drop 22 = dktX20_isSo_1 := dk_seg dksX20_isSo_0 22 rfl rfl
theorem dksX20_isSo_2 : cX20_isSo.data.toList.drop 46 = dktX20_isSo_2 := dk_seg dksX20_isSo_1 24 rfl rfl
theorem dksX20_isSo_3 : cX20_isSo.data.toList.drop 68 = dktX20_isSo_3 := dk_seg dksX20_isSo_2 22 rfl rfl
theorem dksX20_isSo_4 : cX20_isSo.data.toList.drop 92 = dktX20_isSo_4 := dk_seg dksX20_isSo_3 24 rfl rfl
theorem dksX20_isSo_5 : cX20_isSo.data.toList.drop 116 = dktX20_isSo_5 := dk_seg dksX20_isSo_4 24 rfl rfl
theorem dksX20_isSo_6 : cX20_isSo.data.toList.drop 139 = dktX20_isSo_6 := dk_seg dksX20_isSo_5 23 rfl rfl
theorem dksX20_isSo_7 : cX20_isSo.data.toList.drop 161 = dktX20_isSo_7 := dk_seg dksX20_isSo_6 22 rfl rfl
theorem dksX20_isSo_8 : cX20_isSo.data.toList.drop 185 = dktX20_isSo_8 := dk_seg dksX20_isSo_7 24 rfl rfl
theorem dksX20_isSo_9 : cX20_isSo.data.toList.drop 209 = dktX20_isSo_9 := dk_seg dksX20_isSo_8 24 rfl rfl
theorem dksX20_isSo_10 : cX20_isSo.data.toList.drop 232 = dktX20_isSo_10 := dk_seg dksX20_isSo_9 23 rfl rfl
theorem dksX20_isSo_11 : cX20_isSo.data.toList.drop 256 = dktX20_isSo_11 := dk_seg dksX20_isSo_10 24 rfl rfl
theorem dksX20_isSo_12 : cX20_isSo.data.toList.drop 280 = dktX20_isSo_12 := dk_seg dksX20_isSo_11 24 rfl rfl
theorem dksX20_isSo_13 : cX20_isSo.data.toList.drop 304 = dktX20_isSo_13 := dk_seg dksX20_isSo_12 24 rfl rfl
theorem dX20_isSo_0 : decode cX20_isSo 0 = .ok (.iconst 0, 1) := dk_3 (dk_at dksX20_isSo_0 0 rfl rfl)
theorem dX20_isSo_1 : decode cX20_isSo 1 = .ok (.istore 4, 2) := dk_54 4 (dk_at dksX20_isSo_0 1 rfl rfl)
theorem dX20_isSo_3 : decode cX20_isSo 3 = .ok (.iload_n 2, 1) := dk_28 (dk_at dksX20_isSo_0 3 rfl rfl)
theorem dX20_isSo_4 : decode cX20_isSo 4 = .ok (.istore 5, 2) := dk_54 5 (dk_at dksX20_isSo_0 4 rfl rfl)
theorem dX20_isSo_6 : decode cX20_isSo 6 = .ok (.iload 5, 2) := dk_21 5 (dk_at dksX20_isSo_0 6 rfl rfl)
theorem dX20_isSo_8 : decode cX20_isSo 8 = .ok (.iload_n 3, 1) := dk_29 (dk_at dksX20_isSo_0 8 rfl rfl)
theorem dX20_isSo_9 : decode cX20_isSo 9 = .ok (.if_icmp .ge 285, 3) := dk_162 1 29 (dk_at dksX20_isSo_0 9 rfl rfl)
theorem dX20_isSo_12 : decode cX20_isSo 12 = .ok (.aload_n 1, 1) := dk_43 (dk_at dksX20_isSo_0 12 rfl rfl)
theorem dX20_isSo_13 : decode cX20_isSo 13 = .ok (.iload 5, 2) := dk_21 5 (dk_at dksX20_isSo_0 13 rfl rfl)
theorem dX20_isSo_15 : decode cX20_isSo 15 = .ok (.iaload, 1) := dk_46 (dk_at dksX20_isSo_0 15 rfl rfl)
theorem dX20_isSo_16 : decode cX20_isSo 16 = .ok (.istore 6, 2) := dk_54 6 (dk_at dksX20_isSo_0 16 rfl rfl)
theorem dX20_isSo_18 : decode cX20_isSo 18 = .ok (.iload 6, 2) := dk_21 6 (dk_at dksX20_isSo_0 18 rfl rfl)
theorem dX20_isSo_20 : decode cX20_isSo 20 = .ok (.ldc 191, 2) := dk_18 191 (dk_at dksX20_isSo_0 20 rfl rfl)
theorem dX20_isSo_22 : decode cX20_isSo 22 = .ok (.if_icmp .ne 32, 3) := dk_160 0 32 (dk_at dksX20_isSo_1 0 rfl rfl)
theorem dX20_isSo_25 : decode cX20_isSo 25 = .ok (.aload_n 0, 1) := dk_42 (dk_at dksX20_isSo_1 3 rfl rfl)
theorem dX20_isSo_26 : decode cX20_isSo 26 = .ok (.getfield 59, 3) := dk_180 0 59 (dk_at dksX20_isSo_1 4 rfl rfl)
theorem dX20_isSo_29 : decode cX20_isSo 29 = .ok (.iload 4, 2) := dk_21 4 (dk_at dksX20_isSo_1 7 rfl rfl)
theorem dX20_isSo_31 : decode cX20_isSo 31 = .ok (.iconst 1, 1) := dk_4 (dk_at dksX20_isSo_1 9 rfl rfl)
theorem dX20_isSo_32 : decode cX20_isSo 32 = .ok (.isub, 1) := dk_100 (dk_at dksX20_isSo_1 10 rfl rfl)
theorem dX20_isSo_33 : decode cX20_isSo 33 = .ok (.aload_n 0, 1) := dk_42 (dk_at dksX20_isSo_1 11 rfl rfl)
theorem dX20_isSo_34 : decode cX20_isSo 34 = .ok (.getfield 59, 3) := dk_180 0 59 (dk_at dksX20_isSo_1 12 rfl rfl)
theorem dX20_isSo_37 : decode cX20_isSo 37 = .ok (.iload 4, 2) := dk_21 4 (dk_at dksX20_isSo_1 15 rfl rfl)
theorem dX20_isSo_39 : decode cX20_isSo 39 = .ok (.iconst 1, 1) := dk_4 (dk_at dksX20_isSo_1 17 rfl rfl)
theorem dX20_isSo_40 : decode cX20_isSo 40 = .ok (.isub, 1) := dk_100 (dk_at dksX20_isSo_1 18 rfl rfl)
theorem dX20_isSo_41 : decode cX20_isSo 41 = .ok (.baload, 1) := dk_51 (dk_at dksX20_isSo_1 19 rfl rfl)
theorem dX20_isSo_42 : decode cX20_isSo 42 = .ok (.ifCond .ne 7, 3) := dk_154 0 7 (dk_at dksX20_isSo_1 20 rfl rfl)
theorem dX20_isSo_45 : decode cX20_isSo 45 = .ok (.iconst 1, 1) := dk_4 (dk_at dksX20_isSo_1 23 rfl rfl)
theorem dX20_isSo_46 : decode cX20_isSo 46 = .ok (.goto 4, 3) := dk_167 0 4 (dk_at dksX20_isSo_2 0 rfl rfl)
theorem dX20_isSo_49 : decode cX20_isSo 49 = .ok (.iconst 0, 1) := dk_3 (dk_at dksX20_isSo_2 3 rfl rfl)
theorem dX20_isSo_50 : decode cX20_isSo 50 = .ok (.bastore, 1) := dk_84 (dk_at dksX20_isSo_2 4 rfl rfl)
theorem dX20_isSo_51 : decode cX20_isSo 51 = .ok (.goto 237, 3) := dk_167 0 237 (dk_at dksX20_isSo_2 5 rfl rfl)
theorem dX20_isSo_54 : decode cX20_isSo 54 = .ok (.iload 6, 2) := dk_21 6 (dk_at dksX20_isSo_2 8 rfl rfl)
theorem dX20_isSo_56 : decode cX20_isSo 56 = .ok (.ldc 205, 2) := dk_18 205 (dk_at dksX20_isSo_2 10 rfl rfl)
theorem dX20_isSo_58 : decode cX20_isSo 58 = .ok (.if_icmp .eq 10, 3) := dk_159 0 10 (dk_at dksX20_isSo_2 12 rfl rfl)
theorem dX20_isSo_61 : decode cX20_isSo 61 = .ok (.iload 6, 2) := dk_21 6 (dk_at dksX20_isSo_2 15 rfl rfl)
theorem dX20_isSo_63 : decode cX20_isSo 63 = .ok (.ldc 206, 2) := dk_18 206 (dk_at dksX20_isSo_2 17 rfl rfl)
theorem dX20_isSo_65 : decode cX20_isSo 65 = .ok (.if_icmp .ne 82, 3) := dk_160 0 82 (dk_at dksX20_isSo_2 19 rfl rfl)
theorem dX20_isSo_68 : decode cX20_isSo 68 = .ok (.iinc 4 (-1), 3) := dk_132 4 255 (dk_at dksX20_isSo_3 0 rfl rfl)
theorem dX20_isSo_71 : decode cX20_isSo 71 = .ok (.aload_n 0, 1) := dk_42 (dk_at dksX20_isSo_3 3 rfl rfl)
theorem dX20_isSo_72 : decode cX20_isSo 72 = .ok (.getfield 59, 3) := dk_180 0 59 (dk_at dksX20_isSo_3 4 rfl rfl)
theorem dX20_isSo_75 : decode cX20_isSo 75 = .ok (.iload 4, 2) := dk_21 4 (dk_at dksX20_isSo_3 7 rfl rfl)
theorem dX20_isSo_77 : decode cX20_isSo 77 = .ok (.iconst 1, 1) := dk_4 (dk_at dksX20_isSo_3 9 rfl rfl)
theorem dX20_isSo_78 : decode cX20_isSo 78 = .ok (.isub, 1) := dk_100 (dk_at dksX20_isSo_3 10 rfl rfl)
theorem dX20_isSo_79 : decode cX20_isSo 79 = .ok (.iload 6, 2) := dk_21 6 (dk_at dksX20_isSo_3 11 rfl rfl)
theorem dX20_isSo_81 : decode cX20_isSo 81 = .ok (.ldc 205, 2) := dk_18 205 (dk_at dksX20_isSo_3 13 rfl rfl)
theorem dX20_isSo_83 : decode cX20_isSo 83 = .ok (.if_icmp .ne 33, 3) := dk_160 0 33 (dk_at dksX20_isSo_3 15 rfl rfl)
theorem dX20_isSo_86 : decode cX20_isSo 86 = .ok (.aload_n 0, 1) := dk_42 (dk_at dksX20_isSo_3 18 rfl rfl)
theorem dX20_isSo_87 : decode cX20_isSo 87 = .ok (.getfield 59, 3) := dk_180 0 59 (dk_at dksX20_isSo_3 19 rfl rfl)
theorem dX20_isSo_90 : decode cX20_isSo 90 = .ok (.iload 4, 2) := dk_21 4 (dk_at dksX20_isSo_3 22 rfl rfl)
theorem dX20_isSo_92 : decode cX20_isSo 92 = .ok (.iconst 1, 1) := dk_4 (dk_at dksX20_isSo_4 0 rfl rfl)
theorem dX20_isSo_93 : decode cX20_isSo 93 = .ok (.isub, 1) := dk_100 (dk_at dksX20_isSo_4 1 rfl rfl)
theorem dX20_isSo_94 : decode cX20_isSo 94 = .ok (.baload, 1) := dk_51 (dk_at dksX20_isSo_4 2 rfl rfl)
theorem dX20_isSo_95 : decode cX20_isSo 95 = .ok (.ifCond .eq 17, 3) := dk_153 0 17 (dk_at dksX20_isSo_4 3 rfl rfl)
theorem dX20_isSo_98 : decode cX20_isSo 98 = .ok (.aload_n 0, 1) := dk_42 (dk_at dksX20_isSo_4 6 rfl rfl)
theorem dX20_isSo_99 : decode cX20_isSo 99 = .ok (.getfield 59, 3) := dk_180 0 59 (dk_at dksX20_isSo_4 7 rfl rfl)
theorem dX20_isSo_102 : decode cX20_isSo 102 = .ok (.iload 4, 2) := dk_21 4 (dk_at dksX20_isSo_4 10 rfl rfl)
theorem dX20_isSo_104 : decode cX20_isSo 104 = .ok (.baload, 1) := dk_51 (dk_at dksX20_isSo_4 12 rfl rfl)
theorem dX20_isSo_105 : decode cX20_isSo 105 = .ok (.ifCond .eq 7, 3) := dk_153 0 7 (dk_at dksX20_isSo_4 13 rfl rfl)
theorem dX20_isSo_108 : decode cX20_isSo 108 = .ok (.iconst 1, 1) := dk_4 (dk_at dksX20_isSo_4 16 rfl rfl)
theorem dX20_isSo_109 : decode cX20_isSo 109 = .ok (.goto 34, 3) := dk_167 0 34 (dk_at dksX20_isSo_4 17 rfl rfl)
theorem dX20_isSo_112 : decode cX20_isSo 112 = .ok (.iconst 0, 1) := dk_3 (dk_at dksX20_isSo_4 20 rfl rfl)
theorem dX20_isSo_113 : decode cX20_isSo 113 = .ok (.goto 30, 3) := dk_167 0 30 (dk_at dksX20_isSo_4 21 rfl rfl)
theorem dX20_isSo_116 : decode cX20_isSo 116 = .ok (.aload_n 0, 1) := dk_42 (dk_at dksX20_isSo_5 0 rfl rfl)
theorem dX20_isSo_117 : decode cX20_isSo 117 = .ok (.getfield 59, 3) := dk_180 0 59 (dk_at dksX20_isSo_5 1 rfl rfl)
theorem dX20_isSo_120 : decode cX20_isSo 120 = .ok (.iload 4, 2) := dk_21 4 (dk_at dksX20_isSo_5 4 rfl rfl)
theorem dX20_isSo_122 : decode cX20_isSo 122 = .ok (.iconst 1, 1) := dk_4 (dk_at dksX20_isSo_5 6 rfl rfl)
theorem dX20_isSo_123 : decode cX20_isSo 123 = .ok (.isub, 1) := dk_100 (dk_at dksX20_isSo_5 7 rfl rfl)
theorem dX20_isSo_124 : decode cX20_isSo 124 = .ok (.baload, 1) := dk_51 (dk_at dksX20_isSo_5 8 rfl rfl)
theorem dX20_isSo_125 : decode cX20_isSo 125 = .ok (.ifCond .ne 13, 3) := dk_154 0 13 (dk_at dksX20_isSo_5 9 rfl rfl)
theorem dX20_isSo_128 : decode cX20_isSo 128 = .ok (.aload_n 0, 1) := dk_42 (dk_at dksX20_isSo_5 12 rfl rfl)
theorem dX20_isSo_129 : decode cX20_isSo 129 = .ok (.getfield 59, 3) := dk_180 0 59 (dk_at dksX20_isSo_5 13 rfl rfl)
theorem dX20_isSo_132 : decode cX20_isSo 132 = .ok (.iload 4, 2) := dk_21 4 (dk_at dksX20_isSo_5 16 rfl rfl)
theorem dX20_isSo_134 : decode cX20_isSo 134 = .ok (.baload, 1) := dk_51 (dk_at dksX20_isSo_5 18 rfl rfl)
theorem dX20_isSo_135 : decode cX20_isSo 135 = .ok (.ifCond .eq 7, 3) := dk_153 0 7 (dk_at dksX20_isSo_5 19 rfl rfl)
theorem dX20_isSo_138 : decode cX20_isSo 138 = .ok (.iconst 1, 1) := dk_4 (dk_at dksX20_isSo_5 22 rfl rfl)
theorem dX20_isSo_139 : decode cX20_isSo 139 = .ok (.goto 4, 3) := dk_167 0 4 (dk_at dksX20_isSo_6 0 rfl rfl)
theorem dX20_isSo_142 : decode cX20_isSo 142 = .ok (.iconst 0, 1) := dk_3 (dk_at dksX20_isSo_6 3 rfl rfl)
theorem dX20_isSo_143 : decode cX20_isSo 143 = .ok (.bastore, 1) := dk_84 (dk_at dksX20_isSo_6 4 rfl rfl)
theorem dX20_isSo_144 : decode cX20_isSo 144 = .ok (.goto 144, 3) := dk_167 0 144 (dk_at dksX20_isSo_6 5 rfl rfl)
theorem dX20_isSo_147 : decode cX20_isSo 147 = .ok (.iload 6, 2) := dk_21 6 (dk_at dksX20_isSo_6 8 rfl rfl)
theorem dX20_isSo_149 : decode cX20_isSo 149 = .ok (.sipush 20000, 3) := dk_17 78 32 (dk_at dksX20_isSo_6 10 rfl rfl)
theorem dX20_isSo_152 : decode cX20_isSo 152 = .ok (.if_icmp .lt 17, 3) := dk_161 0 17 (dk_at dksX20_isSo_6 13 rfl rfl)
theorem dX20_isSo_155 : decode cX20_isSo 155 = .ok (.aload_n 0, 1) := dk_42 (dk_at dksX20_isSo_6 16 rfl rfl)
theorem dX20_isSo_156 : decode cX20_isSo 156 = .ok (.getfield 50, 3) := dk_180 0 50 (dk_at dksX20_isSo_6 17 rfl rfl)
theorem dX20_isSo_159 : decode cX20_isSo 159 = .ok (.iload 6, 2) := dk_21 6 (dk_at dksX20_isSo_6 20 rfl rfl)
theorem dX20_isSo_161 : decode cX20_isSo 161 = .ok (.sipush 20000, 3) := dk_17 78 32 (dk_at dksX20_isSo_7 0 rfl rfl)
theorem dX20_isSo_164 : decode cX20_isSo 164 = .ok (.isub, 1) := dk_100 (dk_at dksX20_isSo_7 3 rfl rfl)
theorem dX20_isSo_165 : decode cX20_isSo 165 = .ok (.iaload, 1) := dk_46 (dk_at dksX20_isSo_7 4 rfl rfl)
theorem dX20_isSo_166 : decode cX20_isSo 166 = .ok (.goto 5, 3) := dk_167 0 5 (dk_at dksX20_isSo_7 5 rfl rfl)
theorem dX20_isSo_169 : decode cX20_isSo 169 = .ok (.iload 6, 2) := dk_21 6 (dk_at dksX20_isSo_7 8 rfl rfl)
theorem dX20_isSo_171 : decode cX20_isSo 171 = .ok (.istore 7, 2) := dk_54 7 (dk_at dksX20_isSo_7 10 rfl rfl)
theorem dX20_isSo_173 : decode cX20_isSo 173 = .ok (.aload_n 1, 1) := dk_43 (dk_at dksX20_isSo_7 12 rfl rfl)
theorem dX20_isSo_174 : decode cX20_isSo 174 = .ok (.iload 5, 2) := dk_21 5 (dk_at dksX20_isSo_7 13 rfl rfl)
theorem dX20_isSo_176 : decode cX20_isSo 176 = .ok (.iconst 2, 1) := dk_5 (dk_at dksX20_isSo_7 15 rfl rfl)
theorem dX20_isSo_177 : decode cX20_isSo 177 = .ok (.iadd, 1) := dk_96 (dk_at dksX20_isSo_7 16 rfl rfl)
theorem dX20_isSo_178 : decode cX20_isSo 178 = .ok (.iaload, 1) := dk_46 (dk_at dksX20_isSo_7 17 rfl rfl)
theorem dX20_isSo_179 : decode cX20_isSo 179 = .ok (.sipush 20000, 3) := dk_17 78 32 (dk_at dksX20_isSo_7 18 rfl rfl)
theorem dX20_isSo_182 : decode cX20_isSo 182 = .ok (.if_icmp .lt 21, 3) := dk_161 0 21 (dk_at dksX20_isSo_7 21 rfl rfl)
theorem dX20_isSo_185 : decode cX20_isSo 185 = .ok (.aload_n 0, 1) := dk_42 (dk_at dksX20_isSo_8 0 rfl rfl)
theorem dX20_isSo_186 : decode cX20_isSo 186 = .ok (.getfield 50, 3) := dk_180 0 50 (dk_at dksX20_isSo_8 1 rfl rfl)
theorem dX20_isSo_189 : decode cX20_isSo 189 = .ok (.aload_n 1, 1) := dk_43 (dk_at dksX20_isSo_8 4 rfl rfl)
theorem dX20_isSo_190 : decode cX20_isSo 190 = .ok (.iload 5, 2) := dk_21 5 (dk_at dksX20_isSo_8 5 rfl rfl)
theorem dX20_isSo_192 : decode cX20_isSo 192 = .ok (.iconst 2, 1) := dk_5 (dk_at dksX20_isSo_8 7 rfl rfl)
theorem dX20_isSo_193 : decode cX20_isSo 193 = .ok (.iadd, 1) := dk_96 (dk_at dksX20_isSo_8 8 rfl rfl)
theorem dX20_isSo_194 : decode cX20_isSo 194 = .ok (.iaload, 1) := dk_46 (dk_at dksX20_isSo_8 9 rfl rfl)
theorem dX20_isSo_195 : decode cX20_isSo 195 = .ok (.sipush 20000, 3) := dk_17 78 32 (dk_at dksX20_isSo_8 10 rfl rfl)
theorem dX20_isSo_198 : decode cX20_isSo 198 = .ok (.isub, 1) := dk_100 (dk_at dksX20_isSo_8 13 rfl rfl)
theorem dX20_isSo_199 : decode cX20_isSo 199 = .ok (.iaload, 1) := dk_46 (dk_at dksX20_isSo_8 14 rfl rfl)
theorem dX20_isSo_200 : decode cX20_isSo 200 = .ok (.goto 9, 3) := dk_167 0 9 (dk_at dksX20_isSo_8 15 rfl rfl)
theorem dX20_isSo_203 : decode cX20_isSo 203 = .ok (.aload_n 1, 1) := dk_43 (dk_at dksX20_isSo_8 18 rfl rfl)
theorem dX20_isSo_204 : decode cX20_isSo 204 = .ok (.iload 5, 2) := dk_21 5 (dk_at dksX20_isSo_8 19 rfl rfl)
theorem dX20_isSo_206 : decode cX20_isSo 206 = .ok (.iconst 2, 1) := dk_5 (dk_at dksX20_isSo_8 21 rfl rfl)
theorem dX20_isSo_207 : decode cX20_isSo 207 = .ok (.iadd, 1) := dk_96 (dk_at dksX20_isSo_8 22 rfl rfl)
theorem dX20_isSo_208 : decode cX20_isSo 208 = .ok (.iaload, 1) := dk_46 (dk_at dksX20_isSo_8 23 rfl rfl)
theorem dX20_isSo_209 : decode cX20_isSo 209 = .ok (.istore 8, 2) := dk_54 8 (dk_at dksX20_isSo_9 0 rfl rfl)
theorem dX20_isSo_211 : decode cX20_isSo 211 = .ok (.aload_n 0, 1) := dk_42 (dk_at dksX20_isSo_9 2 rfl rfl)
theorem dX20_isSo_212 : decode cX20_isSo 212 = .ok (.getfield 59, 3) := dk_180 0 59 (dk_at dksX20_isSo_9 3 rfl rfl)
theorem dX20_isSo_215 : decode cX20_isSo 215 = .ok (.iload 4, 2) := dk_21 4 (dk_at dksX20_isSo_9 6 rfl rfl)
theorem dX20_isSo_217 : decode cX20_isSo 217 = .ok (.aload_n 1, 1) := dk_43 (dk_at dksX20_isSo_9 8 rfl rfl)
theorem dX20_isSo_218 : decode cX20_isSo 218 = .ok (.iload 5, 2) := dk_21 5 (dk_at dksX20_isSo_9 9 rfl rfl)
theorem dX20_isSo_220 : decode cX20_isSo 220 = .ok (.iconst 1, 1) := dk_4 (dk_at dksX20_isSo_9 11 rfl rfl)
theorem dX20_isSo_221 : decode cX20_isSo 221 = .ok (.iadd, 1) := dk_96 (dk_at dksX20_isSo_9 12 rfl rfl)
theorem dX20_isSo_222 : decode cX20_isSo 222 = .ok (.iaload, 1) := dk_46 (dk_at dksX20_isSo_9 13 rfl rfl)
theorem dX20_isSo_223 : decode cX20_isSo 223 = .ok (.bipush 60, 2) := dk_16 60 (dk_at dksX20_isSo_9 14 rfl rfl)
theorem dX20_isSo_225 : decode cX20_isSo 225 = .ok (.if_icmp .ne 18, 3) := dk_160 0 18 (dk_at dksX20_isSo_9 16 rfl rfl)
theorem dX20_isSo_228 : decode cX20_isSo 228 = .ok (.iload 7, 2) := dk_21 7 (dk_at dksX20_isSo_9 19 rfl rfl)
theorem dX20_isSo_230 : decode cX20_isSo 230 = .ok (.iload 8, 2) := dk_21 8 (dk_at dksX20_isSo_9 21 rfl rfl)
theorem dX20_isSo_232 : decode cX20_isSo 232 = .ok (.if_icmp .ge 7, 3) := dk_162 0 7 (dk_at dksX20_isSo_10 0 rfl rfl)
theorem dX20_isSo_235 : decode cX20_isSo 235 = .ok (.iconst 1, 1) := dk_4 (dk_at dksX20_isSo_10 3 rfl rfl)
theorem dX20_isSo_236 : decode cX20_isSo 236 = .ok (.goto 45, 3) := dk_167 0 45 (dk_at dksX20_isSo_10 4 rfl rfl)
theorem dX20_isSo_239 : decode cX20_isSo 239 = .ok (.iconst 0, 1) := dk_3 (dk_at dksX20_isSo_10 7 rfl rfl)
theorem dX20_isSo_240 : decode cX20_isSo 240 = .ok (.goto 41, 3) := dk_167 0 41 (dk_at dksX20_isSo_10 8 rfl rfl)
theorem dX20_isSo_243 : decode cX20_isSo 243 = .ok (.aload_n 1, 1) := dk_43 (dk_at dksX20_isSo_10 11 rfl rfl)
theorem dX20_isSo_244 : decode cX20_isSo 244 = .ok (.iload 5, 2) := dk_21 5 (dk_at dksX20_isSo_10 12 rfl rfl)
theorem dX20_isSo_246 : decode cX20_isSo 246 = .ok (.iconst 1, 1) := dk_4 (dk_at dksX20_isSo_10 14 rfl rfl)
theorem dX20_isSo_247 : decode cX20_isSo 247 = .ok (.iadd, 1) := dk_96 (dk_at dksX20_isSo_10 15 rfl rfl)
theorem dX20_isSo_248 : decode cX20_isSo 248 = .ok (.iaload, 1) := dk_46 (dk_at dksX20_isSo_10 16 rfl rfl)
theorem dX20_isSo_249 : decode cX20_isSo 249 = .ok (.bipush 61, 2) := dk_16 61 (dk_at dksX20_isSo_10 17 rfl rfl)
theorem dX20_isSo_251 : decode cX20_isSo 251 = .ok (.if_icmp .ne 18, 3) := dk_160 0 18 (dk_at dksX20_isSo_10 19 rfl rfl)
theorem dX20_isSo_254 : decode cX20_isSo 254 = .ok (.iload 7, 2) := dk_21 7 (dk_at dksX20_isSo_10 22 rfl rfl)
theorem dX20_isSo_256 : decode cX20_isSo 256 = .ok (.iload 8, 2) := dk_21 8 (dk_at dksX20_isSo_11 0 rfl rfl)
theorem dX20_isSo_258 : decode cX20_isSo 258 = .ok (.if_icmp .ne 7, 3) := dk_160 0 7 (dk_at dksX20_isSo_11 2 rfl rfl)
theorem dX20_isSo_261 : decode cX20_isSo 261 = .ok (.iconst 1, 1) := dk_4 (dk_at dksX20_isSo_11 5 rfl rfl)
theorem dX20_isSo_262 : decode cX20_isSo 262 = .ok (.goto 19, 3) := dk_167 0 19 (dk_at dksX20_isSo_11 6 rfl rfl)
theorem dX20_isSo_265 : decode cX20_isSo 265 = .ok (.iconst 0, 1) := dk_3 (dk_at dksX20_isSo_11 9 rfl rfl)
theorem dX20_isSo_266 : decode cX20_isSo 266 = .ok (.goto 15, 3) := dk_167 0 15 (dk_at dksX20_isSo_11 10 rfl rfl)
theorem dX20_isSo_269 : decode cX20_isSo 269 = .ok (.iload 7, 2) := dk_21 7 (dk_at dksX20_isSo_11 13 rfl rfl)
theorem dX20_isSo_271 : decode cX20_isSo 271 = .ok (.iload 8, 2) := dk_21 8 (dk_at dksX20_isSo_11 15 rfl rfl)
theorem dX20_isSo_273 : decode cX20_isSo 273 = .ok (.if_icmp .le 7, 3) := dk_164 0 7 (dk_at dksX20_isSo_11 17 rfl rfl)
theorem dX20_isSo_276 : decode cX20_isSo 276 = .ok (.iconst 1, 1) := dk_4 (dk_at dksX20_isSo_11 20 rfl rfl)
theorem dX20_isSo_277 : decode cX20_isSo 277 = .ok (.goto 4, 3) := dk_167 0 4 (dk_at dksX20_isSo_11 21 rfl rfl)
theorem dX20_isSo_280 : decode cX20_isSo 280 = .ok (.iconst 0, 1) := dk_3 (dk_at dksX20_isSo_12 0 rfl rfl)
theorem dX20_isSo_281 : decode cX20_isSo 281 = .ok (.bastore, 1) := dk_84 (dk_at dksX20_isSo_12 1 rfl rfl)
theorem dX20_isSo_282 : decode cX20_isSo 282 = .ok (.iinc 4 1, 3) := dk_132 4 1 (dk_at dksX20_isSo_12 2 rfl rfl)
theorem dX20_isSo_285 : decode cX20_isSo 285 = .ok (.iinc 5 2, 3) := dk_132 5 2 (dk_at dksX20_isSo_12 5 rfl rfl)
theorem dX20_isSo_288 : decode cX20_isSo 288 = .ok (.iinc 5 1, 3) := dk_132 5 1 (dk_at dksX20_isSo_12 8 rfl rfl)
theorem dX20_isSo_291 : decode cX20_isSo 291 = .ok (.goto (-285), 3) := dk_167 254 227 (dk_at dksX20_isSo_12 11 rfl rfl)
theorem dX20_isSo_294 : decode cX20_isSo 294 = .ok (.iload 4, 2) := dk_21 4 (dk_at dksX20_isSo_12 14 rfl rfl)
theorem dX20_isSo_296 : decode cX20_isSo 296 = .ok (.ifCond .eq 12, 3) := dk_153 0 12 (dk_at dksX20_isSo_12 16 rfl rfl)
theorem dX20_isSo_299 : decode cX20_isSo 299 = .ok (.aload_n 0, 1) := dk_42 (dk_at dksX20_isSo_12 19 rfl rfl)
theorem dX20_isSo_300 : decode cX20_isSo 300 = .ok (.getfield 59, 3) := dk_180 0 59 (dk_at dksX20_isSo_12 20 rfl rfl)
theorem dX20_isSo_303 : decode cX20_isSo 303 = .ok (.iconst 0, 1) := dk_3 (dk_at dksX20_isSo_12 23 rfl rfl)
theorem dX20_isSo_304 : decode cX20_isSo 304 = .ok (.baload, 1) := dk_51 (dk_at dksX20_isSo_13 0 rfl rfl)
theorem dX20_isSo_305 : decode cX20_isSo 305 = .ok (.ifCond .eq 7, 3) := dk_153 0 7 (dk_at dksX20_isSo_13 1 rfl rfl)
theorem dX20_isSo_308 : decode cX20_isSo 308 = .ok (.iconst 1, 1) := dk_4 (dk_at dksX20_isSo_13 4 rfl rfl)
theorem dX20_isSo_309 : decode cX20_isSo 309 = .ok (.goto 4, 3) := dk_167 0 4 (dk_at dksX20_isSo_13 5 rfl rfl)
theorem dX20_isSo_312 : decode cX20_isSo 312 = .ok (.iconst 0, 1) := dk_3 (dk_at dksX20_isSo_13 8 rfl rfl)
theorem dX20_isSo_313 : decode cX20_isSo 313 = .ok (.ireturn, 1) := dk_172 (dk_at dksX20_isSo_13 9 rfl rfl)
abbrev cX20_lie : ByteArray := prog_38_method_49_code
def yX20_lie : MethodName := ⟨RX20, "lie", "()I"⟩
def dkwX20_lie_0 : List UInt8 := [42, 182, 1, 36, 42, 180, 1, 33, 172]
abbrev dktX20_lie_0 : List UInt8 := dkwX20_lie_0 ++ []
theorem dksX20_lie_0 : cX20_lie.data.toList.drop 0 = dktX20_lie_0 := by decide +kernel
theorem dX20_lie_0 : decode cX20_lie 0 = .ok (.aload_n 0, 1) := dk_42 (dk_at dksX20_lie_0 0 rfl rfl)
theorem dX20_lie_1 : decode cX20_lie 1 = .ok (.invokevirtual 292, 3) := dk_182 1 36 (dk_at dksX20_lie_0 1 rfl rfl)
theorem dX20_lie_4 : decode cX20_lie 4 = .ok (.aload_n 0, 1) := dk_42 (dk_at dksX20_lie_0 4 rfl rfl)
theorem dX20_lie_5 : decode cX20_lie 5 = .ok (.getfield 289, 3) := dk_180 1 33 (dk_at dksX20_lie_0 5 rfl rfl)
theorem dX20_lie_8 : decode cX20_lie 8 = .ok (.ireturn, 1) := dk_172 (dk_at dksX20_lie_0 8 rfl rfl)
abbrev cX20_lies : ByteArray := prog_38_method_48_code
def yX20_lies : MethodName := ⟨RX20, "lies", "()V"⟩
def dkwX20_lies_7 : List UInt8 := [79, 42, 89, 180, 1, 33, 4, 96, 181, 1, 33, 167, 255, 92, 177]
abbrev dktX20_lies_7 : List UInt8 := dkwX20_lies_7 ++ []
def dkwX20_lies_6 : List UInt8 := [182, 0, 249, 79, 42, 182, 1, 20, 42, 180, 0, 66, 6, 42, 180, 1, 33, 104, 4, 96, 42, 182, 1, 4]
abbrev dktX20_lies_6 : List UInt8 := dkwX20_lies_6 ++ dktX20_lies_7
def dkwX20_lies_5 : List UInt8 := [180, 0, 66, 6, 42, 180, 1, 33, 104, 5, 96, 42, 42, 16, 6, 182, 0, 255, 42, 8, 182, 0, 255]
abbrev dktX20_lies_5 : List UInt8 := dkwX20_lies_5 ++ dktX20_lies_6
def dkwX20_lies_4 : List UInt8 := [61, 28, 153, 0, 78, 42, 180, 0, 66, 6, 42, 180, 1, 33, 104, 42, 8, 182, 0, 255, 79, 42]
abbrev dktX20_lies_4 : List UInt8 := dkwX20_lies_4 ++ dktX20_lies_5
def dkwX20_lies_3 : List UInt8 := [180, 0, 7, 42, 180, 0, 104, 8, 96, 21, 4, 4, 100, 79, 21, 4, 153, 0, 7, 4, 167, 0, 4, 3]
abbrev dktX20_lies_3 : List UInt8 := dkwX20_lies_3 ++ dktX20_lies_4
def dkwX20_lies_2 : List UInt8 := [42, 180, 0, 37, 6, 29, 156, 0, 7, 3, 167, 0, 4, 29, 104, 46, 54, 4, 21, 4, 158, 0, 18, 42]
abbrev dktX20_lies_2 : List UInt8 := dkwX20_lies_2 ++ dktX20_lies_3
def dkwX20_lies_1 : List UInt8 := [16, 6, 182, 0, 255, 16, 24, 162, 0, 148, 42, 27, 182, 1, 30, 62, 29, 156, 0, 7, 2, 167, 0, 19]
abbrev dktX20_lies_1 : List UInt8 := dkwX20_lies_1 ++ dktX20_lies_2
def dkwX20_lies_0 : List UInt8 := [42, 182, 1, 4, 60, 42, 3, 181, 1, 33, 4, 61, 28, 153, 0, 166, 42, 182, 1, 7, 153, 0, 159, 42]
abbrev dktX20_lies_0 : List UInt8 := dkwX20_lies_0 ++ dktX20_lies_1
theorem dksX20_lies_0 : cX20_lies.data.toList.drop 0 = dktX20_lies_0 := by decide +kernel
theorem dksX20_lies_1 : cX20_lies.data.toList.drop 24 = dktX20_lies_1 := dk_seg dksX20_lies_0 24 rfl rfl
theorem dksX20_lies_2 : cX20_lies.data.toList.drop 48 = dktX20_lies_2 := dk_seg dksX20_lies_1 24 rfl rfl
theorem dksX20_lies_3 : cX20_lies.data.toList.drop 72 = dktX20_lies_3 := dk_seg dksX20_lies_2 24 rfl rfl
theorem dksX20_lies_4 : cX20_lies.data.toList.drop 96 = dktX20_lies_4 := dk_seg dksX20_lies_3 24 rfl rfl
theorem dksX20_lies_5 : cX20_lies.data.toList.drop 118 = dktX20_lies_5 := dk_seg dksX20_lies_4 22 rfl rfl
theorem dksX20_lies_6 : cX20_lies.data.toList.drop 141 = dktX20_lies_6 := dk_seg dksX20_lies_5 23 rfl rfl
theorem dksX20_lies_7 : cX20_lies.data.toList.drop 165 = dktX20_lies_7 := dk_seg dksX20_lies_6 24 rfl rfl
theorem dX20_lies_0 : decode cX20_lies 0 = .ok (.aload_n 0, 1) := dk_42 (dk_at dksX20_lies_0 0 rfl rfl)
theorem dX20_lies_1 : decode cX20_lies 1 = .ok (.invokevirtual 260, 3) := dk_182 1 4 (dk_at dksX20_lies_0 1 rfl rfl)
theorem dX20_lies_4 : decode cX20_lies 4 = .ok (.istore_n 1, 1) := dk_60 (dk_at dksX20_lies_0 4 rfl rfl)
theorem dX20_lies_5 : decode cX20_lies 5 = .ok (.aload_n 0, 1) := dk_42 (dk_at dksX20_lies_0 5 rfl rfl)
theorem dX20_lies_6 : decode cX20_lies 6 = .ok (.iconst 0, 1) := dk_3 (dk_at dksX20_lies_0 6 rfl rfl)
theorem dX20_lies_7 : decode cX20_lies 7 = .ok (.putfield 289, 3) := dk_181 1 33 (dk_at dksX20_lies_0 7 rfl rfl)
theorem dX20_lies_10 : decode cX20_lies 10 = .ok (.iconst 1, 1) := dk_4 (dk_at dksX20_lies_0 10 rfl rfl)
theorem dX20_lies_11 : decode cX20_lies 11 = .ok (.istore_n 2, 1) := dk_61 (dk_at dksX20_lies_0 11 rfl rfl)
theorem dX20_lies_12 : decode cX20_lies 12 = .ok (.iload_n 2, 1) := dk_28 (dk_at dksX20_lies_0 12 rfl rfl)
theorem dX20_lies_13 : decode cX20_lies 13 = .ok (.ifCond .eq 166, 3) := dk_153 0 166 (dk_at dksX20_lies_0 13 rfl rfl)
theorem dX20_lies_16 : decode cX20_lies 16 = .ok (.aload_n 0, 1) := dk_42 (dk_at dksX20_lies_0 16 rfl rfl)
theorem dX20_lies_17 : decode cX20_lies 17 = .ok (.invokevirtual 263, 3) := dk_182 1 7 (dk_at dksX20_lies_0 17 rfl rfl)
theorem dX20_lies_20 : decode cX20_lies 20 = .ok (.ifCond .eq 159, 3) := dk_153 0 159 (dk_at dksX20_lies_0 20 rfl rfl)
theorem dX20_lies_23 : decode cX20_lies 23 = .ok (.aload_n 0, 1) := dk_42 (dk_at dksX20_lies_0 23 rfl rfl)
theorem dX20_lies_24 : decode cX20_lies 24 = .ok (.bipush 6, 2) := dk_16 6 (dk_at dksX20_lies_1 0 rfl rfl)
theorem dX20_lies_26 : decode cX20_lies 26 = .ok (.invokevirtual 255, 3) := dk_182 0 255 (dk_at dksX20_lies_1 2 rfl rfl)
theorem dX20_lies_29 : decode cX20_lies 29 = .ok (.bipush 24, 2) := dk_16 24 (dk_at dksX20_lies_1 5 rfl rfl)
theorem dX20_lies_31 : decode cX20_lies 31 = .ok (.if_icmp .ge 148, 3) := dk_162 0 148 (dk_at dksX20_lies_1 7 rfl rfl)
theorem dX20_lies_34 : decode cX20_lies 34 = .ok (.aload_n 0, 1) := dk_42 (dk_at dksX20_lies_1 10 rfl rfl)
theorem dX20_lies_35 : decode cX20_lies 35 = .ok (.iload_n 1, 1) := dk_27 (dk_at dksX20_lies_1 11 rfl rfl)
theorem dX20_lies_36 : decode cX20_lies 36 = .ok (.invokevirtual 286, 3) := dk_182 1 30 (dk_at dksX20_lies_1 12 rfl rfl)
theorem dX20_lies_39 : decode cX20_lies 39 = .ok (.istore_n 3, 1) := dk_62 (dk_at dksX20_lies_1 15 rfl rfl)
theorem dX20_lies_40 : decode cX20_lies 40 = .ok (.iload_n 3, 1) := dk_29 (dk_at dksX20_lies_1 16 rfl rfl)
theorem dX20_lies_41 : decode cX20_lies 41 = .ok (.ifCond .ge 7, 3) := dk_156 0 7 (dk_at dksX20_lies_1 17 rfl rfl)
theorem dX20_lies_44 : decode cX20_lies 44 = .ok (.iconst (-1), 1) := dk_2 (dk_at dksX20_lies_1 20 rfl rfl)
theorem dX20_lies_45 : decode cX20_lies 45 = .ok (.goto 19, 3) := dk_167 0 19 (dk_at dksX20_lies_1 21 rfl rfl)
theorem dX20_lies_48 : decode cX20_lies 48 = .ok (.aload_n 0, 1) := dk_42 (dk_at dksX20_lies_2 0 rfl rfl)
theorem dX20_lies_49 : decode cX20_lies 49 = .ok (.getfield 37, 3) := dk_180 0 37 (dk_at dksX20_lies_2 1 rfl rfl)
theorem dX20_lies_52 : decode cX20_lies 52 = .ok (.iconst 3, 1) := dk_6 (dk_at dksX20_lies_2 4 rfl rfl)
theorem dX20_lies_53 : decode cX20_lies 53 = .ok (.iload_n 3, 1) := dk_29 (dk_at dksX20_lies_2 5 rfl rfl)
theorem dX20_lies_54 : decode cX20_lies 54 = .ok (.ifCond .ge 7, 3) := dk_156 0 7 (dk_at dksX20_lies_2 6 rfl rfl)
theorem dX20_lies_57 : decode cX20_lies 57 = .ok (.iconst 0, 1) := dk_3 (dk_at dksX20_lies_2 9 rfl rfl)
theorem dX20_lies_58 : decode cX20_lies 58 = .ok (.goto 4, 3) := dk_167 0 4 (dk_at dksX20_lies_2 10 rfl rfl)
theorem dX20_lies_61 : decode cX20_lies 61 = .ok (.iload_n 3, 1) := dk_29 (dk_at dksX20_lies_2 13 rfl rfl)
theorem dX20_lies_62 : decode cX20_lies 62 = .ok (.imul, 1) := dk_104 (dk_at dksX20_lies_2 14 rfl rfl)
theorem dX20_lies_63 : decode cX20_lies 63 = .ok (.iaload, 1) := dk_46 (dk_at dksX20_lies_2 15 rfl rfl)
theorem dX20_lies_64 : decode cX20_lies 64 = .ok (.istore 4, 2) := dk_54 4 (dk_at dksX20_lies_2 16 rfl rfl)
theorem dX20_lies_66 : decode cX20_lies 66 = .ok (.iload 4, 2) := dk_21 4 (dk_at dksX20_lies_2 18 rfl rfl)
theorem dX20_lies_68 : decode cX20_lies 68 = .ok (.ifCond .le 18, 3) := dk_158 0 18 (dk_at dksX20_lies_2 20 rfl rfl)
theorem dX20_lies_71 : decode cX20_lies 71 = .ok (.aload_n 0, 1) := dk_42 (dk_at dksX20_lies_2 23 rfl rfl)
theorem dX20_lies_72 : decode cX20_lies 72 = .ok (.getfield 7, 3) := dk_180 0 7 (dk_at dksX20_lies_3 0 rfl rfl)
theorem dX20_lies_75 : decode cX20_lies 75 = .ok (.aload_n 0, 1) := dk_42 (dk_at dksX20_lies_3 3 rfl rfl)
theorem dX20_lies_76 : decode cX20_lies 76 = .ok (.getfield 104, 3) := dk_180 0 104 (dk_at dksX20_lies_3 4 rfl rfl)
theorem dX20_lies_79 : decode cX20_lies 79 = .ok (.iconst 5, 1) := dk_8 (dk_at dksX20_lies_3 7 rfl rfl)
theorem dX20_lies_80 : decode cX20_lies 80 = .ok (.iadd, 1) := dk_96 (dk_at dksX20_lies_3 8 rfl rfl)
theorem dX20_lies_81 : decode cX20_lies 81 = .ok (.iload 4, 2) := dk_21 4 (dk_at dksX20_lies_3 9 rfl rfl)
theorem dX20_lies_83 : decode cX20_lies 83 = .ok (.iconst 1, 1) := dk_4 (dk_at dksX20_lies_3 11 rfl rfl)
theorem dX20_lies_84 : decode cX20_lies 84 = .ok (.isub, 1) := dk_100 (dk_at dksX20_lies_3 12 rfl rfl)
theorem dX20_lies_85 : decode cX20_lies 85 = .ok (.iastore, 1) := dk_79 (dk_at dksX20_lies_3 13 rfl rfl)
theorem dX20_lies_86 : decode cX20_lies 86 = .ok (.iload 4, 2) := dk_21 4 (dk_at dksX20_lies_3 14 rfl rfl)
theorem dX20_lies_88 : decode cX20_lies 88 = .ok (.ifCond .eq 7, 3) := dk_153 0 7 (dk_at dksX20_lies_3 16 rfl rfl)
theorem dX20_lies_91 : decode cX20_lies 91 = .ok (.iconst 1, 1) := dk_4 (dk_at dksX20_lies_3 19 rfl rfl)
theorem dX20_lies_92 : decode cX20_lies 92 = .ok (.goto 4, 3) := dk_167 0 4 (dk_at dksX20_lies_3 20 rfl rfl)
theorem dX20_lies_95 : decode cX20_lies 95 = .ok (.iconst 0, 1) := dk_3 (dk_at dksX20_lies_3 23 rfl rfl)
theorem dX20_lies_96 : decode cX20_lies 96 = .ok (.istore_n 2, 1) := dk_61 (dk_at dksX20_lies_4 0 rfl rfl)
theorem dX20_lies_97 : decode cX20_lies 97 = .ok (.iload_n 2, 1) := dk_28 (dk_at dksX20_lies_4 1 rfl rfl)
theorem dX20_lies_98 : decode cX20_lies 98 = .ok (.ifCond .eq 78, 3) := dk_153 0 78 (dk_at dksX20_lies_4 2 rfl rfl)
theorem dX20_lies_101 : decode cX20_lies 101 = .ok (.aload_n 0, 1) := dk_42 (dk_at dksX20_lies_4 5 rfl rfl)
theorem dX20_lies_102 : decode cX20_lies 102 = .ok (.getfield 66, 3) := dk_180 0 66 (dk_at dksX20_lies_4 6 rfl rfl)
theorem dX20_lies_105 : decode cX20_lies 105 = .ok (.iconst 3, 1) := dk_6 (dk_at dksX20_lies_4 9 rfl rfl)
theorem dX20_lies_106 : decode cX20_lies 106 = .ok (.aload_n 0, 1) := dk_42 (dk_at dksX20_lies_4 10 rfl rfl)
theorem dX20_lies_107 : decode cX20_lies 107 = .ok (.getfield 289, 3) := dk_180 1 33 (dk_at dksX20_lies_4 11 rfl rfl)
theorem dX20_lies_110 : decode cX20_lies 110 = .ok (.imul, 1) := dk_104 (dk_at dksX20_lies_4 14 rfl rfl)
theorem dX20_lies_111 : decode cX20_lies 111 = .ok (.aload_n 0, 1) := dk_42 (dk_at dksX20_lies_4 15 rfl rfl)
theorem dX20_lies_112 : decode cX20_lies 112 = .ok (.iconst 5, 1) := dk_8 (dk_at dksX20_lies_4 16 rfl rfl)
theorem dX20_lies_113 : decode cX20_lies 113 = .ok (.invokevirtual 255, 3) := dk_182 0 255 (dk_at dksX20_lies_4 17 rfl rfl)
theorem dX20_lies_116 : decode cX20_lies 116 = .ok (.iastore, 1) := dk_79 (dk_at dksX20_lies_4 20 rfl rfl)
theorem dX20_lies_117 : decode cX20_lies 117 = .ok (.aload_n 0, 1) := dk_42 (dk_at dksX20_lies_4 21 rfl rfl)
theorem dX20_lies_118 : decode cX20_lies 118 = .ok (.getfield 66, 3) := dk_180 0 66 (dk_at dksX20_lies_5 0 rfl rfl)
theorem dX20_lies_121 : decode cX20_lies 121 = .ok (.iconst 3, 1) := dk_6 (dk_at dksX20_lies_5 3 rfl rfl)
theorem dX20_lies_122 : decode cX20_lies 122 = .ok (.aload_n 0, 1) := dk_42 (dk_at dksX20_lies_5 4 rfl rfl)
theorem dX20_lies_123 : decode cX20_lies 123 = .ok (.getfield 289, 3) := dk_180 1 33 (dk_at dksX20_lies_5 5 rfl rfl)
theorem dX20_lies_126 : decode cX20_lies 126 = .ok (.imul, 1) := dk_104 (dk_at dksX20_lies_5 8 rfl rfl)
theorem dX20_lies_127 : decode cX20_lies 127 = .ok (.iconst 2, 1) := dk_5 (dk_at dksX20_lies_5 9 rfl rfl)
theorem dX20_lies_128 : decode cX20_lies 128 = .ok (.iadd, 1) := dk_96 (dk_at dksX20_lies_5 10 rfl rfl)
theorem dX20_lies_129 : decode cX20_lies 129 = .ok (.aload_n 0, 1) := dk_42 (dk_at dksX20_lies_5 11 rfl rfl)
theorem dX20_lies_130 : decode cX20_lies 130 = .ok (.aload_n 0, 1) := dk_42 (dk_at dksX20_lies_5 12 rfl rfl)
theorem dX20_lies_131 : decode cX20_lies 131 = .ok (.bipush 6, 2) := dk_16 6 (dk_at dksX20_lies_5 13 rfl rfl)
theorem dX20_lies_133 : decode cX20_lies 133 = .ok (.invokevirtual 255, 3) := dk_182 0 255 (dk_at dksX20_lies_5 15 rfl rfl)
theorem dX20_lies_136 : decode cX20_lies 136 = .ok (.aload_n 0, 1) := dk_42 (dk_at dksX20_lies_5 18 rfl rfl)
theorem dX20_lies_137 : decode cX20_lies 137 = .ok (.iconst 5, 1) := dk_8 (dk_at dksX20_lies_5 19 rfl rfl)
theorem dX20_lies_138 : decode cX20_lies 138 = .ok (.invokevirtual 255, 3) := dk_182 0 255 (dk_at dksX20_lies_5 20 rfl rfl)
theorem dX20_lies_141 : decode cX20_lies 141 = .ok (.invokevirtual 249, 3) := dk_182 0 249 (dk_at dksX20_lies_6 0 rfl rfl)
theorem dX20_lies_144 : decode cX20_lies 144 = .ok (.iastore, 1) := dk_79 (dk_at dksX20_lies_6 3 rfl rfl)
theorem dX20_lies_145 : decode cX20_lies 145 = .ok (.aload_n 0, 1) := dk_42 (dk_at dksX20_lies_6 4 rfl rfl)
theorem dX20_lies_146 : decode cX20_lies 146 = .ok (.invokevirtual 276, 3) := dk_182 1 20 (dk_at dksX20_lies_6 5 rfl rfl)
theorem dX20_lies_149 : decode cX20_lies 149 = .ok (.aload_n 0, 1) := dk_42 (dk_at dksX20_lies_6 8 rfl rfl)
theorem dX20_lies_150 : decode cX20_lies 150 = .ok (.getfield 66, 3) := dk_180 0 66 (dk_at dksX20_lies_6 9 rfl rfl)
theorem dX20_lies_153 : decode cX20_lies 153 = .ok (.iconst 3, 1) := dk_6 (dk_at dksX20_lies_6 12 rfl rfl)
theorem dX20_lies_154 : decode cX20_lies 154 = .ok (.aload_n 0, 1) := dk_42 (dk_at dksX20_lies_6 13 rfl rfl)
theorem dX20_lies_155 : decode cX20_lies 155 = .ok (.getfield 289, 3) := dk_180 1 33 (dk_at dksX20_lies_6 14 rfl rfl)
theorem dX20_lies_158 : decode cX20_lies 158 = .ok (.imul, 1) := dk_104 (dk_at dksX20_lies_6 17 rfl rfl)
theorem dX20_lies_159 : decode cX20_lies 159 = .ok (.iconst 1, 1) := dk_4 (dk_at dksX20_lies_6 18 rfl rfl)
theorem dX20_lies_160 : decode cX20_lies 160 = .ok (.iadd, 1) := dk_96 (dk_at dksX20_lies_6 19 rfl rfl)
theorem dX20_lies_161 : decode cX20_lies 161 = .ok (.aload_n 0, 1) := dk_42 (dk_at dksX20_lies_6 20 rfl rfl)
theorem dX20_lies_162 : decode cX20_lies 162 = .ok (.invokevirtual 260, 3) := dk_182 1 4 (dk_at dksX20_lies_6 21 rfl rfl)
theorem dX20_lies_165 : decode cX20_lies 165 = .ok (.iastore, 1) := dk_79 (dk_at dksX20_lies_7 0 rfl rfl)
theorem dX20_lies_166 : decode cX20_lies 166 = .ok (.aload_n 0, 1) := dk_42 (dk_at dksX20_lies_7 1 rfl rfl)
theorem dX20_lies_167 : decode cX20_lies 167 = .ok (.dup, 1) := dk_89 (dk_at dksX20_lies_7 2 rfl rfl)
theorem dX20_lies_168 : decode cX20_lies 168 = .ok (.getfield 289, 3) := dk_180 1 33 (dk_at dksX20_lies_7 3 rfl rfl)
theorem dX20_lies_171 : decode cX20_lies 171 = .ok (.iconst 1, 1) := dk_4 (dk_at dksX20_lies_7 6 rfl rfl)
theorem dX20_lies_172 : decode cX20_lies 172 = .ok (.iadd, 1) := dk_96 (dk_at dksX20_lies_7 7 rfl rfl)
theorem dX20_lies_173 : decode cX20_lies 173 = .ok (.putfield 289, 3) := dk_181 1 33 (dk_at dksX20_lies_7 8 rfl rfl)
theorem dX20_lies_176 : decode cX20_lies 176 = .ok (.goto (-164), 3) := dk_167 255 92 (dk_at dksX20_lies_7 11 rfl rfl)
theorem dX20_lies_179 : decode cX20_lies 179 = .ok (.return_, 1) := dk_177 (dk_at dksX20_lies_7 14 rfl rfl)
abbrev cX20_would : ByteArray := prog_38_method_51_code
def yX20_would : MethodName := ⟨RX20, "would", "(I)I"⟩
def dkwX20_would_4 : List UInt8 := [3, 181, 0, 104, 29, 172]
abbrev dktX20_would_4 : List UInt8 := dkwX20_would_4 ++ []
def dkwX20_would_3 : List UInt8 := [182, 1, 7, 153, 0, 7, 4, 167, 0, 15, 3, 167, 0, 11, 28, 42, 182, 1, 4, 184, 1, 23, 62, 42]
abbrev dktX20_would_3 : List UInt8 := dkwX20_would_3 ++ dktX20_would_4
def dkwX20_would_2 : List UInt8 := [167, 0, 44, 27, 5, 160, 0, 11, 42, 7, 182, 0, 255, 167, 0, 31, 27, 6, 160, 0, 18, 42]
abbrev dktX20_would_2 : List UInt8 := dkwX20_would_2 ++ dktX20_would_3
def dkwX20_would_1 : List UInt8 := [182, 1, 36, 27, 154, 0, 10, 42, 180, 1, 33, 167, 0, 56, 27, 4, 160, 0, 10, 42, 182, 1, 4]
abbrev dktX20_would_1 : List UInt8 := dkwX20_would_1 ++ dktX20_would_2
def dkwX20_would_0 : List UInt8 := [27, 3, 7, 184, 0, 100, 154, 0, 5, 2, 172, 42, 182, 1, 4, 61, 42, 3, 16, 7, 182, 1, 39, 42]
abbrev dktX20_would_0 : List UInt8 := dkwX20_would_0 ++ dktX20_would_1
theorem dksX20_would_0 : cX20_would.data.toList.drop 0 = dktX20_would_0 := by decide +kernel
theorem dksX20_would_1 : cX20_would.data.toList.drop 24 = dktX20_would_1 := dk_seg dksX20_would_0 24 rfl rfl
theorem dksX20_would_2 : cX20_would.data.toList.drop 47 = dktX20_would_2 := dk_seg dksX20_would_1 23 rfl rfl
theorem dksX20_would_3 : cX20_would.data.toList.drop 69 = dktX20_would_3 := dk_seg dksX20_would_2 22 rfl rfl
theorem dksX20_would_4 : cX20_would.data.toList.drop 93 = dktX20_would_4 := dk_seg dksX20_would_3 24 rfl rfl
theorem dX20_would_0 : decode cX20_would 0 = .ok (.iload_n 1, 1) := dk_27 (dk_at dksX20_would_0 0 rfl rfl)
theorem dX20_would_1 : decode cX20_would 1 = .ok (.iconst 0, 1) := dk_3 (dk_at dksX20_would_0 1 rfl rfl)
theorem dX20_would_2 : decode cX20_would 2 = .ok (.iconst 4, 1) := dk_7 (dk_at dksX20_would_0 2 rfl rfl)
theorem dX20_would_3 : decode cX20_would 3 = .ok (.invokestatic 100, 3) := dk_184 0 100 (dk_at dksX20_would_0 3 rfl rfl)
theorem dX20_would_6 : decode cX20_would 6 = .ok (.ifCond .ne 5, 3) := dk_154 0 5 (dk_at dksX20_would_0 6 rfl rfl)
theorem dX20_would_9 : decode cX20_would 9 = .ok (.iconst (-1), 1) := dk_2 (dk_at dksX20_would_0 9 rfl rfl)
theorem dX20_would_10 : decode cX20_would 10 = .ok (.ireturn, 1) := dk_172 (dk_at dksX20_would_0 10 rfl rfl)
theorem dX20_would_11 : decode cX20_would 11 = .ok (.aload_n 0, 1) := dk_42 (dk_at dksX20_would_0 11 rfl rfl)
theorem dX20_would_12 : decode cX20_would 12 = .ok (.invokevirtual 260, 3) := dk_182 1 4 (dk_at dksX20_would_0 12 rfl rfl)
theorem dX20_would_15 : decode cX20_would 15 = .ok (.istore_n 2, 1) := dk_61 (dk_at dksX20_would_0 15 rfl rfl)
theorem dX20_would_16 : decode cX20_would 16 = .ok (.aload_n 0, 1) := dk_42 (dk_at dksX20_would_0 16 rfl rfl)
theorem dX20_would_17 : decode cX20_would 17 = .ok (.iconst 0, 1) := dk_3 (dk_at dksX20_would_0 17 rfl rfl)
theorem dX20_would_18 : decode cX20_would 18 = .ok (.bipush 7, 2) := dk_16 7 (dk_at dksX20_would_0 18 rfl rfl)
theorem dX20_would_20 : decode cX20_would 20 = .ok (.invokevirtual 295, 3) := dk_182 1 39 (dk_at dksX20_would_0 20 rfl rfl)
theorem dX20_would_23 : decode cX20_would 23 = .ok (.aload_n 0, 1) := dk_42 (dk_at dksX20_would_0 23 rfl rfl)
theorem dX20_would_24 : decode cX20_would 24 = .ok (.invokevirtual 292, 3) := dk_182 1 36 (dk_at dksX20_would_1 0 rfl rfl)
theorem dX20_would_27 : decode cX20_would 27 = .ok (.iload_n 1, 1) := dk_27 (dk_at dksX20_would_1 3 rfl rfl)
theorem dX20_would_28 : decode cX20_would 28 = .ok (.ifCond .ne 10, 3) := dk_154 0 10 (dk_at dksX20_would_1 4 rfl rfl)
theorem dX20_would_31 : decode cX20_would 31 = .ok (.aload_n 0, 1) := dk_42 (dk_at dksX20_would_1 7 rfl rfl)
theorem dX20_would_32 : decode cX20_would 32 = .ok (.getfield 289, 3) := dk_180 1 33 (dk_at dksX20_would_1 8 rfl rfl)
theorem dX20_would_35 : decode cX20_would 35 = .ok (.goto 56, 3) := dk_167 0 56 (dk_at dksX20_would_1 11 rfl rfl)
theorem dX20_would_38 : decode cX20_would 38 = .ok (.iload_n 1, 1) := dk_27 (dk_at dksX20_would_1 14 rfl rfl)
theorem dX20_would_39 : decode cX20_would 39 = .ok (.iconst 1, 1) := dk_4 (dk_at dksX20_would_1 15 rfl rfl)
theorem dX20_would_40 : decode cX20_would 40 = .ok (.if_icmp .ne 10, 3) := dk_160 0 10 (dk_at dksX20_would_1 16 rfl rfl)
theorem dX20_would_43 : decode cX20_would 43 = .ok (.aload_n 0, 1) := dk_42 (dk_at dksX20_would_1 19 rfl rfl)
theorem dX20_would_44 : decode cX20_would 44 = .ok (.invokevirtual 260, 3) := dk_182 1 4 (dk_at dksX20_would_1 20 rfl rfl)
theorem dX20_would_47 : decode cX20_would 47 = .ok (.goto 44, 3) := dk_167 0 44 (dk_at dksX20_would_2 0 rfl rfl)
theorem dX20_would_50 : decode cX20_would 50 = .ok (.iload_n 1, 1) := dk_27 (dk_at dksX20_would_2 3 rfl rfl)
theorem dX20_would_51 : decode cX20_would 51 = .ok (.iconst 2, 1) := dk_5 (dk_at dksX20_would_2 4 rfl rfl)
theorem dX20_would_52 : decode cX20_would 52 = .ok (.if_icmp .ne 11, 3) := dk_160 0 11 (dk_at dksX20_would_2 5 rfl rfl)
theorem dX20_would_55 : decode cX20_would 55 = .ok (.aload_n 0, 1) := dk_42 (dk_at dksX20_would_2 8 rfl rfl)
theorem dX20_would_56 : decode cX20_would 56 = .ok (.iconst 4, 1) := dk_7 (dk_at dksX20_would_2 9 rfl rfl)
theorem dX20_would_57 : decode cX20_would 57 = .ok (.invokevirtual 255, 3) := dk_182 0 255 (dk_at dksX20_would_2 10 rfl rfl)
theorem dX20_would_60 : decode cX20_would 60 = .ok (.goto 31, 3) := dk_167 0 31 (dk_at dksX20_would_2 13 rfl rfl)
theorem dX20_would_63 : decode cX20_would 63 = .ok (.iload_n 1, 1) := dk_27 (dk_at dksX20_would_2 16 rfl rfl)
theorem dX20_would_64 : decode cX20_would 64 = .ok (.iconst 3, 1) := dk_6 (dk_at dksX20_would_2 17 rfl rfl)
theorem dX20_would_65 : decode cX20_would 65 = .ok (.if_icmp .ne 18, 3) := dk_160 0 18 (dk_at dksX20_would_2 18 rfl rfl)
theorem dX20_would_68 : decode cX20_would 68 = .ok (.aload_n 0, 1) := dk_42 (dk_at dksX20_would_2 21 rfl rfl)
theorem dX20_would_69 : decode cX20_would 69 = .ok (.invokevirtual 263, 3) := dk_182 1 7 (dk_at dksX20_would_3 0 rfl rfl)
theorem dX20_would_72 : decode cX20_would 72 = .ok (.ifCond .eq 7, 3) := dk_153 0 7 (dk_at dksX20_would_3 3 rfl rfl)
theorem dX20_would_75 : decode cX20_would 75 = .ok (.iconst 1, 1) := dk_4 (dk_at dksX20_would_3 6 rfl rfl)
theorem dX20_would_76 : decode cX20_would 76 = .ok (.goto 15, 3) := dk_167 0 15 (dk_at dksX20_would_3 7 rfl rfl)
theorem dX20_would_79 : decode cX20_would 79 = .ok (.iconst 0, 1) := dk_3 (dk_at dksX20_would_3 10 rfl rfl)
theorem dX20_would_80 : decode cX20_would 80 = .ok (.goto 11, 3) := dk_167 0 11 (dk_at dksX20_would_3 11 rfl rfl)
theorem dX20_would_83 : decode cX20_would 83 = .ok (.iload_n 2, 1) := dk_28 (dk_at dksX20_would_3 14 rfl rfl)
theorem dX20_would_84 : decode cX20_would 84 = .ok (.aload_n 0, 1) := dk_42 (dk_at dksX20_would_3 15 rfl rfl)
theorem dX20_would_85 : decode cX20_would 85 = .ok (.invokevirtual 260, 3) := dk_182 1 4 (dk_at dksX20_would_3 16 rfl rfl)
theorem dX20_would_88 : decode cX20_would 88 = .ok (.invokestatic 279, 3) := dk_184 1 23 (dk_at dksX20_would_3 19 rfl rfl)
theorem dX20_would_91 : decode cX20_would 91 = .ok (.istore_n 3, 1) := dk_62 (dk_at dksX20_would_3 22 rfl rfl)
theorem dX20_would_92 : decode cX20_would 92 = .ok (.aload_n 0, 1) := dk_42 (dk_at dksX20_would_3 23 rfl rfl)
theorem dX20_would_93 : decode cX20_would 93 = .ok (.iconst 0, 1) := dk_3 (dk_at dksX20_would_4 0 rfl rfl)
theorem dX20_would_94 : decode cX20_would 94 = .ok (.putfield 104, 3) := dk_181 0 104 (dk_at dksX20_would_4 1 rfl rfl)
theorem dX20_would_97 : decode cX20_would 97 = .ok (.iload_n 3, 1) := dk_29 (dk_at dksX20_would_4 4 rfl rfl)
theorem dX20_would_98 : decode cX20_would 98 = .ok (.ireturn, 1) := dk_172 (dk_at dksX20_would_4 5 rfl rfl)
abbrev cX20_lends : ByteArray := prog_38_method_50_code
def yX20_lends : MethodName := ⟨RX20, "lends", "(II)V"⟩
def dkwX20_lends_1 : List UInt8 := [132, 3, 1, 167, 255, 231, 42, 28, 181, 0, 104, 177]
abbrev dktX20_lends_1 : List UInt8 := dkwX20_lends_1 ++ []
def dkwX20_lends_0 : List UInt8 := [3, 62, 29, 16, 7, 162, 0, 25, 42, 180, 0, 7, 28, 29, 96, 42, 180, 0, 7, 27, 29, 96, 46, 79]
abbrev dktX20_lends_0 : List UInt8 := dkwX20_lends_0 ++ dktX20_lends_1
theorem dksX20_lends_0 : cX20_lends.data.toList.drop 0 = dktX20_lends_0 := by decide +kernel
theorem dksX20_lends_1 : cX20_lends.data.toList.drop 24 = dktX20_lends_1 := dk_seg dksX20_lends_0 24 rfl rfl
theorem dX20_lends_0 : decode cX20_lends 0 = .ok (.iconst 0, 1) := dk_3 (dk_at dksX20_lends_0 0 rfl rfl)
theorem dX20_lends_1 : decode cX20_lends 1 = .ok (.istore_n 3, 1) := dk_62 (dk_at dksX20_lends_0 1 rfl rfl)
theorem dX20_lends_2 : decode cX20_lends 2 = .ok (.iload_n 3, 1) := dk_29 (dk_at dksX20_lends_0 2 rfl rfl)
theorem dX20_lends_3 : decode cX20_lends 3 = .ok (.bipush 7, 2) := dk_16 7 (dk_at dksX20_lends_0 3 rfl rfl)
theorem dX20_lends_5 : decode cX20_lends 5 = .ok (.if_icmp .ge 25, 3) := dk_162 0 25 (dk_at dksX20_lends_0 5 rfl rfl)
theorem dX20_lends_8 : decode cX20_lends 8 = .ok (.aload_n 0, 1) := dk_42 (dk_at dksX20_lends_0 8 rfl rfl)
theorem dX20_lends_9 : decode cX20_lends 9 = .ok (.getfield 7, 3) := dk_180 0 7 (dk_at dksX20_lends_0 9 rfl rfl)
theorem dX20_lends_12 : decode cX20_lends 12 = .ok (.iload_n 2, 1) := dk_28 (dk_at dksX20_lends_0 12 rfl rfl)
theorem dX20_lends_13 : decode cX20_lends 13 = .ok (.iload_n 3, 1) := dk_29 (dk_at dksX20_lends_0 13 rfl rfl)
theorem dX20_lends_14 : decode cX20_lends 14 = .ok (.iadd, 1) := dk_96 (dk_at dksX20_lends_0 14 rfl rfl)
theorem dX20_lends_15 : decode cX20_lends 15 = .ok (.aload_n 0, 1) := dk_42 (dk_at dksX20_lends_0 15 rfl rfl)
theorem dX20_lends_16 : decode cX20_lends 16 = .ok (.getfield 7, 3) := dk_180 0 7 (dk_at dksX20_lends_0 16 rfl rfl)
theorem dX20_lends_19 : decode cX20_lends 19 = .ok (.iload_n 1, 1) := dk_27 (dk_at dksX20_lends_0 19 rfl rfl)
theorem dX20_lends_20 : decode cX20_lends 20 = .ok (.iload_n 3, 1) := dk_29 (dk_at dksX20_lends_0 20 rfl rfl)
theorem dX20_lends_21 : decode cX20_lends 21 = .ok (.iadd, 1) := dk_96 (dk_at dksX20_lends_0 21 rfl rfl)
theorem dX20_lends_22 : decode cX20_lends 22 = .ok (.iaload, 1) := dk_46 (dk_at dksX20_lends_0 22 rfl rfl)
theorem dX20_lends_23 : decode cX20_lends 23 = .ok (.iastore, 1) := dk_79 (dk_at dksX20_lends_0 23 rfl rfl)
theorem dX20_lends_24 : decode cX20_lends 24 = .ok (.iinc 3 1, 3) := dk_132 3 1 (dk_at dksX20_lends_1 0 rfl rfl)
theorem dX20_lends_27 : decode cX20_lends 27 = .ok (.goto (-25), 3) := dk_167 255 231 (dk_at dksX20_lends_1 3 rfl rfl)
theorem dX20_lends_30 : decode cX20_lends 30 = .ok (.aload_n 0, 1) := dk_42 (dk_at dksX20_lends_1 6 rfl rfl)
theorem dX20_lends_31 : decode cX20_lends 31 = .ok (.iload_n 2, 1) := dk_28 (dk_at dksX20_lends_1 7 rfl rfl)
theorem dX20_lends_32 : decode cX20_lends 32 = .ok (.putfield 104, 3) := dk_181 0 104 (dk_at dksX20_lends_1 8 rfl rfl)
theorem dX20_lends_35 : decode cX20_lends 35 = .ok (.return_, 1) := dk_177 (dk_at dksX20_lends_1 11 rfl rfl)
abbrev cX20_lasts : ByteArray := prog_38_method_52_code
def yX20_lasts : MethodName := ⟨RX20, "lasts", "(I)I"⟩
def dkwX20_lasts_3 : List UInt8 := [167, 255, 220, 42, 3, 181, 0, 104, 28, 172]
abbrev dktX20_lasts_3 : List UInt8 := dkwX20_lasts_3 ++ []
def dkwX20_lasts_2 : List UInt8 := [162, 0, 27, 42, 182, 1, 20, 42, 182, 1, 7, 62, 28, 29, 153, 0, 7, 4, 167, 0, 4, 3, 96, 61]
abbrev dktX20_lasts_2 : List UInt8 := dkwX20_lasts_2 ++ dktX20_lasts_3
def dkwX20_lasts_1 : List UInt8 := [8, 96, 27, 79, 3, 61, 42, 182, 1, 7, 62, 29, 153, 0, 38, 42, 16, 6, 182, 0, 255, 16, 24]
abbrev dktX20_lasts_1 : List UInt8 := dkwX20_lasts_1 ++ dktX20_lasts_2
def dkwX20_lasts_0 : List UInt8 := [27, 184, 0, 246, 154, 0, 5, 2, 172, 42, 3, 16, 7, 182, 1, 39, 42, 180, 0, 7, 42, 180, 0, 104]
abbrev dktX20_lasts_0 : List UInt8 := dkwX20_lasts_0 ++ dktX20_lasts_1
theorem dksX20_lasts_0 : cX20_lasts.data.toList.drop 0 = dktX20_lasts_0 := by decide +kernel
theorem dksX20_lasts_1 : cX20_lasts.data.toList.drop 24 = dktX20_lasts_1 := dk_seg dksX20_lasts_0 24 rfl rfl
theorem dksX20_lasts_2 : cX20_lasts.data.toList.drop 47 = dktX20_lasts_2 := dk_seg dksX20_lasts_1 23 rfl rfl
theorem dksX20_lasts_3 : cX20_lasts.data.toList.drop 71 = dktX20_lasts_3 := dk_seg dksX20_lasts_2 24 rfl rfl
theorem dX20_lasts_0 : decode cX20_lasts 0 = .ok (.iload_n 1, 1) := dk_27 (dk_at dksX20_lasts_0 0 rfl rfl)
theorem dX20_lasts_1 : decode cX20_lasts 1 = .ok (.invokestatic 246, 3) := dk_184 0 246 (dk_at dksX20_lasts_0 1 rfl rfl)
theorem dX20_lasts_4 : decode cX20_lasts 4 = .ok (.ifCond .ne 5, 3) := dk_154 0 5 (dk_at dksX20_lasts_0 4 rfl rfl)
theorem dX20_lasts_7 : decode cX20_lasts 7 = .ok (.iconst (-1), 1) := dk_2 (dk_at dksX20_lasts_0 7 rfl rfl)
theorem dX20_lasts_8 : decode cX20_lasts 8 = .ok (.ireturn, 1) := dk_172 (dk_at dksX20_lasts_0 8 rfl rfl)
theorem dX20_lasts_9 : decode cX20_lasts 9 = .ok (.aload_n 0, 1) := dk_42 (dk_at dksX20_lasts_0 9 rfl rfl)
theorem dX20_lasts_10 : decode cX20_lasts 10 = .ok (.iconst 0, 1) := dk_3 (dk_at dksX20_lasts_0 10 rfl rfl)
theorem dX20_lasts_11 : decode cX20_lasts 11 = .ok (.bipush 7, 2) := dk_16 7 (dk_at dksX20_lasts_0 11 rfl rfl)
theorem dX20_lasts_13 : decode cX20_lasts 13 = .ok (.invokevirtual 295, 3) := dk_182 1 39 (dk_at dksX20_lasts_0 13 rfl rfl)
theorem dX20_lasts_16 : decode cX20_lasts 16 = .ok (.aload_n 0, 1) := dk_42 (dk_at dksX20_lasts_0 16 rfl rfl)
theorem dX20_lasts_17 : decode cX20_lasts 17 = .ok (.getfield 7, 3) := dk_180 0 7 (dk_at dksX20_lasts_0 17 rfl rfl)
theorem dX20_lasts_20 : decode cX20_lasts 20 = .ok (.aload_n 0, 1) := dk_42 (dk_at dksX20_lasts_0 20 rfl rfl)
theorem dX20_lasts_21 : decode cX20_lasts 21 = .ok (.getfield 104, 3) := dk_180 0 104 (dk_at dksX20_lasts_0 21 rfl rfl)
theorem dX20_lasts_24 : decode cX20_lasts 24 = .ok (.iconst 5, 1) := dk_8 (dk_at dksX20_lasts_1 0 rfl rfl)
theorem dX20_lasts_25 : decode cX20_lasts 25 = .ok (.iadd, 1) := dk_96 (dk_at dksX20_lasts_1 1 rfl rfl)
theorem dX20_lasts_26 : decode cX20_lasts 26 = .ok (.iload_n 1, 1) := dk_27 (dk_at dksX20_lasts_1 2 rfl rfl)
theorem dX20_lasts_27 : decode cX20_lasts 27 = .ok (.iastore, 1) := dk_79 (dk_at dksX20_lasts_1 3 rfl rfl)
theorem dX20_lasts_28 : decode cX20_lasts 28 = .ok (.iconst 0, 1) := dk_3 (dk_at dksX20_lasts_1 4 rfl rfl)
theorem dX20_lasts_29 : decode cX20_lasts 29 = .ok (.istore_n 2, 1) := dk_61 (dk_at dksX20_lasts_1 5 rfl rfl)
theorem dX20_lasts_30 : decode cX20_lasts 30 = .ok (.aload_n 0, 1) := dk_42 (dk_at dksX20_lasts_1 6 rfl rfl)
theorem dX20_lasts_31 : decode cX20_lasts 31 = .ok (.invokevirtual 263, 3) := dk_182 1 7 (dk_at dksX20_lasts_1 7 rfl rfl)
theorem dX20_lasts_34 : decode cX20_lasts 34 = .ok (.istore_n 3, 1) := dk_62 (dk_at dksX20_lasts_1 10 rfl rfl)
theorem dX20_lasts_35 : decode cX20_lasts 35 = .ok (.iload_n 3, 1) := dk_29 (dk_at dksX20_lasts_1 11 rfl rfl)
theorem dX20_lasts_36 : decode cX20_lasts 36 = .ok (.ifCond .eq 38, 3) := dk_153 0 38 (dk_at dksX20_lasts_1 12 rfl rfl)
theorem dX20_lasts_39 : decode cX20_lasts 39 = .ok (.aload_n 0, 1) := dk_42 (dk_at dksX20_lasts_1 15 rfl rfl)
theorem dX20_lasts_40 : decode cX20_lasts 40 = .ok (.bipush 6, 2) := dk_16 6 (dk_at dksX20_lasts_1 16 rfl rfl)
theorem dX20_lasts_42 : decode cX20_lasts 42 = .ok (.invokevirtual 255, 3) := dk_182 0 255 (dk_at dksX20_lasts_1 18 rfl rfl)
theorem dX20_lasts_45 : decode cX20_lasts 45 = .ok (.bipush 24, 2) := dk_16 24 (dk_at dksX20_lasts_1 21 rfl rfl)
theorem dX20_lasts_47 : decode cX20_lasts 47 = .ok (.if_icmp .ge 27, 3) := dk_162 0 27 (dk_at dksX20_lasts_2 0 rfl rfl)
theorem dX20_lasts_50 : decode cX20_lasts 50 = .ok (.aload_n 0, 1) := dk_42 (dk_at dksX20_lasts_2 3 rfl rfl)
theorem dX20_lasts_51 : decode cX20_lasts 51 = .ok (.invokevirtual 276, 3) := dk_182 1 20 (dk_at dksX20_lasts_2 4 rfl rfl)
theorem dX20_lasts_54 : decode cX20_lasts 54 = .ok (.aload_n 0, 1) := dk_42 (dk_at dksX20_lasts_2 7 rfl rfl)
theorem dX20_lasts_55 : decode cX20_lasts 55 = .ok (.invokevirtual 263, 3) := dk_182 1 7 (dk_at dksX20_lasts_2 8 rfl rfl)
theorem dX20_lasts_58 : decode cX20_lasts 58 = .ok (.istore_n 3, 1) := dk_62 (dk_at dksX20_lasts_2 11 rfl rfl)
theorem dX20_lasts_59 : decode cX20_lasts 59 = .ok (.iload_n 2, 1) := dk_28 (dk_at dksX20_lasts_2 12 rfl rfl)
theorem dX20_lasts_60 : decode cX20_lasts 60 = .ok (.iload_n 3, 1) := dk_29 (dk_at dksX20_lasts_2 13 rfl rfl)
theorem dX20_lasts_61 : decode cX20_lasts 61 = .ok (.ifCond .eq 7, 3) := dk_153 0 7 (dk_at dksX20_lasts_2 14 rfl rfl)
theorem dX20_lasts_64 : decode cX20_lasts 64 = .ok (.iconst 1, 1) := dk_4 (dk_at dksX20_lasts_2 17 rfl rfl)
theorem dX20_lasts_65 : decode cX20_lasts 65 = .ok (.goto 4, 3) := dk_167 0 4 (dk_at dksX20_lasts_2 18 rfl rfl)
theorem dX20_lasts_68 : decode cX20_lasts 68 = .ok (.iconst 0, 1) := dk_3 (dk_at dksX20_lasts_2 21 rfl rfl)
theorem dX20_lasts_69 : decode cX20_lasts 69 = .ok (.iadd, 1) := dk_96 (dk_at dksX20_lasts_2 22 rfl rfl)
theorem dX20_lasts_70 : decode cX20_lasts 70 = .ok (.istore_n 2, 1) := dk_61 (dk_at dksX20_lasts_2 23 rfl rfl)
theorem dX20_lasts_71 : decode cX20_lasts 71 = .ok (.goto (-36), 3) := dk_167 255 220 (dk_at dksX20_lasts_3 0 rfl rfl)
theorem dX20_lasts_74 : decode cX20_lasts 74 = .ok (.aload_n 0, 1) := dk_42 (dk_at dksX20_lasts_3 3 rfl rfl)
theorem dX20_lasts_75 : decode cX20_lasts 75 = .ok (.iconst 0, 1) := dk_3 (dk_at dksX20_lasts_3 4 rfl rfl)
theorem dX20_lasts_76 : decode cX20_lasts 76 = .ok (.putfield 104, 3) := dk_181 0 104 (dk_at dksX20_lasts_3 5 rfl rfl)
theorem dX20_lasts_79 : decode cX20_lasts 79 = .ok (.iload_n 2, 1) := dk_28 (dk_at dksX20_lasts_3 8 rfl rfl)
theorem dX20_lasts_80 : decode cX20_lasts 80 = .ok (.ireturn, 1) := dk_172 (dk_at dksX20_lasts_3 9 rfl rfl)
abbrev cX20_best : ByteArray := prog_38_method_55_code
def yX20_best : MethodName := ⟨RX20, "best", "(II)I"⟩
def dkwX20_best_3 : List UInt8 := [180, 1, 52, 172]
abbrev dktX20_best_3 : List UInt8 := dkwX20_best_3 ++ []
def dkwX20_best_2 : List UInt8 := [154, 0, 10, 42, 180, 1, 49, 167, 0, 19, 28, 4, 160, 0, 10, 42, 180, 1, 46, 167, 0, 7, 42]
abbrev dktX20_best_2 : List UInt8 := dkwX20_best_2 ++ dktX20_best_3
def dkwX20_best_1 : List UInt8 := [3, 5, 184, 0, 100, 154, 0, 5, 2, 172, 42, 27, 182, 1, 55, 154, 0, 6, 16, 253, 172, 28]
abbrev dktX20_best_1 : List UInt8 := dkwX20_best_1 ++ dktX20_best_2
def dkwX20_best_0 : List UInt8 := [27, 4, 8, 184, 0, 100, 153, 0, 26, 27, 16, 24, 42, 180, 0, 7, 16, 6, 46, 100, 163, 0, 12, 28]
abbrev dktX20_best_0 : List UInt8 := dkwX20_best_0 ++ dktX20_best_1
theorem dksX20_best_0 : cX20_best.data.toList.drop 0 = dktX20_best_0 := by decide +kernel
theorem dksX20_best_1 : cX20_best.data.toList.drop 24 = dktX20_best_1 := dk_seg dksX20_best_0 24 rfl rfl
theorem dksX20_best_2 : cX20_best.data.toList.drop 46 = dktX20_best_2 := dk_seg dksX20_best_1 22 rfl rfl
theorem dksX20_best_3 : cX20_best.data.toList.drop 69 = dktX20_best_3 := dk_seg dksX20_best_2 23 rfl rfl
theorem dX20_best_0 : decode cX20_best 0 = .ok (.iload_n 1, 1) := dk_27 (dk_at dksX20_best_0 0 rfl rfl)
theorem dX20_best_1 : decode cX20_best 1 = .ok (.iconst 1, 1) := dk_4 (dk_at dksX20_best_0 1 rfl rfl)
theorem dX20_best_2 : decode cX20_best 2 = .ok (.iconst 5, 1) := dk_8 (dk_at dksX20_best_0 2 rfl rfl)
theorem dX20_best_3 : decode cX20_best 3 = .ok (.invokestatic 100, 3) := dk_184 0 100 (dk_at dksX20_best_0 3 rfl rfl)
theorem dX20_best_6 : decode cX20_best 6 = .ok (.ifCond .eq 26, 3) := dk_153 0 26 (dk_at dksX20_best_0 6 rfl rfl)
theorem dX20_best_9 : decode cX20_best 9 = .ok (.iload_n 1, 1) := dk_27 (dk_at dksX20_best_0 9 rfl rfl)
theorem dX20_best_10 : decode cX20_best 10 = .ok (.bipush 24, 2) := dk_16 24 (dk_at dksX20_best_0 10 rfl rfl)
theorem dX20_best_12 : decode cX20_best 12 = .ok (.aload_n 0, 1) := dk_42 (dk_at dksX20_best_0 12 rfl rfl)
theorem dX20_best_13 : decode cX20_best 13 = .ok (.getfield 7, 3) := dk_180 0 7 (dk_at dksX20_best_0 13 rfl rfl)
theorem dX20_best_16 : decode cX20_best 16 = .ok (.bipush 6, 2) := dk_16 6 (dk_at dksX20_best_0 16 rfl rfl)
theorem dX20_best_18 : decode cX20_best 18 = .ok (.iaload, 1) := dk_46 (dk_at dksX20_best_0 18 rfl rfl)
theorem dX20_best_19 : decode cX20_best 19 = .ok (.isub, 1) := dk_100 (dk_at dksX20_best_0 19 rfl rfl)
theorem dX20_best_20 : decode cX20_best 20 = .ok (.if_icmp .gt 12, 3) := dk_163 0 12 (dk_at dksX20_best_0 20 rfl rfl)
theorem dX20_best_23 : decode cX20_best 23 = .ok (.iload_n 2, 1) := dk_28 (dk_at dksX20_best_0 23 rfl rfl)
theorem dX20_best_24 : decode cX20_best 24 = .ok (.iconst 0, 1) := dk_3 (dk_at dksX20_best_1 0 rfl rfl)
theorem dX20_best_25 : decode cX20_best 25 = .ok (.iconst 2, 1) := dk_5 (dk_at dksX20_best_1 1 rfl rfl)
theorem dX20_best_26 : decode cX20_best 26 = .ok (.invokestatic 100, 3) := dk_184 0 100 (dk_at dksX20_best_1 2 rfl rfl)
theorem dX20_best_29 : decode cX20_best 29 = .ok (.ifCond .ne 5, 3) := dk_154 0 5 (dk_at dksX20_best_1 5 rfl rfl)
theorem dX20_best_32 : decode cX20_best 32 = .ok (.iconst (-1), 1) := dk_2 (dk_at dksX20_best_1 8 rfl rfl)
theorem dX20_best_33 : decode cX20_best 33 = .ok (.ireturn, 1) := dk_172 (dk_at dksX20_best_1 9 rfl rfl)
theorem dX20_best_34 : decode cX20_best 34 = .ok (.aload_n 0, 1) := dk_42 (dk_at dksX20_best_1 10 rfl rfl)
theorem dX20_best_35 : decode cX20_best 35 = .ok (.iload_n 1, 1) := dk_27 (dk_at dksX20_best_1 11 rfl rfl)
theorem dX20_best_36 : decode cX20_best 36 = .ok (.invokevirtual 311, 3) := dk_182 1 55 (dk_at dksX20_best_1 12 rfl rfl)
theorem dX20_best_39 : decode cX20_best 39 = .ok (.ifCond .ne 6, 3) := dk_154 0 6 (dk_at dksX20_best_1 15 rfl rfl)
theorem dX20_best_42 : decode cX20_best 42 = .ok (.bipush (-3), 2) := dk_16 253 (dk_at dksX20_best_1 18 rfl rfl)
theorem dX20_best_44 : decode cX20_best 44 = .ok (.ireturn, 1) := dk_172 (dk_at dksX20_best_1 20 rfl rfl)
theorem dX20_best_45 : decode cX20_best 45 = .ok (.iload_n 2, 1) := dk_28 (dk_at dksX20_best_1 21 rfl rfl)
theorem dX20_best_46 : decode cX20_best 46 = .ok (.ifCond .ne 10, 3) := dk_154 0 10 (dk_at dksX20_best_2 0 rfl rfl)
theorem dX20_best_49 : decode cX20_best 49 = .ok (.aload_n 0, 1) := dk_42 (dk_at dksX20_best_2 3 rfl rfl)
theorem dX20_best_50 : decode cX20_best 50 = .ok (.getfield 305, 3) := dk_180 1 49 (dk_at dksX20_best_2 4 rfl rfl)
theorem dX20_best_53 : decode cX20_best 53 = .ok (.goto 19, 3) := dk_167 0 19 (dk_at dksX20_best_2 7 rfl rfl)
theorem dX20_best_56 : decode cX20_best 56 = .ok (.iload_n 2, 1) := dk_28 (dk_at dksX20_best_2 10 rfl rfl)
theorem dX20_best_57 : decode cX20_best 57 = .ok (.iconst 1, 1) := dk_4 (dk_at dksX20_best_2 11 rfl rfl)
theorem dX20_best_58 : decode cX20_best 58 = .ok (.if_icmp .ne 10, 3) := dk_160 0 10 (dk_at dksX20_best_2 12 rfl rfl)
theorem dX20_best_61 : decode cX20_best 61 = .ok (.aload_n 0, 1) := dk_42 (dk_at dksX20_best_2 15 rfl rfl)
theorem dX20_best_62 : decode cX20_best 62 = .ok (.getfield 302, 3) := dk_180 1 46 (dk_at dksX20_best_2 16 rfl rfl)
theorem dX20_best_65 : decode cX20_best 65 = .ok (.goto 7, 3) := dk_167 0 7 (dk_at dksX20_best_2 19 rfl rfl)
theorem dX20_best_68 : decode cX20_best 68 = .ok (.aload_n 0, 1) := dk_42 (dk_at dksX20_best_2 22 rfl rfl)
theorem dX20_best_69 : decode cX20_best 69 = .ok (.getfield 308, 3) := dk_180 1 52 (dk_at dksX20_best_3 0 rfl rfl)
theorem dX20_best_72 : decode cX20_best 72 = .ok (.ireturn, 1) := dk_172 (dk_at dksX20_best_3 3 rfl rfl)
abbrev cX20_findBest : ByteArray := prog_38_method_54_code
def yX20_findBest : MethodName := ⟨RX20, "findBest", "(I)Z"⟩
def dkwX20_findBest_5 : List UInt8 := [181, 0, 104, 132, 3, 1, 167, 255, 139, 28, 172]
abbrev dktX20_findBest_5 : List UInt8 := dkwX20_findBest_5 ++ []
def dkwX20_findBest_4 : List UInt8 := [182, 0, 255, 181, 1, 46, 42, 21, 5, 181, 1, 49, 42, 21, 4, 181, 1, 52, 4, 61, 42, 3]
abbrev dktX20_findBest_4 : List UInt8 := dkwX20_findBest_4 ++ dktX20_findBest_5
def dkwX20_findBest_3 : List UInt8 := [42, 180, 1, 49, 164, 0, 7, 4, 167, 0, 4, 3, 54, 6, 21, 6, 153, 0, 26, 42, 42, 7]
abbrev dktX20_findBest_3 : List UInt8 := dkwX20_findBest_3 ++ dktX20_findBest_4
def dkwX20_findBest_2 : List UInt8 := [182, 0, 255, 42, 180, 1, 46, 161, 0, 24, 42, 7, 182, 0, 255, 42, 180, 1, 46, 160, 0, 16, 21, 5]
abbrev dktX20_findBest_2 : List UInt8 := dkwX20_findBest_2 ++ dktX20_findBest_3
def dkwX20_findBest_1 : List UInt8 := [182, 0, 255, 42, 5, 182, 0, 255, 96, 54, 5, 42, 182, 1, 7, 153, 0, 44, 28, 153, 0, 36, 42, 7]
abbrev dktX20_findBest_1 : List UInt8 := dkwX20_findBest_1 ++ dktX20_findBest_2
def dkwX20_findBest_0 : List UInt8 := [3, 61, 3, 62, 29, 4, 5, 27, 104, 120, 162, 0, 114, 42, 27, 29, 182, 1, 43, 54, 4, 42, 4]
abbrev dktX20_findBest_0 : List UInt8 := dkwX20_findBest_0 ++ dktX20_findBest_1
theorem dksX20_findBest_0 : cX20_findBest.data.toList.drop 0 = dktX20_findBest_0 := by decide +kernel
theorem dksX20_findBest_1 : cX20_findBest.data.toList.drop 23 = dktX20_findBest_1 := dk_seg dksX20_findBest_0 23 rfl rfl
theorem dksX20_findBest_2 : cX20_findBest.data.toList.drop 47 = dktX20_findBest_2 := dk_seg dksX20_findBest_1 24 rfl rfl
theorem dksX20_findBest_3 : cX20_findBest.data.toList.drop 71 = dktX20_findBest_3 := dk_seg dksX20_findBest_2 24 rfl rfl
theorem dksX20_findBest_4 : cX20_findBest.data.toList.drop 93 = dktX20_findBest_4 := dk_seg dksX20_findBest_3 22 rfl rfl
theorem dksX20_findBest_5 : cX20_findBest.data.toList.drop 115 = dktX20_findBest_5 := dk_seg dksX20_findBest_4 22 rfl rfl
theorem dX20_findBest_0 : decode cX20_findBest 0 = .ok (.iconst 0, 1) := dk_3 (dk_at dksX20_findBest_0 0 rfl rfl)
theorem dX20_findBest_1 : decode cX20_findBest 1 = .ok (.istore_n 2, 1) := dk_61 (dk_at dksX20_findBest_0 1 rfl rfl)
theorem dX20_findBest_2 : decode cX20_findBest 2 = .ok (.iconst 0, 1) := dk_3 (dk_at dksX20_findBest_0 2 rfl rfl)
theorem dX20_findBest_3 : decode cX20_findBest 3 = .ok (.istore_n 3, 1) := dk_62 (dk_at dksX20_findBest_0 3 rfl rfl)
theorem dX20_findBest_4 : decode cX20_findBest 4 = .ok (.iload_n 3, 1) := dk_29 (dk_at dksX20_findBest_0 4 rfl rfl)
theorem dX20_findBest_5 : decode cX20_findBest 5 = .ok (.iconst 1, 1) := dk_4 (dk_at dksX20_findBest_0 5 rfl rfl)
theorem dX20_findBest_6 : decode cX20_findBest 6 = .ok (.iconst 2, 1) := dk_5 (dk_at dksX20_findBest_0 6 rfl rfl)
theorem dX20_findBest_7 : decode cX20_findBest 7 = .ok (.iload_n 1, 1) := dk_27 (dk_at dksX20_findBest_0 7 rfl rfl)
theorem dX20_findBest_8 : decode cX20_findBest 8 = .ok (.imul, 1) := dk_104 (dk_at dksX20_findBest_0 8 rfl rfl)
theorem dX20_findBest_9 : decode cX20_findBest 9 = .ok (.ishl, 1) := dk_120 (dk_at dksX20_findBest_0 9 rfl rfl)
theorem dX20_findBest_10 : decode cX20_findBest 10 = .ok (.if_icmp .ge 114, 3) := dk_162 0 114 (dk_at dksX20_findBest_0 10 rfl rfl)
theorem dX20_findBest_13 : decode cX20_findBest 13 = .ok (.aload_n 0, 1) := dk_42 (dk_at dksX20_findBest_0 13 rfl rfl)
theorem dX20_findBest_14 : decode cX20_findBest 14 = .ok (.iload_n 1, 1) := dk_27 (dk_at dksX20_findBest_0 14 rfl rfl)
theorem dX20_findBest_15 : decode cX20_findBest 15 = .ok (.iload_n 3, 1) := dk_29 (dk_at dksX20_findBest_0 15 rfl rfl)
theorem dX20_findBest_16 : decode cX20_findBest 16 = .ok (.invokevirtual 299, 3) := dk_182 1 43 (dk_at dksX20_findBest_0 16 rfl rfl)
theorem dX20_findBest_19 : decode cX20_findBest 19 = .ok (.istore 4, 2) := dk_54 4 (dk_at dksX20_findBest_0 19 rfl rfl)
theorem dX20_findBest_21 : decode cX20_findBest 21 = .ok (.aload_n 0, 1) := dk_42 (dk_at dksX20_findBest_0 21 rfl rfl)
theorem dX20_findBest_22 : decode cX20_findBest 22 = .ok (.iconst 1, 1) := dk_4 (dk_at dksX20_findBest_0 22 rfl rfl)
theorem dX20_findBest_23 : decode cX20_findBest 23 = .ok (.invokevirtual 255, 3) := dk_182 0 255 (dk_at dksX20_findBest_1 0 rfl rfl)
theorem dX20_findBest_26 : decode cX20_findBest 26 = .ok (.aload_n 0, 1) := dk_42 (dk_at dksX20_findBest_1 3 rfl rfl)
theorem dX20_findBest_27 : decode cX20_findBest 27 = .ok (.iconst 2, 1) := dk_5 (dk_at dksX20_findBest_1 4 rfl rfl)
theorem dX20_findBest_28 : decode cX20_findBest 28 = .ok (.invokevirtual 255, 3) := dk_182 0 255 (dk_at dksX20_findBest_1 5 rfl rfl)
theorem dX20_findBest_31 : decode cX20_findBest 31 = .ok (.iadd, 1) := dk_96 (dk_at dksX20_findBest_1 8 rfl rfl)
theorem dX20_findBest_32 : decode cX20_findBest 32 = .ok (.istore 5, 2) := dk_54 5 (dk_at dksX20_findBest_1 9 rfl rfl)
theorem dX20_findBest_34 : decode cX20_findBest 34 = .ok (.aload_n 0, 1) := dk_42 (dk_at dksX20_findBest_1 11 rfl rfl)
theorem dX20_findBest_35 : decode cX20_findBest 35 = .ok (.invokevirtual 263, 3) := dk_182 1 7 (dk_at dksX20_findBest_1 12 rfl rfl)
theorem dX20_findBest_38 : decode cX20_findBest 38 = .ok (.ifCond .eq 44, 3) := dk_153 0 44 (dk_at dksX20_findBest_1 15 rfl rfl)
theorem dX20_findBest_41 : decode cX20_findBest 41 = .ok (.iload_n 2, 1) := dk_28 (dk_at dksX20_findBest_1 18 rfl rfl)
theorem dX20_findBest_42 : decode cX20_findBest 42 = .ok (.ifCond .eq 36, 3) := dk_153 0 36 (dk_at dksX20_findBest_1 19 rfl rfl)
theorem dX20_findBest_45 : decode cX20_findBest 45 = .ok (.aload_n 0, 1) := dk_42 (dk_at dksX20_findBest_1 22 rfl rfl)
theorem dX20_findBest_46 : decode cX20_findBest 46 = .ok (.iconst 4, 1) := dk_7 (dk_at dksX20_findBest_1 23 rfl rfl)
theorem dX20_findBest_47 : decode cX20_findBest 47 = .ok (.invokevirtual 255, 3) := dk_182 0 255 (dk_at dksX20_findBest_2 0 rfl rfl)
theorem dX20_findBest_50 : decode cX20_findBest 50 = .ok (.aload_n 0, 1) := dk_42 (dk_at dksX20_findBest_2 3 rfl rfl)
theorem dX20_findBest_51 : decode cX20_findBest 51 = .ok (.getfield 302, 3) := dk_180 1 46 (dk_at dksX20_findBest_2 4 rfl rfl)
theorem dX20_findBest_54 : decode cX20_findBest 54 = .ok (.if_icmp .lt 24, 3) := dk_161 0 24 (dk_at dksX20_findBest_2 7 rfl rfl)
theorem dX20_findBest_57 : decode cX20_findBest 57 = .ok (.aload_n 0, 1) := dk_42 (dk_at dksX20_findBest_2 10 rfl rfl)
theorem dX20_findBest_58 : decode cX20_findBest 58 = .ok (.iconst 4, 1) := dk_7 (dk_at dksX20_findBest_2 11 rfl rfl)
theorem dX20_findBest_59 : decode cX20_findBest 59 = .ok (.invokevirtual 255, 3) := dk_182 0 255 (dk_at dksX20_findBest_2 12 rfl rfl)
theorem dX20_findBest_62 : decode cX20_findBest 62 = .ok (.aload_n 0, 1) := dk_42 (dk_at dksX20_findBest_2 15 rfl rfl)
theorem dX20_findBest_63 : decode cX20_findBest 63 = .ok (.getfield 302, 3) := dk_180 1 46 (dk_at dksX20_findBest_2 16 rfl rfl)
theorem dX20_findBest_66 : decode cX20_findBest 66 = .ok (.if_icmp .ne 16, 3) := dk_160 0 16 (dk_at dksX20_findBest_2 19 rfl rfl)
theorem dX20_findBest_69 : decode cX20_findBest 69 = .ok (.iload 5, 2) := dk_21 5 (dk_at dksX20_findBest_2 22 rfl rfl)
theorem dX20_findBest_71 : decode cX20_findBest 71 = .ok (.aload_n 0, 1) := dk_42 (dk_at dksX20_findBest_3 0 rfl rfl)
theorem dX20_findBest_72 : decode cX20_findBest 72 = .ok (.getfield 305, 3) := dk_180 1 49 (dk_at dksX20_findBest_3 1 rfl rfl)
theorem dX20_findBest_75 : decode cX20_findBest 75 = .ok (.if_icmp .le 7, 3) := dk_164 0 7 (dk_at dksX20_findBest_3 4 rfl rfl)
theorem dX20_findBest_78 : decode cX20_findBest 78 = .ok (.iconst 1, 1) := dk_4 (dk_at dksX20_findBest_3 7 rfl rfl)
theorem dX20_findBest_79 : decode cX20_findBest 79 = .ok (.goto 4, 3) := dk_167 0 4 (dk_at dksX20_findBest_3 8 rfl rfl)
theorem dX20_findBest_82 : decode cX20_findBest 82 = .ok (.iconst 0, 1) := dk_3 (dk_at dksX20_findBest_3 11 rfl rfl)
theorem dX20_findBest_83 : decode cX20_findBest 83 = .ok (.istore 6, 2) := dk_54 6 (dk_at dksX20_findBest_3 12 rfl rfl)
theorem dX20_findBest_85 : decode cX20_findBest 85 = .ok (.iload 6, 2) := dk_21 6 (dk_at dksX20_findBest_3 14 rfl rfl)
theorem dX20_findBest_87 : decode cX20_findBest 87 = .ok (.ifCond .eq 26, 3) := dk_153 0 26 (dk_at dksX20_findBest_3 16 rfl rfl)
theorem dX20_findBest_90 : decode cX20_findBest 90 = .ok (.aload_n 0, 1) := dk_42 (dk_at dksX20_findBest_3 19 rfl rfl)
theorem dX20_findBest_91 : decode cX20_findBest 91 = .ok (.aload_n 0, 1) := dk_42 (dk_at dksX20_findBest_3 20 rfl rfl)
theorem dX20_findBest_92 : decode cX20_findBest 92 = .ok (.iconst 4, 1) := dk_7 (dk_at dksX20_findBest_3 21 rfl rfl)
theorem dX20_findBest_93 : decode cX20_findBest 93 = .ok (.invokevirtual 255, 3) := dk_182 0 255 (dk_at dksX20_findBest_4 0 rfl rfl)
theorem dX20_findBest_96 : decode cX20_findBest 96 = .ok (.putfield 302, 3) := dk_181 1 46 (dk_at dksX20_findBest_4 3 rfl rfl)
theorem dX20_findBest_99 : decode cX20_findBest 99 = .ok (.aload_n 0, 1) := dk_42 (dk_at dksX20_findBest_4 6 rfl rfl)
theorem dX20_findBest_100 : decode cX20_findBest 100 = .ok (.iload 5, 2) := dk_21 5 (dk_at dksX20_findBest_4 7 rfl rfl)
theorem dX20_findBest_102 : decode cX20_findBest 102 = .ok (.putfield 305, 3) := dk_181 1 49 (dk_at dksX20_findBest_4 9 rfl rfl)
theorem dX20_findBest_105 : decode cX20_findBest 105 = .ok (.aload_n 0, 1) := dk_42 (dk_at dksX20_findBest_4 12 rfl rfl)
theorem dX20_findBest_106 : decode cX20_findBest 106 = .ok (.iload 4, 2) := dk_21 4 (dk_at dksX20_findBest_4 13 rfl rfl)
theorem dX20_findBest_108 : decode cX20_findBest 108 = .ok (.putfield 308, 3) := dk_181 1 52 (dk_at dksX20_findBest_4 15 rfl rfl)
theorem dX20_findBest_111 : decode cX20_findBest 111 = .ok (.iconst 1, 1) := dk_4 (dk_at dksX20_findBest_4 18 rfl rfl)
theorem dX20_findBest_112 : decode cX20_findBest 112 = .ok (.istore_n 2, 1) := dk_61 (dk_at dksX20_findBest_4 19 rfl rfl)
theorem dX20_findBest_113 : decode cX20_findBest 113 = .ok (.aload_n 0, 1) := dk_42 (dk_at dksX20_findBest_4 20 rfl rfl)
theorem dX20_findBest_114 : decode cX20_findBest 114 = .ok (.iconst 0, 1) := dk_3 (dk_at dksX20_findBest_4 21 rfl rfl)
theorem dX20_findBest_115 : decode cX20_findBest 115 = .ok (.putfield 104, 3) := dk_181 0 104 (dk_at dksX20_findBest_5 0 rfl rfl)
theorem dX20_findBest_118 : decode cX20_findBest 118 = .ok (.iinc 3 1, 3) := dk_132 3 1 (dk_at dksX20_findBest_5 3 rfl rfl)
theorem dX20_findBest_121 : decode cX20_findBest 121 = .ok (.goto (-117), 3) := dk_167 255 139 (dk_at dksX20_findBest_5 6 rfl rfl)
theorem dX20_findBest_124 : decode cX20_findBest 124 = .ok (.iload_n 2, 1) := dk_28 (dk_at dksX20_findBest_5 9 rfl rfl)
theorem dX20_findBest_125 : decode cX20_findBest 125 = .ok (.ireturn, 1) := dk_172 (dk_at dksX20_findBest_5 10 rfl rfl)
abbrev cX20_goesBy : ByteArray := prog_38_method_53_code
def yX20_goesBy : MethodName := ⟨RX20, "goesBy", "(II)I"⟩
def dkwX20_goesBy_2 : List UInt8 := [180, 0, 104, 8, 96, 21, 5, 79, 42, 182, 1, 20, 132, 4, 1, 167, 255, 206, 29, 172]
abbrev dktX20_goesBy_2 : List UInt8 := dkwX20_goesBy_2 ++ []
def dkwX20_goesBy_1 : List UInt8 := [21, 4, 100, 104, 122, 6, 126, 54, 5, 29, 21, 5, 5, 21, 4, 104, 120, 128, 62, 42, 180, 0, 7, 42]
abbrev dktX20_goesBy_1 : List UInt8 := dkwX20_goesBy_1 ++ dktX20_goesBy_2
def dkwX20_goesBy_0 : List UInt8 := [42, 3, 16, 7, 182, 1, 39, 3, 62, 3, 54, 4, 21, 4, 27, 162, 0, 50, 28, 5, 27, 4, 100]
abbrev dktX20_goesBy_0 : List UInt8 := dkwX20_goesBy_0 ++ dktX20_goesBy_1
theorem dksX20_goesBy_0 : cX20_goesBy.data.toList.drop 0 = dktX20_goesBy_0 := by decide +kernel
theorem dksX20_goesBy_1 : cX20_goesBy.data.toList.drop 23 = dktX20_goesBy_1 := dk_seg dksX20_goesBy_0 23 rfl rfl
theorem dksX20_goesBy_2 : cX20_goesBy.data.toList.drop 47 = dktX20_goesBy_2 := dk_seg dksX20_goesBy_1 24 rfl rfl
theorem dX20_goesBy_0 : decode cX20_goesBy 0 = .ok (.aload_n 0, 1) := dk_42 (dk_at dksX20_goesBy_0 0 rfl rfl)
theorem dX20_goesBy_1 : decode cX20_goesBy 1 = .ok (.iconst 0, 1) := dk_3 (dk_at dksX20_goesBy_0 1 rfl rfl)
theorem dX20_goesBy_2 : decode cX20_goesBy 2 = .ok (.bipush 7, 2) := dk_16 7 (dk_at dksX20_goesBy_0 2 rfl rfl)
theorem dX20_goesBy_4 : decode cX20_goesBy 4 = .ok (.invokevirtual 295, 3) := dk_182 1 39 (dk_at dksX20_goesBy_0 4 rfl rfl)
theorem dX20_goesBy_7 : decode cX20_goesBy 7 = .ok (.iconst 0, 1) := dk_3 (dk_at dksX20_goesBy_0 7 rfl rfl)
theorem dX20_goesBy_8 : decode cX20_goesBy 8 = .ok (.istore_n 3, 1) := dk_62 (dk_at dksX20_goesBy_0 8 rfl rfl)
theorem dX20_goesBy_9 : decode cX20_goesBy 9 = .ok (.iconst 0, 1) := dk_3 (dk_at dksX20_goesBy_0 9 rfl rfl)
theorem dX20_goesBy_10 : decode cX20_goesBy 10 = .ok (.istore 4, 2) := dk_54 4 (dk_at dksX20_goesBy_0 10 rfl rfl)
theorem dX20_goesBy_12 : decode cX20_goesBy 12 = .ok (.iload 4, 2) := dk_21 4 (dk_at dksX20_goesBy_0 12 rfl rfl)
theorem dX20_goesBy_14 : decode cX20_goesBy 14 = .ok (.iload_n 1, 1) := dk_27 (dk_at dksX20_goesBy_0 14 rfl rfl)
theorem dX20_goesBy_15 : decode cX20_goesBy 15 = .ok (.if_icmp .ge 50, 3) := dk_162 0 50 (dk_at dksX20_goesBy_0 15 rfl rfl)
theorem dX20_goesBy_18 : decode cX20_goesBy 18 = .ok (.iload_n 2, 1) := dk_28 (dk_at dksX20_goesBy_0 18 rfl rfl)
theorem dX20_goesBy_19 : decode cX20_goesBy 19 = .ok (.iconst 2, 1) := dk_5 (dk_at dksX20_goesBy_0 19 rfl rfl)
theorem dX20_goesBy_20 : decode cX20_goesBy 20 = .ok (.iload_n 1, 1) := dk_27 (dk_at dksX20_goesBy_0 20 rfl rfl)
theorem dX20_goesBy_21 : decode cX20_goesBy 21 = .ok (.iconst 1, 1) := dk_4 (dk_at dksX20_goesBy_0 21 rfl rfl)
theorem dX20_goesBy_22 : decode cX20_goesBy 22 = .ok (.isub, 1) := dk_100 (dk_at dksX20_goesBy_0 22 rfl rfl)
theorem dX20_goesBy_23 : decode cX20_goesBy 23 = .ok (.iload 4, 2) := dk_21 4 (dk_at dksX20_goesBy_1 0 rfl rfl)
theorem dX20_goesBy_25 : decode cX20_goesBy 25 = .ok (.isub, 1) := dk_100 (dk_at dksX20_goesBy_1 2 rfl rfl)
theorem dX20_goesBy_26 : decode cX20_goesBy 26 = .ok (.imul, 1) := dk_104 (dk_at dksX20_goesBy_1 3 rfl rfl)
theorem dX20_goesBy_27 : decode cX20_goesBy 27 = .ok (.ishr, 1) := dk_122 (dk_at dksX20_goesBy_1 4 rfl rfl)
theorem dX20_goesBy_28 : decode cX20_goesBy 28 = .ok (.iconst 3, 1) := dk_6 (dk_at dksX20_goesBy_1 5 rfl rfl)
theorem dX20_goesBy_29 : decode cX20_goesBy 29 = .ok (.iand, 1) := dk_126 (dk_at dksX20_goesBy_1 6 rfl rfl)
theorem dX20_goesBy_30 : decode cX20_goesBy 30 = .ok (.istore 5, 2) := dk_54 5 (dk_at dksX20_goesBy_1 7 rfl rfl)
theorem dX20_goesBy_32 : decode cX20_goesBy 32 = .ok (.iload_n 3, 1) := dk_29 (dk_at dksX20_goesBy_1 9 rfl rfl)
theorem dX20_goesBy_33 : decode cX20_goesBy 33 = .ok (.iload 5, 2) := dk_21 5 (dk_at dksX20_goesBy_1 10 rfl rfl)
theorem dX20_goesBy_35 : decode cX20_goesBy 35 = .ok (.iconst 2, 1) := dk_5 (dk_at dksX20_goesBy_1 12 rfl rfl)
theorem dX20_goesBy_36 : decode cX20_goesBy 36 = .ok (.iload 4, 2) := dk_21 4 (dk_at dksX20_goesBy_1 13 rfl rfl)
theorem dX20_goesBy_38 : decode cX20_goesBy 38 = .ok (.imul, 1) := dk_104 (dk_at dksX20_goesBy_1 15 rfl rfl)
theorem dX20_goesBy_39 : decode cX20_goesBy 39 = .ok (.ishl, 1) := dk_120 (dk_at dksX20_goesBy_1 16 rfl rfl)
theorem dX20_goesBy_40 : decode cX20_goesBy 40 = .ok (.ior, 1) := dk_128 (dk_at dksX20_goesBy_1 17 rfl rfl)
theorem dX20_goesBy_41 : decode cX20_goesBy 41 = .ok (.istore_n 3, 1) := dk_62 (dk_at dksX20_goesBy_1 18 rfl rfl)
theorem dX20_goesBy_42 : decode cX20_goesBy 42 = .ok (.aload_n 0, 1) := dk_42 (dk_at dksX20_goesBy_1 19 rfl rfl)
theorem dX20_goesBy_43 : decode cX20_goesBy 43 = .ok (.getfield 7, 3) := dk_180 0 7 (dk_at dksX20_goesBy_1 20 rfl rfl)
theorem dX20_goesBy_46 : decode cX20_goesBy 46 = .ok (.aload_n 0, 1) := dk_42 (dk_at dksX20_goesBy_1 23 rfl rfl)
theorem dX20_goesBy_47 : decode cX20_goesBy 47 = .ok (.getfield 104, 3) := dk_180 0 104 (dk_at dksX20_goesBy_2 0 rfl rfl)
theorem dX20_goesBy_50 : decode cX20_goesBy 50 = .ok (.iconst 5, 1) := dk_8 (dk_at dksX20_goesBy_2 3 rfl rfl)
theorem dX20_goesBy_51 : decode cX20_goesBy 51 = .ok (.iadd, 1) := dk_96 (dk_at dksX20_goesBy_2 4 rfl rfl)
theorem dX20_goesBy_52 : decode cX20_goesBy 52 = .ok (.iload 5, 2) := dk_21 5 (dk_at dksX20_goesBy_2 5 rfl rfl)
theorem dX20_goesBy_54 : decode cX20_goesBy 54 = .ok (.iastore, 1) := dk_79 (dk_at dksX20_goesBy_2 7 rfl rfl)
theorem dX20_goesBy_55 : decode cX20_goesBy 55 = .ok (.aload_n 0, 1) := dk_42 (dk_at dksX20_goesBy_2 8 rfl rfl)
theorem dX20_goesBy_56 : decode cX20_goesBy 56 = .ok (.invokevirtual 276, 3) := dk_182 1 20 (dk_at dksX20_goesBy_2 9 rfl rfl)
theorem dX20_goesBy_59 : decode cX20_goesBy 59 = .ok (.iinc 4 1, 3) := dk_132 4 1 (dk_at dksX20_goesBy_2 12 rfl rfl)
theorem dX20_goesBy_62 : decode cX20_goesBy 62 = .ok (.goto (-50), 3) := dk_167 255 206 (dk_at dksX20_goesBy_2 15 rfl rfl)
theorem dX20_goesBy_65 : decode cX20_goesBy 65 = .ok (.iload_n 3, 1) := dk_29 (dk_at dksX20_goesBy_2 18 rfl rfl)
theorem dX20_goesBy_66 : decode cX20_goesBy 66 = .ok (.ireturn, 1) := dk_172 (dk_at dksX20_goesBy_2 19 rfl rfl)
abbrev cX20_later : ByteArray := prog_38_method_56_code
def yX20_later : MethodName := ⟨RX20, "later", "(II)I"⟩
def dkwX20_later_5 : List UInt8 := [16, 253, 54, 4, 42, 3, 181, 0, 104, 132, 5, 1, 167, 255, 164, 21, 4, 172]
abbrev dktX20_later_5 : List UInt8 := dkwX20_later_5 ++ []
def dkwX20_later_4 : List UInt8 := [42, 182, 1, 20, 167, 255, 241, 29, 42, 182, 1, 4, 184, 1, 23, 28, 163, 0, 8, 21, 5, 167, 0, 5]
abbrev dktX20_later_4 : List UInt8 := dkwX20_later_4 ++ dktX20_later_5
def dkwX20_later_3 : List UInt8 := [180, 0, 7, 42, 180, 0, 104, 16, 6, 96, 21, 5, 79, 42, 16, 6, 182, 0, 255, 16, 24, 162, 0, 10]
abbrev dktX20_later_3 : List UInt8 := dkwX20_later_3 ++ dktX20_later_4
def dkwX20_later_2 : List UInt8 := [156, 0, 86, 42, 3, 16, 7, 182, 1, 39, 42, 180, 0, 7, 42, 180, 0, 104, 8, 96, 27, 79, 42]
abbrev dktX20_later_2 : List UInt8 := dkwX20_later_2 ++ dktX20_later_3
def dkwX20_later_1 : List UInt8 := [62, 16, 253, 54, 4, 42, 180, 0, 7, 16, 6, 46, 54, 5, 21, 5, 16, 24, 162, 0, 91, 21, 4]
abbrev dktX20_later_1 : List UInt8 := dkwX20_later_1 ++ dktX20_later_2
def dkwX20_later_0 : List UInt8 := [27, 184, 0, 246, 153, 0, 14, 28, 3, 17, 3, 232, 184, 0, 100, 154, 0, 5, 2, 172, 42, 182, 1, 4]
abbrev dktX20_later_0 : List UInt8 := dkwX20_later_0 ++ dktX20_later_1
theorem dksX20_later_0 : cX20_later.data.toList.drop 0 = dktX20_later_0 := by decide +kernel
theorem dksX20_later_1 : cX20_later.data.toList.drop 24 = dktX20_later_1 := dk_seg dksX20_later_0 24 rfl rfl
theorem dksX20_later_2 : cX20_later.data.toList.drop 47 = dktX20_later_2 := dk_seg dksX20_later_1 23 rfl rfl
theorem dksX20_later_3 : cX20_later.data.toList.drop 70 = dktX20_later_3 := dk_seg dksX20_later_2 23 rfl rfl
theorem dksX20_later_4 : cX20_later.data.toList.drop 94 = dktX20_later_4 := dk_seg dksX20_later_3 24 rfl rfl
theorem dksX20_later_5 : cX20_later.data.toList.drop 118 = dktX20_later_5 := dk_seg dksX20_later_4 24 rfl rfl
theorem dX20_later_0 : decode cX20_later 0 = .ok (.iload_n 1, 1) := dk_27 (dk_at dksX20_later_0 0 rfl rfl)
theorem dX20_later_1 : decode cX20_later 1 = .ok (.invokestatic 246, 3) := dk_184 0 246 (dk_at dksX20_later_0 1 rfl rfl)
theorem dX20_later_4 : decode cX20_later 4 = .ok (.ifCond .eq 14, 3) := dk_153 0 14 (dk_at dksX20_later_0 4 rfl rfl)
theorem dX20_later_7 : decode cX20_later 7 = .ok (.iload_n 2, 1) := dk_28 (dk_at dksX20_later_0 7 rfl rfl)
theorem dX20_later_8 : decode cX20_later 8 = .ok (.iconst 0, 1) := dk_3 (dk_at dksX20_later_0 8 rfl rfl)
theorem dX20_later_9 : decode cX20_later 9 = .ok (.sipush 1000, 3) := dk_17 3 232 (dk_at dksX20_later_0 9 rfl rfl)
theorem dX20_later_12 : decode cX20_later 12 = .ok (.invokestatic 100, 3) := dk_184 0 100 (dk_at dksX20_later_0 12 rfl rfl)
theorem dX20_later_15 : decode cX20_later 15 = .ok (.ifCond .ne 5, 3) := dk_154 0 5 (dk_at dksX20_later_0 15 rfl rfl)
theorem dX20_later_18 : decode cX20_later 18 = .ok (.iconst (-1), 1) := dk_2 (dk_at dksX20_later_0 18 rfl rfl)
theorem dX20_later_19 : decode cX20_later 19 = .ok (.ireturn, 1) := dk_172 (dk_at dksX20_later_0 19 rfl rfl)
theorem dX20_later_20 : decode cX20_later 20 = .ok (.aload_n 0, 1) := dk_42 (dk_at dksX20_later_0 20 rfl rfl)
theorem dX20_later_21 : decode cX20_later 21 = .ok (.invokevirtual 260, 3) := dk_182 1 4 (dk_at dksX20_later_0 21 rfl rfl)
theorem dX20_later_24 : decode cX20_later 24 = .ok (.istore_n 3, 1) := dk_62 (dk_at dksX20_later_1 0 rfl rfl)
theorem dX20_later_25 : decode cX20_later 25 = .ok (.bipush (-3), 2) := dk_16 253 (dk_at dksX20_later_1 1 rfl rfl)
theorem dX20_later_27 : decode cX20_later 27 = .ok (.istore 4, 2) := dk_54 4 (dk_at dksX20_later_1 3 rfl rfl)
theorem dX20_later_29 : decode cX20_later 29 = .ok (.aload_n 0, 1) := dk_42 (dk_at dksX20_later_1 5 rfl rfl)
theorem dX20_later_30 : decode cX20_later 30 = .ok (.getfield 7, 3) := dk_180 0 7 (dk_at dksX20_later_1 6 rfl rfl)
theorem dX20_later_33 : decode cX20_later 33 = .ok (.bipush 6, 2) := dk_16 6 (dk_at dksX20_later_1 9 rfl rfl)
theorem dX20_later_35 : decode cX20_later 35 = .ok (.iaload, 1) := dk_46 (dk_at dksX20_later_1 11 rfl rfl)
theorem dX20_later_36 : decode cX20_later 36 = .ok (.istore 5, 2) := dk_54 5 (dk_at dksX20_later_1 12 rfl rfl)
theorem dX20_later_38 : decode cX20_later 38 = .ok (.iload 5, 2) := dk_21 5 (dk_at dksX20_later_1 14 rfl rfl)
theorem dX20_later_40 : decode cX20_later 40 = .ok (.bipush 24, 2) := dk_16 24 (dk_at dksX20_later_1 16 rfl rfl)
theorem dX20_later_42 : decode cX20_later 42 = .ok (.if_icmp .ge 91, 3) := dk_162 0 91 (dk_at dksX20_later_1 18 rfl rfl)
theorem dX20_later_45 : decode cX20_later 45 = .ok (.iload 4, 2) := dk_21 4 (dk_at dksX20_later_1 21 rfl rfl)
theorem dX20_later_47 : decode cX20_later 47 = .ok (.ifCond .ge 86, 3) := dk_156 0 86 (dk_at dksX20_later_2 0 rfl rfl)
theorem dX20_later_50 : decode cX20_later 50 = .ok (.aload_n 0, 1) := dk_42 (dk_at dksX20_later_2 3 rfl rfl)
theorem dX20_later_51 : decode cX20_later 51 = .ok (.iconst 0, 1) := dk_3 (dk_at dksX20_later_2 4 rfl rfl)
theorem dX20_later_52 : decode cX20_later 52 = .ok (.bipush 7, 2) := dk_16 7 (dk_at dksX20_later_2 5 rfl rfl)
theorem dX20_later_54 : decode cX20_later 54 = .ok (.invokevirtual 295, 3) := dk_182 1 39 (dk_at dksX20_later_2 7 rfl rfl)
theorem dX20_later_57 : decode cX20_later 57 = .ok (.aload_n 0, 1) := dk_42 (dk_at dksX20_later_2 10 rfl rfl)
theorem dX20_later_58 : decode cX20_later 58 = .ok (.getfield 7, 3) := dk_180 0 7 (dk_at dksX20_later_2 11 rfl rfl)
theorem dX20_later_61 : decode cX20_later 61 = .ok (.aload_n 0, 1) := dk_42 (dk_at dksX20_later_2 14 rfl rfl)
theorem dX20_later_62 : decode cX20_later 62 = .ok (.getfield 104, 3) := dk_180 0 104 (dk_at dksX20_later_2 15 rfl rfl)
theorem dX20_later_65 : decode cX20_later 65 = .ok (.iconst 5, 1) := dk_8 (dk_at dksX20_later_2 18 rfl rfl)
theorem dX20_later_66 : decode cX20_later 66 = .ok (.iadd, 1) := dk_96 (dk_at dksX20_later_2 19 rfl rfl)
theorem dX20_later_67 : decode cX20_later 67 = .ok (.iload_n 1, 1) := dk_27 (dk_at dksX20_later_2 20 rfl rfl)
theorem dX20_later_68 : decode cX20_later 68 = .ok (.iastore, 1) := dk_79 (dk_at dksX20_later_2 21 rfl rfl)
theorem dX20_later_69 : decode cX20_later 69 = .ok (.aload_n 0, 1) := dk_42 (dk_at dksX20_later_2 22 rfl rfl)
theorem dX20_later_70 : decode cX20_later 70 = .ok (.getfield 7, 3) := dk_180 0 7 (dk_at dksX20_later_3 0 rfl rfl)
theorem dX20_later_73 : decode cX20_later 73 = .ok (.aload_n 0, 1) := dk_42 (dk_at dksX20_later_3 3 rfl rfl)
theorem dX20_later_74 : decode cX20_later 74 = .ok (.getfield 104, 3) := dk_180 0 104 (dk_at dksX20_later_3 4 rfl rfl)
theorem dX20_later_77 : decode cX20_later 77 = .ok (.bipush 6, 2) := dk_16 6 (dk_at dksX20_later_3 7 rfl rfl)
theorem dX20_later_79 : decode cX20_later 79 = .ok (.iadd, 1) := dk_96 (dk_at dksX20_later_3 9 rfl rfl)
theorem dX20_later_80 : decode cX20_later 80 = .ok (.iload 5, 2) := dk_21 5 (dk_at dksX20_later_3 10 rfl rfl)
theorem dX20_later_82 : decode cX20_later 82 = .ok (.iastore, 1) := dk_79 (dk_at dksX20_later_3 12 rfl rfl)
theorem dX20_later_83 : decode cX20_later 83 = .ok (.aload_n 0, 1) := dk_42 (dk_at dksX20_later_3 13 rfl rfl)
theorem dX20_later_84 : decode cX20_later 84 = .ok (.bipush 6, 2) := dk_16 6 (dk_at dksX20_later_3 14 rfl rfl)
theorem dX20_later_86 : decode cX20_later 86 = .ok (.invokevirtual 255, 3) := dk_182 0 255 (dk_at dksX20_later_3 16 rfl rfl)
theorem dX20_later_89 : decode cX20_later 89 = .ok (.bipush 24, 2) := dk_16 24 (dk_at dksX20_later_3 19 rfl rfl)
theorem dX20_later_91 : decode cX20_later 91 = .ok (.if_icmp .ge 10, 3) := dk_162 0 10 (dk_at dksX20_later_3 21 rfl rfl)
theorem dX20_later_94 : decode cX20_later 94 = .ok (.aload_n 0, 1) := dk_42 (dk_at dksX20_later_4 0 rfl rfl)
theorem dX20_later_95 : decode cX20_later 95 = .ok (.invokevirtual 276, 3) := dk_182 1 20 (dk_at dksX20_later_4 1 rfl rfl)
theorem dX20_later_98 : decode cX20_later 98 = .ok (.goto (-15), 3) := dk_167 255 241 (dk_at dksX20_later_4 4 rfl rfl)
theorem dX20_later_101 : decode cX20_later 101 = .ok (.iload_n 3, 1) := dk_29 (dk_at dksX20_later_4 7 rfl rfl)
theorem dX20_later_102 : decode cX20_later 102 = .ok (.aload_n 0, 1) := dk_42 (dk_at dksX20_later_4 8 rfl rfl)
theorem dX20_later_103 : decode cX20_later 103 = .ok (.invokevirtual 260, 3) := dk_182 1 4 (dk_at dksX20_later_4 9 rfl rfl)
theorem dX20_later_106 : decode cX20_later 106 = .ok (.invokestatic 279, 3) := dk_184 1 23 (dk_at dksX20_later_4 12 rfl rfl)
theorem dX20_later_109 : decode cX20_later 109 = .ok (.iload_n 2, 1) := dk_28 (dk_at dksX20_later_4 15 rfl rfl)
theorem dX20_later_110 : decode cX20_later 110 = .ok (.if_icmp .gt 8, 3) := dk_163 0 8 (dk_at dksX20_later_4 16 rfl rfl)
theorem dX20_later_113 : decode cX20_later 113 = .ok (.iload 5, 2) := dk_21 5 (dk_at dksX20_later_4 19 rfl rfl)
theorem dX20_later_115 : decode cX20_later 115 = .ok (.goto 5, 3) := dk_167 0 5 (dk_at dksX20_later_4 21 rfl rfl)
theorem dX20_later_118 : decode cX20_later 118 = .ok (.bipush (-3), 2) := dk_16 253 (dk_at dksX20_later_5 0 rfl rfl)
theorem dX20_later_120 : decode cX20_later 120 = .ok (.istore 4, 2) := dk_54 4 (dk_at dksX20_later_5 2 rfl rfl)
theorem dX20_later_122 : decode cX20_later 122 = .ok (.aload_n 0, 1) := dk_42 (dk_at dksX20_later_5 4 rfl rfl)
theorem dX20_later_123 : decode cX20_later 123 = .ok (.iconst 0, 1) := dk_3 (dk_at dksX20_later_5 5 rfl rfl)
theorem dX20_later_124 : decode cX20_later 124 = .ok (.putfield 104, 3) := dk_181 0 104 (dk_at dksX20_later_5 6 rfl rfl)
theorem dX20_later_127 : decode cX20_later 127 = .ok (.iinc 5 1, 3) := dk_132 5 1 (dk_at dksX20_later_5 9 rfl rfl)
theorem dX20_later_130 : decode cX20_later 130 = .ok (.goto (-92), 3) := dk_167 255 164 (dk_at dksX20_later_5 12 rfl rfl)
theorem dX20_later_133 : decode cX20_later 133 = .ok (.iload 4, 2) := dk_21 4 (dk_at dksX20_later_5 15 rfl rfl)
theorem dX20_later_135 : decode cX20_later 135 = .ok (.ireturn, 1) := dk_172 (dk_at dksX20_later_5 17 rfl rfl)
abbrev cX20_scale : ByteArray := prog_38_method_57_code
def yX20_scale : MethodName := ⟨RX20, "scale", "(I)I"⟩
def dkwX20_scale_2 : List UInt8 := [96, 172]
abbrev dktX20_scale_2 : List UInt8 := dkwX20_scale_2 ++ []
def dkwX20_scale_1 : List UInt8 := [17, 48, 57, 96, 181, 0, 43, 42, 182, 1, 4, 27, 42, 180, 0, 43, 16, 16, 124, 6, 112, 4, 100, 104]
abbrev dktX20_scale_1 : List UInt8 := dkwX20_scale_1 ++ dktX20_scale_2
def dkwX20_scale_0 : List UInt8 := [27, 3, 16, 99, 184, 0, 100, 154, 0, 6, 18, 241, 172, 42, 42, 180, 0, 43, 19, 1, 58, 104]
abbrev dktX20_scale_0 : List UInt8 := dkwX20_scale_0 ++ dktX20_scale_1
theorem dksX20_scale_0 : cX20_scale.data.toList.drop 0 = dktX20_scale_0 := by decide +kernel
theorem dksX20_scale_1 : cX20_scale.data.toList.drop 22 = dktX20_scale_1 := dk_seg dksX20_scale_0 22 rfl rfl
theorem dksX20_scale_2 : cX20_scale.data.toList.drop 46 = dktX20_scale_2 := dk_seg dksX20_scale_1 24 rfl rfl
theorem dX20_scale_0 : decode cX20_scale 0 = .ok (.iload_n 1, 1) := dk_27 (dk_at dksX20_scale_0 0 rfl rfl)
theorem dX20_scale_1 : decode cX20_scale 1 = .ok (.iconst 0, 1) := dk_3 (dk_at dksX20_scale_0 1 rfl rfl)
theorem dX20_scale_2 : decode cX20_scale 2 = .ok (.bipush 99, 2) := dk_16 99 (dk_at dksX20_scale_0 2 rfl rfl)
theorem dX20_scale_4 : decode cX20_scale 4 = .ok (.invokestatic 100, 3) := dk_184 0 100 (dk_at dksX20_scale_0 4 rfl rfl)
theorem dX20_scale_7 : decode cX20_scale 7 = .ok (.ifCond .ne 6, 3) := dk_154 0 6 (dk_at dksX20_scale_0 7 rfl rfl)
theorem dX20_scale_10 : decode cX20_scale 10 = .ok (.ldc 241, 2) := dk_18 241 (dk_at dksX20_scale_0 10 rfl rfl)
theorem dX20_scale_12 : decode cX20_scale 12 = .ok (.ireturn, 1) := dk_172 (dk_at dksX20_scale_0 12 rfl rfl)
theorem dX20_scale_13 : decode cX20_scale 13 = .ok (.aload_n 0, 1) := dk_42 (dk_at dksX20_scale_0 13 rfl rfl)
theorem dX20_scale_14 : decode cX20_scale 14 = .ok (.aload_n 0, 1) := dk_42 (dk_at dksX20_scale_0 14 rfl rfl)
theorem dX20_scale_15 : decode cX20_scale 15 = .ok (.getfield 43, 3) := dk_180 0 43 (dk_at dksX20_scale_0 15 rfl rfl)
theorem dX20_scale_18 : decode cX20_scale 18 = .ok (.ldc_w 314, 3) := dk_19 1 58 (dk_at dksX20_scale_0 18 rfl rfl)
theorem dX20_scale_21 : decode cX20_scale 21 = .ok (.imul, 1) := dk_104 (dk_at dksX20_scale_0 21 rfl rfl)
theorem dX20_scale_22 : decode cX20_scale 22 = .ok (.sipush 12345, 3) := dk_17 48 57 (dk_at dksX20_scale_1 0 rfl rfl)
theorem dX20_scale_25 : decode cX20_scale 25 = .ok (.iadd, 1) := dk_96 (dk_at dksX20_scale_1 3 rfl rfl)
theorem dX20_scale_26 : decode cX20_scale 26 = .ok (.putfield 43, 3) := dk_181 0 43 (dk_at dksX20_scale_1 4 rfl rfl)
theorem dX20_scale_29 : decode cX20_scale 29 = .ok (.aload_n 0, 1) := dk_42 (dk_at dksX20_scale_1 7 rfl rfl)
theorem dX20_scale_30 : decode cX20_scale 30 = .ok (.invokevirtual 260, 3) := dk_182 1 4 (dk_at dksX20_scale_1 8 rfl rfl)
theorem dX20_scale_33 : decode cX20_scale 33 = .ok (.iload_n 1, 1) := dk_27 (dk_at dksX20_scale_1 11 rfl rfl)
theorem dX20_scale_34 : decode cX20_scale 34 = .ok (.aload_n 0, 1) := dk_42 (dk_at dksX20_scale_1 12 rfl rfl)
theorem dX20_scale_35 : decode cX20_scale 35 = .ok (.getfield 43, 3) := dk_180 0 43 (dk_at dksX20_scale_1 13 rfl rfl)
theorem dX20_scale_38 : decode cX20_scale 38 = .ok (.bipush 16, 2) := dk_16 16 (dk_at dksX20_scale_1 16 rfl rfl)
theorem dX20_scale_40 : decode cX20_scale 40 = .ok (.iushr, 1) := dk_124 (dk_at dksX20_scale_1 18 rfl rfl)
theorem dX20_scale_41 : decode cX20_scale 41 = .ok (.iconst 3, 1) := dk_6 (dk_at dksX20_scale_1 19 rfl rfl)
theorem dX20_scale_42 : decode cX20_scale 42 = .ok (.irem, 1) := dk_112 (dk_at dksX20_scale_1 20 rfl rfl)
theorem dX20_scale_43 : decode cX20_scale 43 = .ok (.iconst 1, 1) := dk_4 (dk_at dksX20_scale_1 21 rfl rfl)
theorem dX20_scale_44 : decode cX20_scale 44 = .ok (.isub, 1) := dk_100 (dk_at dksX20_scale_1 22 rfl rfl)
theorem dX20_scale_45 : decode cX20_scale 45 = .ok (.imul, 1) := dk_104 (dk_at dksX20_scale_1 23 rfl rfl)
theorem dX20_scale_46 : decode cX20_scale 46 = .ok (.iadd, 1) := dk_96 (dk_at dksX20_scale_2 0 rfl rfl)
theorem dX20_scale_47 : decode cX20_scale 47 = .ok (.ireturn, 1) := dk_172 (dk_at dksX20_scale_2 1 rfl rfl)
abbrev cX20_seed : ByteArray := prog_38_method_58_code
def yX20_seed : MethodName := ⟨RX20, "seed", "(I)I"⟩
def dkwX20_seed_0 : List UInt8 := [42, 180, 0, 43, 61, 42, 27, 181, 0, 43, 28, 172]
abbrev dktX20_seed_0 : List UInt8 := dkwX20_seed_0 ++ []
theorem dksX20_seed_0 : cX20_seed.data.toList.drop 0 = dktX20_seed_0 := by decide +kernel
theorem dX20_seed_0 : decode cX20_seed 0 = .ok (.aload_n 0, 1) := dk_42 (dk_at dksX20_seed_0 0 rfl rfl)
theorem dX20_seed_1 : decode cX20_seed 1 = .ok (.getfield 43, 3) := dk_180 0 43 (dk_at dksX20_seed_0 1 rfl rfl)
theorem dX20_seed_4 : decode cX20_seed 4 = .ok (.istore_n 2, 1) := dk_61 (dk_at dksX20_seed_0 4 rfl rfl)
theorem dX20_seed_5 : decode cX20_seed 5 = .ok (.aload_n 0, 1) := dk_42 (dk_at dksX20_seed_0 5 rfl rfl)
theorem dX20_seed_6 : decode cX20_seed 6 = .ok (.iload_n 1, 1) := dk_27 (dk_at dksX20_seed_0 6 rfl rfl)
theorem dX20_seed_7 : decode cX20_seed 7 = .ok (.putfield 43, 3) := dk_181 0 43 (dk_at dksX20_seed_0 7 rfl rfl)
theorem dX20_seed_10 : decode cX20_seed 10 = .ok (.iload_n 2, 1) := dk_28 (dk_at dksX20_seed_0 10 rfl rfl)
theorem dX20_seed_11 : decode cX20_seed 11 = .ok (.ireturn, 1) := dk_172 (dk_at dksX20_seed_0 11 rfl rfl)
abbrev cX20_other : ByteArray := prog_38_method_59_code
def yX20_other : MethodName := ⟨RX20, "other", "(II)I"⟩
def dkwX20_other_3 : List UInt8 := [181, 1, 59, 42, 180, 1, 59, 172]
abbrev dktX20_other_3 : List UInt8 := dkwX20_other_3 ++ []
def dkwX20_other_2 : List UInt8 := [79, 42, 180, 0, 34, 5, 42, 180, 1, 59, 104, 4, 96, 28, 79, 42, 89, 180, 1, 59, 4, 96]
abbrev dktX20_other_2 : List UInt8 := dkwX20_other_2 ++ dktX20_other_3
def dkwX20_other_1 : List UInt8 := [172, 42, 180, 1, 59, 16, 10, 160, 0, 6, 16, 254, 172, 42, 180, 0, 34, 5, 42, 180, 1, 59, 104, 27]
abbrev dktX20_other_1 : List UInt8 := dkwX20_other_1 ++ dktX20_other_2
def dkwX20_other_0 : List UInt8 := [27, 16, 50, 17, 1, 144, 184, 0, 100, 153, 0, 14, 28, 4, 17, 39, 15, 184, 0, 100, 154, 0, 5, 2]
abbrev dktX20_other_0 : List UInt8 := dkwX20_other_0 ++ dktX20_other_1
theorem dksX20_other_0 : cX20_other.data.toList.drop 0 = dktX20_other_0 := by decide +kernel
theorem dksX20_other_1 : cX20_other.data.toList.drop 24 = dktX20_other_1 := dk_seg dksX20_other_0 24 rfl rfl
theorem dksX20_other_2 : cX20_other.data.toList.drop 48 = dktX20_other_2 := dk_seg dksX20_other_1 24 rfl rfl
theorem dksX20_other_3 : cX20_other.data.toList.drop 70 = dktX20_other_3 := dk_seg dksX20_other_2 22 rfl rfl
theorem dX20_other_0 : decode cX20_other 0 = .ok (.iload_n 1, 1) := dk_27 (dk_at dksX20_other_0 0 rfl rfl)
theorem dX20_other_1 : decode cX20_other 1 = .ok (.bipush 50, 2) := dk_16 50 (dk_at dksX20_other_0 1 rfl rfl)
theorem dX20_other_3 : decode cX20_other 3 = .ok (.sipush 400, 3) := dk_17 1 144 (dk_at dksX20_other_0 3 rfl rfl)
theorem dX20_other_6 : decode cX20_other 6 = .ok (.invokestatic 100, 3) := dk_184 0 100 (dk_at dksX20_other_0 6 rfl rfl)
theorem dX20_other_9 : decode cX20_other 9 = .ok (.ifCond .eq 14, 3) := dk_153 0 14 (dk_at dksX20_other_0 9 rfl rfl)
theorem dX20_other_12 : decode cX20_other 12 = .ok (.iload_n 2, 1) := dk_28 (dk_at dksX20_other_0 12 rfl rfl)
theorem dX20_other_13 : decode cX20_other 13 = .ok (.iconst 1, 1) := dk_4 (dk_at dksX20_other_0 13 rfl rfl)
theorem dX20_other_14 : decode cX20_other 14 = .ok (.sipush 9999, 3) := dk_17 39 15 (dk_at dksX20_other_0 14 rfl rfl)
theorem dX20_other_17 : decode cX20_other 17 = .ok (.invokestatic 100, 3) := dk_184 0 100 (dk_at dksX20_other_0 17 rfl rfl)
theorem dX20_other_20 : decode cX20_other 20 = .ok (.ifCond .ne 5, 3) := dk_154 0 5 (dk_at dksX20_other_0 20 rfl rfl)
theorem dX20_other_23 : decode cX20_other 23 = .ok (.iconst (-1), 1) := dk_2 (dk_at dksX20_other_0 23 rfl rfl)
theorem dX20_other_24 : decode cX20_other 24 = .ok (.ireturn, 1) := dk_172 (dk_at dksX20_other_1 0 rfl rfl)
theorem dX20_other_25 : decode cX20_other 25 = .ok (.aload_n 0, 1) := dk_42 (dk_at dksX20_other_1 1 rfl rfl)
theorem dX20_other_26 : decode cX20_other 26 = .ok (.getfield 315, 3) := dk_180 1 59 (dk_at dksX20_other_1 2 rfl rfl)
theorem dX20_other_29 : decode cX20_other 29 = .ok (.bipush 10, 2) := dk_16 10 (dk_at dksX20_other_1 5 rfl rfl)
theorem dX20_other_31 : decode cX20_other 31 = .ok (.if_icmp .ne 6, 3) := dk_160 0 6 (dk_at dksX20_other_1 7 rfl rfl)
theorem dX20_other_34 : decode cX20_other 34 = .ok (.bipush (-2), 2) := dk_16 254 (dk_at dksX20_other_1 10 rfl rfl)
theorem dX20_other_36 : decode cX20_other 36 = .ok (.ireturn, 1) := dk_172 (dk_at dksX20_other_1 12 rfl rfl)
theorem dX20_other_37 : decode cX20_other 37 = .ok (.aload_n 0, 1) := dk_42 (dk_at dksX20_other_1 13 rfl rfl)
theorem dX20_other_38 : decode cX20_other 38 = .ok (.getfield 34, 3) := dk_180 0 34 (dk_at dksX20_other_1 14 rfl rfl)
theorem dX20_other_41 : decode cX20_other 41 = .ok (.iconst 2, 1) := dk_5 (dk_at dksX20_other_1 17 rfl rfl)
theorem dX20_other_42 : decode cX20_other 42 = .ok (.aload_n 0, 1) := dk_42 (dk_at dksX20_other_1 18 rfl rfl)
theorem dX20_other_43 : decode cX20_other 43 = .ok (.getfield 315, 3) := dk_180 1 59 (dk_at dksX20_other_1 19 rfl rfl)
theorem dX20_other_46 : decode cX20_other 46 = .ok (.imul, 1) := dk_104 (dk_at dksX20_other_1 22 rfl rfl)
theorem dX20_other_47 : decode cX20_other 47 = .ok (.iload_n 1, 1) := dk_27 (dk_at dksX20_other_1 23 rfl rfl)
theorem dX20_other_48 : decode cX20_other 48 = .ok (.iastore, 1) := dk_79 (dk_at dksX20_other_2 0 rfl rfl)
theorem dX20_other_49 : decode cX20_other 49 = .ok (.aload_n 0, 1) := dk_42 (dk_at dksX20_other_2 1 rfl rfl)
theorem dX20_other_50 : decode cX20_other 50 = .ok (.getfield 34, 3) := dk_180 0 34 (dk_at dksX20_other_2 2 rfl rfl)
theorem dX20_other_53 : decode cX20_other 53 = .ok (.iconst 2, 1) := dk_5 (dk_at dksX20_other_2 5 rfl rfl)
theorem dX20_other_54 : decode cX20_other 54 = .ok (.aload_n 0, 1) := dk_42 (dk_at dksX20_other_2 6 rfl rfl)
theorem dX20_other_55 : decode cX20_other 55 = .ok (.getfield 315, 3) := dk_180 1 59 (dk_at dksX20_other_2 7 rfl rfl)
theorem dX20_other_58 : decode cX20_other 58 = .ok (.imul, 1) := dk_104 (dk_at dksX20_other_2 10 rfl rfl)
theorem dX20_other_59 : decode cX20_other 59 = .ok (.iconst 1, 1) := dk_4 (dk_at dksX20_other_2 11 rfl rfl)
theorem dX20_other_60 : decode cX20_other 60 = .ok (.iadd, 1) := dk_96 (dk_at dksX20_other_2 12 rfl rfl)
theorem dX20_other_61 : decode cX20_other 61 = .ok (.iload_n 2, 1) := dk_28 (dk_at dksX20_other_2 13 rfl rfl)
theorem dX20_other_62 : decode cX20_other 62 = .ok (.iastore, 1) := dk_79 (dk_at dksX20_other_2 14 rfl rfl)
theorem dX20_other_63 : decode cX20_other 63 = .ok (.aload_n 0, 1) := dk_42 (dk_at dksX20_other_2 15 rfl rfl)
theorem dX20_other_64 : decode cX20_other 64 = .ok (.dup, 1) := dk_89 (dk_at dksX20_other_2 16 rfl rfl)
theorem dX20_other_65 : decode cX20_other 65 = .ok (.getfield 315, 3) := dk_180 1 59 (dk_at dksX20_other_2 17 rfl rfl)
theorem dX20_other_68 : decode cX20_other 68 = .ok (.iconst 1, 1) := dk_4 (dk_at dksX20_other_2 20 rfl rfl)
theorem dX20_other_69 : decode cX20_other 69 = .ok (.iadd, 1) := dk_96 (dk_at dksX20_other_2 21 rfl rfl)
theorem dX20_other_70 : decode cX20_other 70 = .ok (.putfield 315, 3) := dk_181 1 59 (dk_at dksX20_other_3 0 rfl rfl)
theorem dX20_other_73 : decode cX20_other 73 = .ok (.aload_n 0, 1) := dk_42 (dk_at dksX20_other_3 3 rfl rfl)
theorem dX20_other_74 : decode cX20_other 74 = .ok (.getfield 315, 3) := dk_180 1 59 (dk_at dksX20_other_3 4 rfl rfl)
theorem dX20_other_77 : decode cX20_other 77 = .ok (.ireturn, 1) := dk_172 (dk_at dksX20_other_3 7 rfl rfl)
abbrev cX20_lighter : ByteArray := prog_38_method_61_code
def yX20_lighter : MethodName := ⟨RX20, "lighter", "()I"⟩
def dkwX20_lighter_0 : List UInt8 := [42, 42, 182, 1, 4, 182, 1, 62, 172]
abbrev dktX20_lighter_0 : List UInt8 := dkwX20_lighter_0 ++ []
theorem dksX20_lighter_0 : cX20_lighter.data.toList.drop 0 = dktX20_lighter_0 := by decide +kernel
theorem dX20_lighter_0 : decode cX20_lighter 0 = .ok (.aload_n 0, 1) := dk_42 (dk_at dksX20_lighter_0 0 rfl rfl)
theorem dX20_lighter_1 : decode cX20_lighter 1 = .ok (.aload_n 0, 1) := dk_42 (dk_at dksX20_lighter_0 1 rfl rfl)
theorem dX20_lighter_2 : decode cX20_lighter 2 = .ok (.invokevirtual 260, 3) := dk_182 1 4 (dk_at dksX20_lighter_0 2 rfl rfl)
theorem dX20_lighter_5 : decode cX20_lighter 5 = .ok (.invokevirtual 318, 3) := dk_182 1 62 (dk_at dksX20_lighter_0 5 rfl rfl)
theorem dX20_lighter_8 : decode cX20_lighter 8 = .ok (.ireturn, 1) := dk_172 (dk_at dksX20_lighter_0 8 rfl rfl)
abbrev cX20_lighterThan : ByteArray := prog_38_method_60_code
def yX20_lighterThan : MethodName := ⟨RX20, "lighterThan", "(I)I"⟩
def dkwX20_lighterThan_2 : List UInt8 := [184, 1, 11, 28, 162, 0, 7, 4, 167, 0, 4, 3, 96, 62, 132, 4, 1, 167, 255, 209, 29, 172]
abbrev dktX20_lighterThan_2 : List UInt8 := dkwX20_lighterThan_2 ++ []
def dkwX20_lighterThan_1 : List UInt8 := [162, 0, 44, 29, 42, 180, 0, 34, 5, 21, 4, 104, 46, 42, 180, 0, 34, 5, 21, 4, 104, 4, 96, 46]
abbrev dktX20_lighterThan_1 : List UInt8 := dkwX20_lighterThan_1 ++ dktX20_lighterThan_2
def dkwX20_lighterThan_0 : List UInt8 := [42, 180, 0, 7, 3, 46, 27, 184, 1, 11, 61, 3, 62, 3, 54, 4, 21, 4, 42, 180, 1, 59]
abbrev dktX20_lighterThan_0 : List UInt8 := dkwX20_lighterThan_0 ++ dktX20_lighterThan_1
theorem dksX20_lighterThan_0 : cX20_lighterThan.data.toList.drop 0 = dktX20_lighterThan_0 := by decide +kernel
theorem dksX20_lighterThan_1 : cX20_lighterThan.data.toList.drop 22 = dktX20_lighterThan_1 := dk_seg dksX20_lighterThan_0 22 rfl rfl
theorem dksX20_lighterThan_2 : cX20_lighterThan.data.toList.drop 46 = dktX20_lighterThan_2 := dk_seg dksX20_lighterThan_1 24 rfl rfl
theorem dX20_lighterThan_0 : decode cX20_lighterThan 0 = .ok (.aload_n 0, 1) := dk_42 (dk_at dksX20_lighterThan_0 0 rfl rfl)
theorem dX20_lighterThan_1 : decode cX20_lighterThan 1 = .ok (.getfield 7, 3) := dk_180 0 7 (dk_at dksX20_lighterThan_0 1 rfl rfl)
theorem dX20_lighterThan_4 : decode cX20_lighterThan 4 = .ok (.iconst 0, 1) := dk_3 (dk_at dksX20_lighterThan_0 4 rfl rfl)
theorem dX20_lighterThan_5 : decode cX20_lighterThan 5 = .ok (.iaload, 1) := dk_46 (dk_at dksX20_lighterThan_0 5 rfl rfl)
theorem dX20_lighterThan_6 : decode cX20_lighterThan 6 = .ok (.iload_n 1, 1) := dk_27 (dk_at dksX20_lighterThan_0 6 rfl rfl)
theorem dX20_lighterThan_7 : decode cX20_lighterThan 7 = .ok (.invokestatic 267, 3) := dk_184 1 11 (dk_at dksX20_lighterThan_0 7 rfl rfl)
theorem dX20_lighterThan_10 : decode cX20_lighterThan 10 = .ok (.istore_n 2, 1) := dk_61 (dk_at dksX20_lighterThan_0 10 rfl rfl)
theorem dX20_lighterThan_11 : decode cX20_lighterThan 11 = .ok (.iconst 0, 1) := dk_3 (dk_at dksX20_lighterThan_0 11 rfl rfl)
theorem dX20_lighterThan_12 : decode cX20_lighterThan 12 = .ok (.istore_n 3, 1) := dk_62 (dk_at dksX20_lighterThan_0 12 rfl rfl)
theorem dX20_lighterThan_13 : decode cX20_lighterThan 13 = .ok (.iconst 0, 1) := dk_3 (dk_at dksX20_lighterThan_0 13 rfl rfl)
theorem dX20_lighterThan_14 : decode cX20_lighterThan 14 = .ok (.istore 4, 2) := dk_54 4 (dk_at dksX20_lighterThan_0 14 rfl rfl)
theorem dX20_lighterThan_16 : decode cX20_lighterThan 16 = .ok (.iload 4, 2) := dk_21 4 (dk_at dksX20_lighterThan_0 16 rfl rfl)
theorem dX20_lighterThan_18 : decode cX20_lighterThan 18 = .ok (.aload_n 0, 1) := dk_42 (dk_at dksX20_lighterThan_0 18 rfl rfl)
theorem dX20_lighterThan_19 : decode cX20_lighterThan 19 = .ok (.getfield 315, 3) := dk_180 1 59 (dk_at dksX20_lighterThan_0 19 rfl rfl)
theorem dX20_lighterThan_22 : decode cX20_lighterThan 22 = .ok (.if_icmp .ge 44, 3) := dk_162 0 44 (dk_at dksX20_lighterThan_1 0 rfl rfl)
theorem dX20_lighterThan_25 : decode cX20_lighterThan 25 = .ok (.iload_n 3, 1) := dk_29 (dk_at dksX20_lighterThan_1 3 rfl rfl)
theorem dX20_lighterThan_26 : decode cX20_lighterThan 26 = .ok (.aload_n 0, 1) := dk_42 (dk_at dksX20_lighterThan_1 4 rfl rfl)
theorem dX20_lighterThan_27 : decode cX20_lighterThan 27 = .ok (.getfield 34, 3) := dk_180 0 34 (dk_at dksX20_lighterThan_1 5 rfl rfl)
theorem dX20_lighterThan_30 : decode cX20_lighterThan 30 = .ok (.iconst 2, 1) := dk_5 (dk_at dksX20_lighterThan_1 8 rfl rfl)
theorem dX20_lighterThan_31 : decode cX20_lighterThan 31 = .ok (.iload 4, 2) := dk_21 4 (dk_at dksX20_lighterThan_1 9 rfl rfl)
theorem dX20_lighterThan_33 : decode cX20_lighterThan 33 = .ok (.imul, 1) := dk_104 (dk_at dksX20_lighterThan_1 11 rfl rfl)
theorem dX20_lighterThan_34 : decode cX20_lighterThan 34 = .ok (.iaload, 1) := dk_46 (dk_at dksX20_lighterThan_1 12 rfl rfl)
theorem dX20_lighterThan_35 : decode cX20_lighterThan 35 = .ok (.aload_n 0, 1) := dk_42 (dk_at dksX20_lighterThan_1 13 rfl rfl)
theorem dX20_lighterThan_36 : decode cX20_lighterThan 36 = .ok (.getfield 34, 3) := dk_180 0 34 (dk_at dksX20_lighterThan_1 14 rfl rfl)
theorem dX20_lighterThan_39 : decode cX20_lighterThan 39 = .ok (.iconst 2, 1) := dk_5 (dk_at dksX20_lighterThan_1 17 rfl rfl)
theorem dX20_lighterThan_40 : decode cX20_lighterThan 40 = .ok (.iload 4, 2) := dk_21 4 (dk_at dksX20_lighterThan_1 18 rfl rfl)
theorem dX20_lighterThan_42 : decode cX20_lighterThan 42 = .ok (.imul, 1) := dk_104 (dk_at dksX20_lighterThan_1 20 rfl rfl)
theorem dX20_lighterThan_43 : decode cX20_lighterThan 43 = .ok (.iconst 1, 1) := dk_4 (dk_at dksX20_lighterThan_1 21 rfl rfl)
theorem dX20_lighterThan_44 : decode cX20_lighterThan 44 = .ok (.iadd, 1) := dk_96 (dk_at dksX20_lighterThan_1 22 rfl rfl)
theorem dX20_lighterThan_45 : decode cX20_lighterThan 45 = .ok (.iaload, 1) := dk_46 (dk_at dksX20_lighterThan_1 23 rfl rfl)
theorem dX20_lighterThan_46 : decode cX20_lighterThan 46 = .ok (.invokestatic 267, 3) := dk_184 1 11 (dk_at dksX20_lighterThan_2 0 rfl rfl)
theorem dX20_lighterThan_49 : decode cX20_lighterThan 49 = .ok (.iload_n 2, 1) := dk_28 (dk_at dksX20_lighterThan_2 3 rfl rfl)
theorem dX20_lighterThan_50 : decode cX20_lighterThan 50 = .ok (.if_icmp .ge 7, 3) := dk_162 0 7 (dk_at dksX20_lighterThan_2 4 rfl rfl)
theorem dX20_lighterThan_53 : decode cX20_lighterThan 53 = .ok (.iconst 1, 1) := dk_4 (dk_at dksX20_lighterThan_2 7 rfl rfl)
theorem dX20_lighterThan_54 : decode cX20_lighterThan 54 = .ok (.goto 4, 3) := dk_167 0 4 (dk_at dksX20_lighterThan_2 8 rfl rfl)
theorem dX20_lighterThan_57 : decode cX20_lighterThan 57 = .ok (.iconst 0, 1) := dk_3 (dk_at dksX20_lighterThan_2 11 rfl rfl)
theorem dX20_lighterThan_58 : decode cX20_lighterThan 58 = .ok (.iadd, 1) := dk_96 (dk_at dksX20_lighterThan_2 12 rfl rfl)
theorem dX20_lighterThan_59 : decode cX20_lighterThan 59 = .ok (.istore_n 3, 1) := dk_62 (dk_at dksX20_lighterThan_2 13 rfl rfl)
theorem dX20_lighterThan_60 : decode cX20_lighterThan 60 = .ok (.iinc 4 1, 3) := dk_132 4 1 (dk_at dksX20_lighterThan_2 14 rfl rfl)
theorem dX20_lighterThan_63 : decode cX20_lighterThan 63 = .ok (.goto (-47), 3) := dk_167 255 209 (dk_at dksX20_lighterThan_2 17 rfl rfl)
theorem dX20_lighterThan_66 : decode cX20_lighterThan 66 = .ok (.iload_n 3, 1) := dk_29 (dk_at dksX20_lighterThan_2 20 rfl rfl)
theorem dX20_lighterThan_67 : decode cX20_lighterThan 67 = .ok (.ireturn, 1) := dk_172 (dk_at dksX20_lighterThan_2 21 rfl rfl)
abbrev cX20_least : ByteArray := prog_38_method_62_code
def yX20_least : MethodName := ⟨RX20, "least", "(I)I"⟩
def dkwX20_least_1 : List UInt8 := [182, 1, 62, 27, 161, 0, 5, 28, 172, 132, 2, 1, 167, 255, 235, 16, 253, 172]
abbrev dktX20_least_1 : List UInt8 := dkwX20_least_1 ++ []
def dkwX20_least_0 : List UInt8 := [27, 3, 16, 10, 184, 0, 100, 154, 0, 5, 2, 172, 4, 61, 28, 17, 39, 15, 163, 0, 20, 42, 28]
abbrev dktX20_least_0 : List UInt8 := dkwX20_least_0 ++ dktX20_least_1
theorem dksX20_least_0 : cX20_least.data.toList.drop 0 = dktX20_least_0 := by decide +kernel
theorem dksX20_least_1 : cX20_least.data.toList.drop 23 = dktX20_least_1 := dk_seg dksX20_least_0 23 rfl rfl
theorem dX20_least_0 : decode cX20_least 0 = .ok (.iload_n 1, 1) := dk_27 (dk_at dksX20_least_0 0 rfl rfl)
theorem dX20_least_1 : decode cX20_least 1 = .ok (.iconst 0, 1) := dk_3 (dk_at dksX20_least_0 1 rfl rfl)
theorem dX20_least_2 : decode cX20_least 2 = .ok (.bipush 10, 2) := dk_16 10 (dk_at dksX20_least_0 2 rfl rfl)
theorem dX20_least_4 : decode cX20_least 4 = .ok (.invokestatic 100, 3) := dk_184 0 100 (dk_at dksX20_least_0 4 rfl rfl)
theorem dX20_least_7 : decode cX20_least 7 = .ok (.ifCond .ne 5, 3) := dk_154 0 5 (dk_at dksX20_least_0 7 rfl rfl)
theorem dX20_least_10 : decode cX20_least 10 = .ok (.iconst (-1), 1) := dk_2 (dk_at dksX20_least_0 10 rfl rfl)
theorem dX20_least_11 : decode cX20_least 11 = .ok (.ireturn, 1) := dk_172 (dk_at dksX20_least_0 11 rfl rfl)
theorem dX20_least_12 : decode cX20_least 12 = .ok (.iconst 1, 1) := dk_4 (dk_at dksX20_least_0 12 rfl rfl)
theorem dX20_least_13 : decode cX20_least 13 = .ok (.istore_n 2, 1) := dk_61 (dk_at dksX20_least_0 13 rfl rfl)
theorem dX20_least_14 : decode cX20_least 14 = .ok (.iload_n 2, 1) := dk_28 (dk_at dksX20_least_0 14 rfl rfl)
theorem dX20_least_15 : decode cX20_least 15 = .ok (.sipush 9999, 3) := dk_17 39 15 (dk_at dksX20_least_0 15 rfl rfl)
theorem dX20_least_18 : decode cX20_least 18 = .ok (.if_icmp .gt 20, 3) := dk_163 0 20 (dk_at dksX20_least_0 18 rfl rfl)
theorem dX20_least_21 : decode cX20_least 21 = .ok (.aload_n 0, 1) := dk_42 (dk_at dksX20_least_0 21 rfl rfl)
theorem dX20_least_22 : decode cX20_least 22 = .ok (.iload_n 2, 1) := dk_28 (dk_at dksX20_least_0 22 rfl rfl)
theorem dX20_least_23 : decode cX20_least 23 = .ok (.invokevirtual 318, 3) := dk_182 1 62 (dk_at dksX20_least_1 0 rfl rfl)
theorem dX20_least_26 : decode cX20_least 26 = .ok (.iload_n 1, 1) := dk_27 (dk_at dksX20_least_1 3 rfl rfl)
theorem dX20_least_27 : decode cX20_least 27 = .ok (.if_icmp .lt 5, 3) := dk_161 0 5 (dk_at dksX20_least_1 4 rfl rfl)
theorem dX20_least_30 : decode cX20_least 30 = .ok (.iload_n 2, 1) := dk_28 (dk_at dksX20_least_1 7 rfl rfl)
theorem dX20_least_31 : decode cX20_least 31 = .ok (.ireturn, 1) := dk_172 (dk_at dksX20_least_1 8 rfl rfl)
theorem dX20_least_32 : decode cX20_least 32 = .ok (.iinc 2 1, 3) := dk_132 2 1 (dk_at dksX20_least_1 9 rfl rfl)
theorem dX20_least_35 : decode cX20_least 35 = .ok (.goto (-21), 3) := dk_167 255 235 (dk_at dksX20_least_1 12 rfl rfl)
theorem dX20_least_38 : decode cX20_least 38 = .ok (.bipush (-3), 2) := dk_16 253 (dk_at dksX20_least_1 15 rfl rfl)
theorem dX20_least_40 : decode cX20_least 40 = .ok (.ireturn, 1) := dk_172 (dk_at dksX20_least_1 17 rfl rfl)
abbrev cX20_prove : ByteArray := prog_38_method_64_code
def yX20_prove : MethodName := ⟨RX20, "prove", "()I"⟩
def dkwX20_prove_1 : List UInt8 := [42, 180, 0, 69, 27, 42, 180, 0, 66, 27, 46, 79, 132, 1, 1, 167, 255, 231, 42, 180, 1, 68, 172]
abbrev dktX20_prove_1 : List UInt8 := dkwX20_prove_1 ++ []
def dkwX20_prove_0 : List UInt8 := [42, 182, 1, 65, 42, 42, 180, 1, 33, 181, 1, 68, 3, 60, 27, 6, 42, 180, 1, 68, 104, 162, 0, 21]
abbrev dktX20_prove_0 : List UInt8 := dkwX20_prove_0 ++ dktX20_prove_1
theorem dksX20_prove_0 : cX20_prove.data.toList.drop 0 = dktX20_prove_0 := by decide +kernel
theorem dksX20_prove_1 : cX20_prove.data.toList.drop 24 = dktX20_prove_1 := dk_seg dksX20_prove_0 24 rfl rfl
theorem dX20_prove_0 : decode cX20_prove 0 = .ok (.aload_n 0, 1) := dk_42 (dk_at dksX20_prove_0 0 rfl rfl)
theorem dX20_prove_1 : decode cX20_prove 1 = .ok (.invokevirtual 321, 3) := dk_182 1 65 (dk_at dksX20_prove_0 1 rfl rfl)
theorem dX20_prove_4 : decode cX20_prove 4 = .ok (.aload_n 0, 1) := dk_42 (dk_at dksX20_prove_0 4 rfl rfl)
theorem dX20_prove_5 : decode cX20_prove 5 = .ok (.aload_n 0, 1) := dk_42 (dk_at dksX20_prove_0 5 rfl rfl)
theorem dX20_prove_6 : decode cX20_prove 6 = .ok (.getfield 289, 3) := dk_180 1 33 (dk_at dksX20_prove_0 6 rfl rfl)
theorem dX20_prove_9 : decode cX20_prove 9 = .ok (.putfield 324, 3) := dk_181 1 68 (dk_at dksX20_prove_0 9 rfl rfl)
theorem dX20_prove_12 : decode cX20_prove 12 = .ok (.iconst 0, 1) := dk_3 (dk_at dksX20_prove_0 12 rfl rfl)
theorem dX20_prove_13 : decode cX20_prove 13 = .ok (.istore_n 1, 1) := dk_60 (dk_at dksX20_prove_0 13 rfl rfl)
theorem dX20_prove_14 : decode cX20_prove 14 = .ok (.iload_n 1, 1) := dk_27 (dk_at dksX20_prove_0 14 rfl rfl)
theorem dX20_prove_15 : decode cX20_prove 15 = .ok (.iconst 3, 1) := dk_6 (dk_at dksX20_prove_0 15 rfl rfl)
theorem dX20_prove_16 : decode cX20_prove 16 = .ok (.aload_n 0, 1) := dk_42 (dk_at dksX20_prove_0 16 rfl rfl)
theorem dX20_prove_17 : decode cX20_prove 17 = .ok (.getfield 324, 3) := dk_180 1 68 (dk_at dksX20_prove_0 17 rfl rfl)
theorem dX20_prove_20 : decode cX20_prove 20 = .ok (.imul, 1) := dk_104 (dk_at dksX20_prove_0 20 rfl rfl)
theorem dX20_prove_21 : decode cX20_prove 21 = .ok (.if_icmp .ge 21, 3) := dk_162 0 21 (dk_at dksX20_prove_0 21 rfl rfl)
theorem dX20_prove_24 : decode cX20_prove 24 = .ok (.aload_n 0, 1) := dk_42 (dk_at dksX20_prove_1 0 rfl rfl)
theorem dX20_prove_25 : decode cX20_prove 25 = .ok (.getfield 69, 3) := dk_180 0 69 (dk_at dksX20_prove_1 1 rfl rfl)
theorem dX20_prove_28 : decode cX20_prove 28 = .ok (.iload_n 1, 1) := dk_27 (dk_at dksX20_prove_1 4 rfl rfl)
theorem dX20_prove_29 : decode cX20_prove 29 = .ok (.aload_n 0, 1) := dk_42 (dk_at dksX20_prove_1 5 rfl rfl)
theorem dX20_prove_30 : decode cX20_prove 30 = .ok (.getfield 66, 3) := dk_180 0 66 (dk_at dksX20_prove_1 6 rfl rfl)
theorem dX20_prove_33 : decode cX20_prove 33 = .ok (.iload_n 1, 1) := dk_27 (dk_at dksX20_prove_1 9 rfl rfl)
theorem dX20_prove_34 : decode cX20_prove 34 = .ok (.iaload, 1) := dk_46 (dk_at dksX20_prove_1 10 rfl rfl)
theorem dX20_prove_35 : decode cX20_prove 35 = .ok (.iastore, 1) := dk_79 (dk_at dksX20_prove_1 11 rfl rfl)
theorem dX20_prove_36 : decode cX20_prove 36 = .ok (.iinc 1 1, 3) := dk_132 1 1 (dk_at dksX20_prove_1 12 rfl rfl)
theorem dX20_prove_39 : decode cX20_prove 39 = .ok (.goto (-25), 3) := dk_167 255 231 (dk_at dksX20_prove_1 15 rfl rfl)
theorem dX20_prove_42 : decode cX20_prove 42 = .ok (.aload_n 0, 1) := dk_42 (dk_at dksX20_prove_1 18 rfl rfl)
theorem dX20_prove_43 : decode cX20_prove 43 = .ok (.getfield 324, 3) := dk_180 1 68 (dk_at dksX20_prove_1 19 rfl rfl)
theorem dX20_prove_46 : decode cX20_prove 46 = .ok (.ireturn, 1) := dk_172 (dk_at dksX20_prove_1 22 rfl rfl)
abbrev cX20_findRows : ByteArray := prog_38_method_63_code
def yX20_findRows : MethodName := ⟨RX20, "findRows", "()V"⟩
def dkwX20_findRows_0 : List UInt8 := [42, 3, 16, 7, 182, 1, 39, 42, 182, 1, 36, 42, 3, 181, 0, 104, 177]
abbrev dktX20_findRows_0 : List UInt8 := dkwX20_findRows_0 ++ []
theorem dksX20_findRows_0 : cX20_findRows.data.toList.drop 0 = dktX20_findRows_0 := by decide +kernel
theorem dX20_findRows_0 : decode cX20_findRows 0 = .ok (.aload_n 0, 1) := dk_42 (dk_at dksX20_findRows_0 0 rfl rfl)
theorem dX20_findRows_1 : decode cX20_findRows 1 = .ok (.iconst 0, 1) := dk_3 (dk_at dksX20_findRows_0 1 rfl rfl)
theorem dX20_findRows_2 : decode cX20_findRows 2 = .ok (.bipush 7, 2) := dk_16 7 (dk_at dksX20_findRows_0 2 rfl rfl)
theorem dX20_findRows_4 : decode cX20_findRows 4 = .ok (.invokevirtual 295, 3) := dk_182 1 39 (dk_at dksX20_findRows_0 4 rfl rfl)
theorem dX20_findRows_7 : decode cX20_findRows 7 = .ok (.aload_n 0, 1) := dk_42 (dk_at dksX20_findRows_0 7 rfl rfl)
theorem dX20_findRows_8 : decode cX20_findRows 8 = .ok (.invokevirtual 292, 3) := dk_182 1 36 (dk_at dksX20_findRows_0 8 rfl rfl)
theorem dX20_findRows_11 : decode cX20_findRows 11 = .ok (.aload_n 0, 1) := dk_42 (dk_at dksX20_findRows_0 11 rfl rfl)
theorem dX20_findRows_12 : decode cX20_findRows 12 = .ok (.iconst 0, 1) := dk_3 (dk_at dksX20_findRows_0 12 rfl rfl)
theorem dX20_findRows_13 : decode cX20_findRows 13 = .ok (.putfield 104, 3) := dk_181 0 104 (dk_at dksX20_findRows_0 13 rfl rfl)
theorem dX20_findRows_16 : decode cX20_findRows 16 = .ok (.return_, 1) := dk_177 (dk_at dksX20_findRows_0 16 rfl rfl)
abbrev cX20_row : ByteArray := prog_38_method_66_code
def yX20_row : MethodName := ⟨RX20, "row", "(II)I"⟩
def dkwX20_row_1 : List UInt8 := [172]
abbrev dktX20_row_1 : List UInt8 := dkwX20_row_1 ++ []
def dkwX20_row_0 : List UInt8 := [42, 27, 28, 182, 1, 71, 153, 0, 16, 42, 180, 0, 69, 6, 27, 104, 28, 96, 46, 167, 0, 5, 16, 247]
abbrev dktX20_row_0 : List UInt8 := dkwX20_row_0 ++ dktX20_row_1
theorem dksX20_row_0 : cX20_row.data.toList.drop 0 = dktX20_row_0 := by decide +kernel
theorem dksX20_row_1 : cX20_row.data.toList.drop 24 = dktX20_row_1 := dk_seg dksX20_row_0 24 rfl rfl
theorem dX20_row_0 : decode cX20_row 0 = .ok (.aload_n 0, 1) := dk_42 (dk_at dksX20_row_0 0 rfl rfl)
theorem dX20_row_1 : decode cX20_row 1 = .ok (.iload_n 1, 1) := dk_27 (dk_at dksX20_row_0 1 rfl rfl)
theorem dX20_row_2 : decode cX20_row 2 = .ok (.iload_n 2, 1) := dk_28 (dk_at dksX20_row_0 2 rfl rfl)
theorem dX20_row_3 : decode cX20_row 3 = .ok (.invokevirtual 327, 3) := dk_182 1 71 (dk_at dksX20_row_0 3 rfl rfl)
theorem dX20_row_6 : decode cX20_row 6 = .ok (.ifCond .eq 16, 3) := dk_153 0 16 (dk_at dksX20_row_0 6 rfl rfl)
theorem dX20_row_9 : decode cX20_row 9 = .ok (.aload_n 0, 1) := dk_42 (dk_at dksX20_row_0 9 rfl rfl)
theorem dX20_row_10 : decode cX20_row 10 = .ok (.getfield 69, 3) := dk_180 0 69 (dk_at dksX20_row_0 10 rfl rfl)
theorem dX20_row_13 : decode cX20_row 13 = .ok (.iconst 3, 1) := dk_6 (dk_at dksX20_row_0 13 rfl rfl)
theorem dX20_row_14 : decode cX20_row 14 = .ok (.iload_n 1, 1) := dk_27 (dk_at dksX20_row_0 14 rfl rfl)
theorem dX20_row_15 : decode cX20_row 15 = .ok (.imul, 1) := dk_104 (dk_at dksX20_row_0 15 rfl rfl)
theorem dX20_row_16 : decode cX20_row 16 = .ok (.iload_n 2, 1) := dk_28 (dk_at dksX20_row_0 16 rfl rfl)
theorem dX20_row_17 : decode cX20_row 17 = .ok (.iadd, 1) := dk_96 (dk_at dksX20_row_0 17 rfl rfl)
theorem dX20_row_18 : decode cX20_row 18 = .ok (.iaload, 1) := dk_46 (dk_at dksX20_row_0 18 rfl rfl)
theorem dX20_row_19 : decode cX20_row 19 = .ok (.goto 5, 3) := dk_167 0 5 (dk_at dksX20_row_0 19 rfl rfl)
theorem dX20_row_22 : decode cX20_row 22 = .ok (.bipush (-9), 2) := dk_16 247 (dk_at dksX20_row_0 22 rfl rfl)
theorem dX20_row_24 : decode cX20_row 24 = .ok (.ireturn, 1) := dk_172 (dk_at dksX20_row_1 0 rfl rfl)
abbrev cX20_isRow : ByteArray := prog_38_method_65_code
def yX20_isRow : MethodName := ⟨RX20, "isRow", "(II)Z"⟩
def dkwX20_isRow_1 : List UInt8 := [167, 0, 4, 3, 172]
abbrev dktX20_isRow_1 : List UInt8 := dkwX20_isRow_1 ++ []
def dkwX20_isRow_0 : List UInt8 := [27, 3, 42, 180, 1, 68, 4, 100, 184, 0, 100, 153, 0, 16, 28, 3, 5, 184, 0, 100, 153, 0, 7, 4]
abbrev dktX20_isRow_0 : List UInt8 := dkwX20_isRow_0 ++ dktX20_isRow_1
theorem dksX20_isRow_0 : cX20_isRow.data.toList.drop 0 = dktX20_isRow_0 := by decide +kernel
theorem dksX20_isRow_1 : cX20_isRow.data.toList.drop 24 = dktX20_isRow_1 := dk_seg dksX20_isRow_0 24 rfl rfl
theorem dX20_isRow_0 : decode cX20_isRow 0 = .ok (.iload_n 1, 1) := dk_27 (dk_at dksX20_isRow_0 0 rfl rfl)
theorem dX20_isRow_1 : decode cX20_isRow 1 = .ok (.iconst 0, 1) := dk_3 (dk_at dksX20_isRow_0 1 rfl rfl)
theorem dX20_isRow_2 : decode cX20_isRow 2 = .ok (.aload_n 0, 1) := dk_42 (dk_at dksX20_isRow_0 2 rfl rfl)
theorem dX20_isRow_3 : decode cX20_isRow 3 = .ok (.getfield 324, 3) := dk_180 1 68 (dk_at dksX20_isRow_0 3 rfl rfl)
theorem dX20_isRow_6 : decode cX20_isRow 6 = .ok (.iconst 1, 1) := dk_4 (dk_at dksX20_isRow_0 6 rfl rfl)
theorem dX20_isRow_7 : decode cX20_isRow 7 = .ok (.isub, 1) := dk_100 (dk_at dksX20_isRow_0 7 rfl rfl)
theorem dX20_isRow_8 : decode cX20_isRow 8 = .ok (.invokestatic 100, 3) := dk_184 0 100 (dk_at dksX20_isRow_0 8 rfl rfl)
theorem dX20_isRow_11 : decode cX20_isRow 11 = .ok (.ifCond .eq 16, 3) := dk_153 0 16 (dk_at dksX20_isRow_0 11 rfl rfl)
theorem dX20_isRow_14 : decode cX20_isRow 14 = .ok (.iload_n 2, 1) := dk_28 (dk_at dksX20_isRow_0 14 rfl rfl)
theorem dX20_isRow_15 : decode cX20_isRow 15 = .ok (.iconst 0, 1) := dk_3 (dk_at dksX20_isRow_0 15 rfl rfl)
theorem dX20_isRow_16 : decode cX20_isRow 16 = .ok (.iconst 2, 1) := dk_5 (dk_at dksX20_isRow_0 16 rfl rfl)
theorem dX20_isRow_17 : decode cX20_isRow 17 = .ok (.invokestatic 100, 3) := dk_184 0 100 (dk_at dksX20_isRow_0 17 rfl rfl)
theorem dX20_isRow_20 : decode cX20_isRow 20 = .ok (.ifCond .eq 7, 3) := dk_153 0 7 (dk_at dksX20_isRow_0 20 rfl rfl)
theorem dX20_isRow_23 : decode cX20_isRow 23 = .ok (.iconst 1, 1) := dk_4 (dk_at dksX20_isRow_0 23 rfl rfl)
theorem dX20_isRow_24 : decode cX20_isRow 24 = .ok (.goto 4, 3) := dk_167 0 4 (dk_at dksX20_isRow_1 0 rfl rfl)
theorem dX20_isRow_27 : decode cX20_isRow 27 = .ok (.iconst 0, 1) := dk_3 (dk_at dksX20_isRow_1 3 rfl rfl)
theorem dX20_isRow_28 : decode cX20_isRow 28 = .ok (.ireturn, 1) := dk_172 (dk_at dksX20_isRow_1 4 rfl rfl)
abbrev cX20_alterRow : ByteArray := prog_38_method_67_code
def yX20_alterRow : MethodName := ⟨RX20, "alterRow", "(III)I"⟩
def dkwX20_alterRow_1 : List UInt8 := [42, 180, 0, 69, 6, 27, 104, 28, 96, 29, 79, 21, 4, 172]
abbrev dktX20_alterRow_1 : List UInt8 := dkwX20_alterRow_1 ++ []
def dkwX20_alterRow_0 : List UInt8 := [42, 27, 28, 182, 1, 71, 154, 0, 6, 16, 247, 172, 42, 180, 0, 69, 6, 27, 104, 28, 96, 46, 54, 4]
abbrev dktX20_alterRow_0 : List UInt8 := dkwX20_alterRow_0 ++ dktX20_alterRow_1
theorem dksX20_alterRow_0 : cX20_alterRow.data.toList.drop 0 = dktX20_alterRow_0 := by decide +kernel
theorem dksX20_alterRow_1 : cX20_alterRow.data.toList.drop 24 = dktX20_alterRow_1 := dk_seg dksX20_alterRow_0 24 rfl rfl
theorem dX20_alterRow_0 : decode cX20_alterRow 0 = .ok (.aload_n 0, 1) := dk_42 (dk_at dksX20_alterRow_0 0 rfl rfl)
theorem dX20_alterRow_1 : decode cX20_alterRow 1 = .ok (.iload_n 1, 1) := dk_27 (dk_at dksX20_alterRow_0 1 rfl rfl)
theorem dX20_alterRow_2 : decode cX20_alterRow 2 = .ok (.iload_n 2, 1) := dk_28 (dk_at dksX20_alterRow_0 2 rfl rfl)
theorem dX20_alterRow_3 : decode cX20_alterRow 3 = .ok (.invokevirtual 327, 3) := dk_182 1 71 (dk_at dksX20_alterRow_0 3 rfl rfl)
theorem dX20_alterRow_6 : decode cX20_alterRow 6 = .ok (.ifCond .ne 6, 3) := dk_154 0 6 (dk_at dksX20_alterRow_0 6 rfl rfl)
theorem dX20_alterRow_9 : decode cX20_alterRow 9 = .ok (.bipush (-9), 2) := dk_16 247 (dk_at dksX20_alterRow_0 9 rfl rfl)
theorem dX20_alterRow_11 : decode cX20_alterRow 11 = .ok (.ireturn, 1) := dk_172 (dk_at dksX20_alterRow_0 11 rfl rfl)
theorem dX20_alterRow_12 : decode cX20_alterRow 12 = .ok (.aload_n 0, 1) := dk_42 (dk_at dksX20_alterRow_0 12 rfl rfl)
theorem dX20_alterRow_13 : decode cX20_alterRow 13 = .ok (.getfield 69, 3) := dk_180 0 69 (dk_at dksX20_alterRow_0 13 rfl rfl)
theorem dX20_alterRow_16 : decode cX20_alterRow 16 = .ok (.iconst 3, 1) := dk_6 (dk_at dksX20_alterRow_0 16 rfl rfl)
theorem dX20_alterRow_17 : decode cX20_alterRow 17 = .ok (.iload_n 1, 1) := dk_27 (dk_at dksX20_alterRow_0 17 rfl rfl)
theorem dX20_alterRow_18 : decode cX20_alterRow 18 = .ok (.imul, 1) := dk_104 (dk_at dksX20_alterRow_0 18 rfl rfl)
theorem dX20_alterRow_19 : decode cX20_alterRow 19 = .ok (.iload_n 2, 1) := dk_28 (dk_at dksX20_alterRow_0 19 rfl rfl)
theorem dX20_alterRow_20 : decode cX20_alterRow 20 = .ok (.iadd, 1) := dk_96 (dk_at dksX20_alterRow_0 20 rfl rfl)
theorem dX20_alterRow_21 : decode cX20_alterRow 21 = .ok (.iaload, 1) := dk_46 (dk_at dksX20_alterRow_0 21 rfl rfl)
theorem dX20_alterRow_22 : decode cX20_alterRow 22 = .ok (.istore 4, 2) := dk_54 4 (dk_at dksX20_alterRow_0 22 rfl rfl)
theorem dX20_alterRow_24 : decode cX20_alterRow 24 = .ok (.aload_n 0, 1) := dk_42 (dk_at dksX20_alterRow_1 0 rfl rfl)
theorem dX20_alterRow_25 : decode cX20_alterRow 25 = .ok (.getfield 69, 3) := dk_180 0 69 (dk_at dksX20_alterRow_1 1 rfl rfl)
theorem dX20_alterRow_28 : decode cX20_alterRow 28 = .ok (.iconst 3, 1) := dk_6 (dk_at dksX20_alterRow_1 4 rfl rfl)
theorem dX20_alterRow_29 : decode cX20_alterRow 29 = .ok (.iload_n 1, 1) := dk_27 (dk_at dksX20_alterRow_1 5 rfl rfl)
theorem dX20_alterRow_30 : decode cX20_alterRow 30 = .ok (.imul, 1) := dk_104 (dk_at dksX20_alterRow_1 6 rfl rfl)
theorem dX20_alterRow_31 : decode cX20_alterRow 31 = .ok (.iload_n 2, 1) := dk_28 (dk_at dksX20_alterRow_1 7 rfl rfl)
theorem dX20_alterRow_32 : decode cX20_alterRow 32 = .ok (.iadd, 1) := dk_96 (dk_at dksX20_alterRow_1 8 rfl rfl)
theorem dX20_alterRow_33 : decode cX20_alterRow 33 = .ok (.iload_n 3, 1) := dk_29 (dk_at dksX20_alterRow_1 9 rfl rfl)
theorem dX20_alterRow_34 : decode cX20_alterRow 34 = .ok (.iastore, 1) := dk_79 (dk_at dksX20_alterRow_1 10 rfl rfl)
theorem dX20_alterRow_35 : decode cX20_alterRow 35 = .ok (.iload 4, 2) := dk_21 4 (dk_at dksX20_alterRow_1 11 rfl rfl)
theorem dX20_alterRow_37 : decode cX20_alterRow 37 = .ok (.ireturn, 1) := dk_172 (dk_at dksX20_alterRow_1 13 rfl rfl)
abbrev cX20_judge : ByteArray := prog_38_method_68_code
def yX20_judge : MethodName := ⟨RX20, "judge", "()I"⟩
def dkwX20_judge_4 : List UInt8 := [180, 1, 33, 162, 0, 9, 17, 0, 222, 167, 0, 4, 3, 172]
abbrev dktX20_judge_4 : List UInt8 := dkwX20_judge_4 ++ []
def dkwX20_judge_3 : List UInt8 := [167, 255, 215, 28, 154, 0, 7, 27, 4, 96, 172, 132, 1, 1, 167, 255, 177, 42, 180, 1, 68, 42]
abbrev dktX20_judge_3 : List UInt8 := dkwX20_judge_3 ++ dktX20_judge_4
def dkwX20_judge_2 : List UInt8 := [96, 46, 42, 180, 0, 66, 6, 27, 104, 29, 96, 46, 160, 0, 7, 4, 167, 0, 4, 3, 61, 132, 3, 1]
abbrev dktX20_judge_2 : List UInt8 := dkwX20_judge_2 ++ dktX20_judge_3
def dkwX20_judge_1 : List UInt8 := [167, 0, 4, 3, 61, 3, 62, 29, 6, 162, 0, 42, 28, 153, 0, 38, 42, 180, 0, 69, 6, 27, 104, 29]
abbrev dktX20_judge_1 : List UInt8 := dkwX20_judge_1 ++ dktX20_judge_2
def dkwX20_judge_0 : List UInt8 := [42, 182, 1, 65, 3, 60, 27, 42, 180, 1, 68, 162, 0, 77, 27, 42, 180, 1, 33, 162, 0, 7, 4]
abbrev dktX20_judge_0 : List UInt8 := dkwX20_judge_0 ++ dktX20_judge_1
theorem dksX20_judge_0 : cX20_judge.data.toList.drop 0 = dktX20_judge_0 := by decide +kernel
theorem dksX20_judge_1 : cX20_judge.data.toList.drop 23 = dktX20_judge_1 := dk_seg dksX20_judge_0 23 rfl rfl
theorem dksX20_judge_2 : cX20_judge.data.toList.drop 47 = dktX20_judge_2 := dk_seg dksX20_judge_1 24 rfl rfl
theorem dksX20_judge_3 : cX20_judge.data.toList.drop 71 = dktX20_judge_3 := dk_seg dksX20_judge_2 24 rfl rfl
theorem dksX20_judge_4 : cX20_judge.data.toList.drop 93 = dktX20_judge_4 := dk_seg dksX20_judge_3 22 rfl rfl
theorem dX20_judge_0 : decode cX20_judge 0 = .ok (.aload_n 0, 1) := dk_42 (dk_at dksX20_judge_0 0 rfl rfl)
theorem dX20_judge_1 : decode cX20_judge 1 = .ok (.invokevirtual 321, 3) := dk_182 1 65 (dk_at dksX20_judge_0 1 rfl rfl)
theorem dX20_judge_4 : decode cX20_judge 4 = .ok (.iconst 0, 1) := dk_3 (dk_at dksX20_judge_0 4 rfl rfl)
theorem dX20_judge_5 : decode cX20_judge 5 = .ok (.istore_n 1, 1) := dk_60 (dk_at dksX20_judge_0 5 rfl rfl)
theorem dX20_judge_6 : decode cX20_judge 6 = .ok (.iload_n 1, 1) := dk_27 (dk_at dksX20_judge_0 6 rfl rfl)
theorem dX20_judge_7 : decode cX20_judge 7 = .ok (.aload_n 0, 1) := dk_42 (dk_at dksX20_judge_0 7 rfl rfl)
theorem dX20_judge_8 : decode cX20_judge 8 = .ok (.getfield 324, 3) := dk_180 1 68 (dk_at dksX20_judge_0 8 rfl rfl)
theorem dX20_judge_11 : decode cX20_judge 11 = .ok (.if_icmp .ge 77, 3) := dk_162 0 77 (dk_at dksX20_judge_0 11 rfl rfl)
theorem dX20_judge_14 : decode cX20_judge 14 = .ok (.iload_n 1, 1) := dk_27 (dk_at dksX20_judge_0 14 rfl rfl)
theorem dX20_judge_15 : decode cX20_judge 15 = .ok (.aload_n 0, 1) := dk_42 (dk_at dksX20_judge_0 15 rfl rfl)
theorem dX20_judge_16 : decode cX20_judge 16 = .ok (.getfield 289, 3) := dk_180 1 33 (dk_at dksX20_judge_0 16 rfl rfl)
theorem dX20_judge_19 : decode cX20_judge 19 = .ok (.if_icmp .ge 7, 3) := dk_162 0 7 (dk_at dksX20_judge_0 19 rfl rfl)
theorem dX20_judge_22 : decode cX20_judge 22 = .ok (.iconst 1, 1) := dk_4 (dk_at dksX20_judge_0 22 rfl rfl)
theorem dX20_judge_23 : decode cX20_judge 23 = .ok (.goto 4, 3) := dk_167 0 4 (dk_at dksX20_judge_1 0 rfl rfl)
theorem dX20_judge_26 : decode cX20_judge 26 = .ok (.iconst 0, 1) := dk_3 (dk_at dksX20_judge_1 3 rfl rfl)
theorem dX20_judge_27 : decode cX20_judge 27 = .ok (.istore_n 2, 1) := dk_61 (dk_at dksX20_judge_1 4 rfl rfl)
theorem dX20_judge_28 : decode cX20_judge 28 = .ok (.iconst 0, 1) := dk_3 (dk_at dksX20_judge_1 5 rfl rfl)
theorem dX20_judge_29 : decode cX20_judge 29 = .ok (.istore_n 3, 1) := dk_62 (dk_at dksX20_judge_1 6 rfl rfl)
theorem dX20_judge_30 : decode cX20_judge 30 = .ok (.iload_n 3, 1) := dk_29 (dk_at dksX20_judge_1 7 rfl rfl)
theorem dX20_judge_31 : decode cX20_judge 31 = .ok (.iconst 3, 1) := dk_6 (dk_at dksX20_judge_1 8 rfl rfl)
theorem dX20_judge_32 : decode cX20_judge 32 = .ok (.if_icmp .ge 42, 3) := dk_162 0 42 (dk_at dksX20_judge_1 9 rfl rfl)
theorem dX20_judge_35 : decode cX20_judge 35 = .ok (.iload_n 2, 1) := dk_28 (dk_at dksX20_judge_1 12 rfl rfl)
theorem dX20_judge_36 : decode cX20_judge 36 = .ok (.ifCond .eq 38, 3) := dk_153 0 38 (dk_at dksX20_judge_1 13 rfl rfl)
theorem dX20_judge_39 : decode cX20_judge 39 = .ok (.aload_n 0, 1) := dk_42 (dk_at dksX20_judge_1 16 rfl rfl)
theorem dX20_judge_40 : decode cX20_judge 40 = .ok (.getfield 69, 3) := dk_180 0 69 (dk_at dksX20_judge_1 17 rfl rfl)
theorem dX20_judge_43 : decode cX20_judge 43 = .ok (.iconst 3, 1) := dk_6 (dk_at dksX20_judge_1 20 rfl rfl)
theorem dX20_judge_44 : decode cX20_judge 44 = .ok (.iload_n 1, 1) := dk_27 (dk_at dksX20_judge_1 21 rfl rfl)
theorem dX20_judge_45 : decode cX20_judge 45 = .ok (.imul, 1) := dk_104 (dk_at dksX20_judge_1 22 rfl rfl)
theorem dX20_judge_46 : decode cX20_judge 46 = .ok (.iload_n 3, 1) := dk_29 (dk_at dksX20_judge_1 23 rfl rfl)
theorem dX20_judge_47 : decode cX20_judge 47 = .ok (.iadd, 1) := dk_96 (dk_at dksX20_judge_2 0 rfl rfl)
theorem dX20_judge_48 : decode cX20_judge 48 = .ok (.iaload, 1) := dk_46 (dk_at dksX20_judge_2 1 rfl rfl)
theorem dX20_judge_49 : decode cX20_judge 49 = .ok (.aload_n 0, 1) := dk_42 (dk_at dksX20_judge_2 2 rfl rfl)
theorem dX20_judge_50 : decode cX20_judge 50 = .ok (.getfield 66, 3) := dk_180 0 66 (dk_at dksX20_judge_2 3 rfl rfl)
theorem dX20_judge_53 : decode cX20_judge 53 = .ok (.iconst 3, 1) := dk_6 (dk_at dksX20_judge_2 6 rfl rfl)
theorem dX20_judge_54 : decode cX20_judge 54 = .ok (.iload_n 1, 1) := dk_27 (dk_at dksX20_judge_2 7 rfl rfl)
theorem dX20_judge_55 : decode cX20_judge 55 = .ok (.imul, 1) := dk_104 (dk_at dksX20_judge_2 8 rfl rfl)
theorem dX20_judge_56 : decode cX20_judge 56 = .ok (.iload_n 3, 1) := dk_29 (dk_at dksX20_judge_2 9 rfl rfl)
theorem dX20_judge_57 : decode cX20_judge 57 = .ok (.iadd, 1) := dk_96 (dk_at dksX20_judge_2 10 rfl rfl)
theorem dX20_judge_58 : decode cX20_judge 58 = .ok (.iaload, 1) := dk_46 (dk_at dksX20_judge_2 11 rfl rfl)
theorem dX20_judge_59 : decode cX20_judge 59 = .ok (.if_icmp .ne 7, 3) := dk_160 0 7 (dk_at dksX20_judge_2 12 rfl rfl)
theorem dX20_judge_62 : decode cX20_judge 62 = .ok (.iconst 1, 1) := dk_4 (dk_at dksX20_judge_2 15 rfl rfl)
theorem dX20_judge_63 : decode cX20_judge 63 = .ok (.goto 4, 3) := dk_167 0 4 (dk_at dksX20_judge_2 16 rfl rfl)
theorem dX20_judge_66 : decode cX20_judge 66 = .ok (.iconst 0, 1) := dk_3 (dk_at dksX20_judge_2 19 rfl rfl)
theorem dX20_judge_67 : decode cX20_judge 67 = .ok (.istore_n 2, 1) := dk_61 (dk_at dksX20_judge_2 20 rfl rfl)
theorem dX20_judge_68 : decode cX20_judge 68 = .ok (.iinc 3 1, 3) := dk_132 3 1 (dk_at dksX20_judge_2 21 rfl rfl)
theorem dX20_judge_71 : decode cX20_judge 71 = .ok (.goto (-41), 3) := dk_167 255 215 (dk_at dksX20_judge_3 0 rfl rfl)
theorem dX20_judge_74 : decode cX20_judge 74 = .ok (.iload_n 2, 1) := dk_28 (dk_at dksX20_judge_3 3 rfl rfl)
theorem dX20_judge_75 : decode cX20_judge 75 = .ok (.ifCond .ne 7, 3) := dk_154 0 7 (dk_at dksX20_judge_3 4 rfl rfl)
theorem dX20_judge_78 : decode cX20_judge 78 = .ok (.iload_n 1, 1) := dk_27 (dk_at dksX20_judge_3 7 rfl rfl)
theorem dX20_judge_79 : decode cX20_judge 79 = .ok (.iconst 1, 1) := dk_4 (dk_at dksX20_judge_3 8 rfl rfl)
theorem dX20_judge_80 : decode cX20_judge 80 = .ok (.iadd, 1) := dk_96 (dk_at dksX20_judge_3 9 rfl rfl)
theorem dX20_judge_81 : decode cX20_judge 81 = .ok (.ireturn, 1) := dk_172 (dk_at dksX20_judge_3 10 rfl rfl)
theorem dX20_judge_82 : decode cX20_judge 82 = .ok (.iinc 1 1, 3) := dk_132 1 1 (dk_at dksX20_judge_3 11 rfl rfl)
theorem dX20_judge_85 : decode cX20_judge 85 = .ok (.goto (-79), 3) := dk_167 255 177 (dk_at dksX20_judge_3 14 rfl rfl)
theorem dX20_judge_88 : decode cX20_judge 88 = .ok (.aload_n 0, 1) := dk_42 (dk_at dksX20_judge_3 17 rfl rfl)
theorem dX20_judge_89 : decode cX20_judge 89 = .ok (.getfield 324, 3) := dk_180 1 68 (dk_at dksX20_judge_3 18 rfl rfl)
theorem dX20_judge_92 : decode cX20_judge 92 = .ok (.aload_n 0, 1) := dk_42 (dk_at dksX20_judge_3 21 rfl rfl)
theorem dX20_judge_93 : decode cX20_judge 93 = .ok (.getfield 289, 3) := dk_180 1 33 (dk_at dksX20_judge_4 0 rfl rfl)
theorem dX20_judge_96 : decode cX20_judge 96 = .ok (.if_icmp .ge 9, 3) := dk_162 0 9 (dk_at dksX20_judge_4 3 rfl rfl)
theorem dX20_judge_99 : decode cX20_judge 99 = .ok (.sipush 222, 3) := dk_17 0 222 (dk_at dksX20_judge_4 6 rfl rfl)
theorem dX20_judge_102 : decode cX20_judge 102 = .ok (.goto 4, 3) := dk_167 0 4 (dk_at dksX20_judge_4 9 rfl rfl)
theorem dX20_judge_105 : decode cX20_judge 105 = .ok (.iconst 0, 1) := dk_3 (dk_at dksX20_judge_4 12 rfl rfl)
theorem dX20_judge_106 : decode cX20_judge 106 = .ok (.ireturn, 1) := dk_172 (dk_at dksX20_judge_4 13 rfl rfl)
abbrev cX20_outs : ByteArray := prog_38_method_69_code
def yX20_outs : MethodName := ⟨RX20, "outs", "(IIII)I"⟩
def dkwX20_outs_6 : List UInt8 := [132, 6, 1, 167, 255, 190, 21, 4, 172]
abbrev dktX20_outs_6 : List UInt8 := dkwX20_outs_6 ++ []
def dkwX20_outs_5 : List UInt8 := [16, 236, 167, 0, 20, 22, 7, 20, 1, 83, 148, 158, 0, 8, 16, 30, 167, 0, 6, 22, 7, 136, 79]
abbrev dktX20_outs_5 : List UInt8 := dkwX20_outs_5 ++ dktX20_outs_6
def dkwX20_outs_4 : List UInt8 := [21, 6, 96, 47, 55, 7, 42, 180, 0, 19, 29, 21, 6, 96, 22, 7, 20, 1, 81, 148, 156, 0, 8]
abbrev dktX20_outs_4 : List UInt8 := dkwX20_outs_4 ++ dktX20_outs_5
def dkwX20_outs_3 : List UInt8 := [16, 244, 172, 3, 54, 6, 21, 6, 21, 4, 162, 0, 65, 42, 180, 0, 78, 16, 40, 27, 104, 28, 96]
abbrev dktX20_outs_3 : List UInt8 := dkwX20_outs_3 ++ dktX20_outs_4
def dkwX20_outs_2 : List UInt8 := [153, 0, 6, 21, 5, 172, 28, 155, 0, 16, 28, 42, 180, 0, 75, 27, 46, 21, 4, 100, 164, 0, 6]
abbrev dktX20_outs_2 : List UInt8 := dkwX20_outs_2 ++ dktX20_outs_3
def dkwX20_outs_1 : List UInt8 := [153, 0, 12, 29, 21, 4, 96, 16, 24, 164, 0, 5, 2, 172, 42, 27, 4, 182, 1, 78, 54, 5, 21, 5]
abbrev dktX20_outs_1 : List UInt8 := dkwX20_outs_1 ++ dktX20_outs_2
def dkwX20_outs_0 : List UInt8 := [27, 184, 1, 75, 153, 0, 30, 29, 184, 0, 238, 153, 0, 23, 21, 4, 3, 16, 24, 184, 0, 100]
abbrev dktX20_outs_0 : List UInt8 := dkwX20_outs_0 ++ dktX20_outs_1
theorem dksX20_outs_0 : cX20_outs.data.toList.drop 0 = dktX20_outs_0 := by decide +kernel
theorem dksX20_outs_1 : cX20_outs.data.toList.drop 22 = dktX20_outs_1 := dk_seg dksX20_outs_0 22 rfl rfl
theorem dksX20_outs_2 : cX20_outs.data.toList.drop 46 = dktX20_outs_2 := dk_seg dksX20_outs_1 24 rfl rfl
theorem dksX20_outs_3 : cX20_outs.data.toList.drop 69 = dktX20_outs_3 := dk_seg dksX20_outs_2 23 rfl rfl
theorem dksX20_outs_4 : cX20_outs.data.toList.drop 92 = dktX20_outs_4 := dk_seg dksX20_outs_3 23 rfl rfl
theorem dksX20_outs_5 : cX20_outs.data.toList.drop 115 = dktX20_outs_5 := dk_seg dksX20_outs_4 23 rfl rfl
theorem dksX20_outs_6 : cX20_outs.data.toList.drop 138 = dktX20_outs_6 := dk_seg dksX20_outs_5 23 rfl rfl
theorem dX20_outs_0 : decode cX20_outs 0 = .ok (.iload_n 1, 1) := dk_27 (dk_at dksX20_outs_0 0 rfl rfl)
theorem dX20_outs_1 : decode cX20_outs 1 = .ok (.invokestatic 331, 3) := dk_184 1 75 (dk_at dksX20_outs_0 1 rfl rfl)
theorem dX20_outs_4 : decode cX20_outs 4 = .ok (.ifCond .eq 30, 3) := dk_153 0 30 (dk_at dksX20_outs_0 4 rfl rfl)
theorem dX20_outs_7 : decode cX20_outs 7 = .ok (.iload_n 3, 1) := dk_29 (dk_at dksX20_outs_0 7 rfl rfl)
theorem dX20_outs_8 : decode cX20_outs 8 = .ok (.invokestatic 238, 3) := dk_184 0 238 (dk_at dksX20_outs_0 8 rfl rfl)
theorem dX20_outs_11 : decode cX20_outs 11 = .ok (.ifCond .eq 23, 3) := dk_153 0 23 (dk_at dksX20_outs_0 11 rfl rfl)
theorem dX20_outs_14 : decode cX20_outs 14 = .ok (.iload 4, 2) := dk_21 4 (dk_at dksX20_outs_0 14 rfl rfl)
theorem dX20_outs_16 : decode cX20_outs 16 = .ok (.iconst 0, 1) := dk_3 (dk_at dksX20_outs_0 16 rfl rfl)
theorem dX20_outs_17 : decode cX20_outs 17 = .ok (.bipush 24, 2) := dk_16 24 (dk_at dksX20_outs_0 17 rfl rfl)
theorem dX20_outs_19 : decode cX20_outs 19 = .ok (.invokestatic 100, 3) := dk_184 0 100 (dk_at dksX20_outs_0 19 rfl rfl)
theorem dX20_outs_22 : decode cX20_outs 22 = .ok (.ifCond .eq 12, 3) := dk_153 0 12 (dk_at dksX20_outs_1 0 rfl rfl)
theorem dX20_outs_25 : decode cX20_outs 25 = .ok (.iload_n 3, 1) := dk_29 (dk_at dksX20_outs_1 3 rfl rfl)
theorem dX20_outs_26 : decode cX20_outs 26 = .ok (.iload 4, 2) := dk_21 4 (dk_at dksX20_outs_1 4 rfl rfl)
theorem dX20_outs_28 : decode cX20_outs 28 = .ok (.iadd, 1) := dk_96 (dk_at dksX20_outs_1 6 rfl rfl)
theorem dX20_outs_29 : decode cX20_outs 29 = .ok (.bipush 24, 2) := dk_16 24 (dk_at dksX20_outs_1 7 rfl rfl)
theorem dX20_outs_31 : decode cX20_outs 31 = .ok (.if_icmp .le 5, 3) := dk_164 0 5 (dk_at dksX20_outs_1 9 rfl rfl)
theorem dX20_outs_34 : decode cX20_outs 34 = .ok (.iconst (-1), 1) := dk_2 (dk_at dksX20_outs_1 12 rfl rfl)
theorem dX20_outs_35 : decode cX20_outs 35 = .ok (.ireturn, 1) := dk_172 (dk_at dksX20_outs_1 13 rfl rfl)
theorem dX20_outs_36 : decode cX20_outs 36 = .ok (.aload_n 0, 1) := dk_42 (dk_at dksX20_outs_1 14 rfl rfl)
theorem dX20_outs_37 : decode cX20_outs 37 = .ok (.iload_n 1, 1) := dk_27 (dk_at dksX20_outs_1 15 rfl rfl)
theorem dX20_outs_38 : decode cX20_outs 38 = .ok (.iconst 1, 1) := dk_4 (dk_at dksX20_outs_1 16 rfl rfl)
theorem dX20_outs_39 : decode cX20_outs 39 = .ok (.invokevirtual 334, 3) := dk_182 1 78 (dk_at dksX20_outs_1 17 rfl rfl)
theorem dX20_outs_42 : decode cX20_outs 42 = .ok (.istore 5, 2) := dk_54 5 (dk_at dksX20_outs_1 20 rfl rfl)
theorem dX20_outs_44 : decode cX20_outs 44 = .ok (.iload 5, 2) := dk_21 5 (dk_at dksX20_outs_1 22 rfl rfl)
theorem dX20_outs_46 : decode cX20_outs 46 = .ok (.ifCond .eq 6, 3) := dk_153 0 6 (dk_at dksX20_outs_2 0 rfl rfl)
theorem dX20_outs_49 : decode cX20_outs 49 = .ok (.iload 5, 2) := dk_21 5 (dk_at dksX20_outs_2 3 rfl rfl)
theorem dX20_outs_51 : decode cX20_outs 51 = .ok (.ireturn, 1) := dk_172 (dk_at dksX20_outs_2 5 rfl rfl)
theorem dX20_outs_52 : decode cX20_outs 52 = .ok (.iload_n 2, 1) := dk_28 (dk_at dksX20_outs_2 6 rfl rfl)
theorem dX20_outs_53 : decode cX20_outs 53 = .ok (.ifCond .lt 16, 3) := dk_155 0 16 (dk_at dksX20_outs_2 7 rfl rfl)
theorem dX20_outs_56 : decode cX20_outs 56 = .ok (.iload_n 2, 1) := dk_28 (dk_at dksX20_outs_2 10 rfl rfl)
theorem dX20_outs_57 : decode cX20_outs 57 = .ok (.aload_n 0, 1) := dk_42 (dk_at dksX20_outs_2 11 rfl rfl)
theorem dX20_outs_58 : decode cX20_outs 58 = .ok (.getfield 75, 3) := dk_180 0 75 (dk_at dksX20_outs_2 12 rfl rfl)
theorem dX20_outs_61 : decode cX20_outs 61 = .ok (.iload_n 1, 1) := dk_27 (dk_at dksX20_outs_2 15 rfl rfl)
theorem dX20_outs_62 : decode cX20_outs 62 = .ok (.iaload, 1) := dk_46 (dk_at dksX20_outs_2 16 rfl rfl)
theorem dX20_outs_63 : decode cX20_outs 63 = .ok (.iload 4, 2) := dk_21 4 (dk_at dksX20_outs_2 17 rfl rfl)
theorem dX20_outs_65 : decode cX20_outs 65 = .ok (.isub, 1) := dk_100 (dk_at dksX20_outs_2 19 rfl rfl)
theorem dX20_outs_66 : decode cX20_outs 66 = .ok (.if_icmp .le 6, 3) := dk_164 0 6 (dk_at dksX20_outs_2 20 rfl rfl)
theorem dX20_outs_69 : decode cX20_outs 69 = .ok (.bipush (-12), 2) := dk_16 244 (dk_at dksX20_outs_3 0 rfl rfl)
theorem dX20_outs_71 : decode cX20_outs 71 = .ok (.ireturn, 1) := dk_172 (dk_at dksX20_outs_3 2 rfl rfl)
theorem dX20_outs_72 : decode cX20_outs 72 = .ok (.iconst 0, 1) := dk_3 (dk_at dksX20_outs_3 3 rfl rfl)
theorem dX20_outs_73 : decode cX20_outs 73 = .ok (.istore 6, 2) := dk_54 6 (dk_at dksX20_outs_3 4 rfl rfl)
theorem dX20_outs_75 : decode cX20_outs 75 = .ok (.iload 6, 2) := dk_21 6 (dk_at dksX20_outs_3 6 rfl rfl)
theorem dX20_outs_77 : decode cX20_outs 77 = .ok (.iload 4, 2) := dk_21 4 (dk_at dksX20_outs_3 8 rfl rfl)
theorem dX20_outs_79 : decode cX20_outs 79 = .ok (.if_icmp .ge 65, 3) := dk_162 0 65 (dk_at dksX20_outs_3 10 rfl rfl)
theorem dX20_outs_82 : decode cX20_outs 82 = .ok (.aload_n 0, 1) := dk_42 (dk_at dksX20_outs_3 13 rfl rfl)
theorem dX20_outs_83 : decode cX20_outs 83 = .ok (.getfield 78, 3) := dk_180 0 78 (dk_at dksX20_outs_3 14 rfl rfl)
theorem dX20_outs_86 : decode cX20_outs 86 = .ok (.bipush 40, 2) := dk_16 40 (dk_at dksX20_outs_3 17 rfl rfl)
theorem dX20_outs_88 : decode cX20_outs 88 = .ok (.iload_n 1, 1) := dk_27 (dk_at dksX20_outs_3 19 rfl rfl)
theorem dX20_outs_89 : decode cX20_outs 89 = .ok (.imul, 1) := dk_104 (dk_at dksX20_outs_3 20 rfl rfl)
theorem dX20_outs_90 : decode cX20_outs 90 = .ok (.iload_n 2, 1) := dk_28 (dk_at dksX20_outs_3 21 rfl rfl)
theorem dX20_outs_91 : decode cX20_outs 91 = .ok (.iadd, 1) := dk_96 (dk_at dksX20_outs_3 22 rfl rfl)
theorem dX20_outs_92 : decode cX20_outs 92 = .ok (.iload 6, 2) := dk_21 6 (dk_at dksX20_outs_4 0 rfl rfl)
theorem dX20_outs_94 : decode cX20_outs 94 = .ok (.iadd, 1) := dk_96 (dk_at dksX20_outs_4 2 rfl rfl)
theorem dX20_outs_95 : decode cX20_outs 95 = .ok (.laload, 1) := dk_47 (dk_at dksX20_outs_4 3 rfl rfl)
theorem dX20_outs_96 : decode cX20_outs 96 = .ok (.lstore 7, 2) := dk_55 7 (dk_at dksX20_outs_4 4 rfl rfl)
theorem dX20_outs_98 : decode cX20_outs 98 = .ok (.aload_n 0, 1) := dk_42 (dk_at dksX20_outs_4 6 rfl rfl)
theorem dX20_outs_99 : decode cX20_outs 99 = .ok (.getfield 19, 3) := dk_180 0 19 (dk_at dksX20_outs_4 7 rfl rfl)
theorem dX20_outs_102 : decode cX20_outs 102 = .ok (.iload_n 3, 1) := dk_29 (dk_at dksX20_outs_4 10 rfl rfl)
theorem dX20_outs_103 : decode cX20_outs 103 = .ok (.iload 6, 2) := dk_21 6 (dk_at dksX20_outs_4 11 rfl rfl)
theorem dX20_outs_105 : decode cX20_outs 105 = .ok (.iadd, 1) := dk_96 (dk_at dksX20_outs_4 13 rfl rfl)
theorem dX20_outs_106 : decode cX20_outs 106 = .ok (.lload 7, 2) := dk_22 7 (dk_at dksX20_outs_4 14 rfl rfl)
theorem dX20_outs_108 : decode cX20_outs 108 = .ok (.ldc2_w 337, 3) := dk_20 1 81 (dk_at dksX20_outs_4 16 rfl rfl)
theorem dX20_outs_111 : decode cX20_outs 111 = .ok (.lcmp, 1) := dk_148 (dk_at dksX20_outs_4 19 rfl rfl)
theorem dX20_outs_112 : decode cX20_outs 112 = .ok (.ifCond .ge 8, 3) := dk_156 0 8 (dk_at dksX20_outs_4 20 rfl rfl)
theorem dX20_outs_115 : decode cX20_outs 115 = .ok (.bipush (-20), 2) := dk_16 236 (dk_at dksX20_outs_5 0 rfl rfl)
theorem dX20_outs_117 : decode cX20_outs 117 = .ok (.goto 20, 3) := dk_167 0 20 (dk_at dksX20_outs_5 2 rfl rfl)
theorem dX20_outs_120 : decode cX20_outs 120 = .ok (.lload 7, 2) := dk_22 7 (dk_at dksX20_outs_5 5 rfl rfl)
theorem dX20_outs_122 : decode cX20_outs 122 = .ok (.ldc2_w 339, 3) := dk_20 1 83 (dk_at dksX20_outs_5 7 rfl rfl)
theorem dX20_outs_125 : decode cX20_outs 125 = .ok (.lcmp, 1) := dk_148 (dk_at dksX20_outs_5 10 rfl rfl)
theorem dX20_outs_126 : decode cX20_outs 126 = .ok (.ifCond .le 8, 3) := dk_158 0 8 (dk_at dksX20_outs_5 11 rfl rfl)
theorem dX20_outs_129 : decode cX20_outs 129 = .ok (.bipush 30, 2) := dk_16 30 (dk_at dksX20_outs_5 14 rfl rfl)
theorem dX20_outs_131 : decode cX20_outs 131 = .ok (.goto 6, 3) := dk_167 0 6 (dk_at dksX20_outs_5 16 rfl rfl)
theorem dX20_outs_134 : decode cX20_outs 134 = .ok (.lload 7, 2) := dk_22 7 (dk_at dksX20_outs_5 19 rfl rfl)
theorem dX20_outs_136 : decode cX20_outs 136 = .ok (.l2i, 1) := dk_136 (dk_at dksX20_outs_5 21 rfl rfl)
theorem dX20_outs_137 : decode cX20_outs 137 = .ok (.iastore, 1) := dk_79 (dk_at dksX20_outs_5 22 rfl rfl)
theorem dX20_outs_138 : decode cX20_outs 138 = .ok (.iinc 6 1, 3) := dk_132 6 1 (dk_at dksX20_outs_6 0 rfl rfl)
theorem dX20_outs_141 : decode cX20_outs 141 = .ok (.goto (-66), 3) := dk_167 255 190 (dk_at dksX20_outs_6 3 rfl rfl)
theorem dX20_outs_144 : decode cX20_outs 144 = .ok (.iload 4, 2) := dk_21 4 (dk_at dksX20_outs_6 6 rfl rfl)
theorem dX20_outs_146 : decode cX20_outs 146 = .ok (.ireturn, 1) := dk_172 (dk_at dksX20_outs_6 8 rfl rfl)
abbrev cX20_isShelf : ByteArray := prog_38_method_70_code
def yX20_isShelf : MethodName := ⟨RX20, "isShelf", "(I)Z"⟩
def dkwX20_isShelf_0 : List UInt8 := [26, 3, 6, 184, 0, 100, 172]
abbrev dktX20_isShelf_0 : List UInt8 := dkwX20_isShelf_0 ++ []
theorem dksX20_isShelf_0 : cX20_isShelf.data.toList.drop 0 = dktX20_isShelf_0 := by decide +kernel
theorem dX20_isShelf_0 : decode cX20_isShelf 0 = .ok (.iload_n 0, 1) := dk_26 (dk_at dksX20_isShelf_0 0 rfl rfl)
theorem dX20_isShelf_1 : decode cX20_isShelf 1 = .ok (.iconst 0, 1) := dk_3 (dk_at dksX20_isShelf_0 1 rfl rfl)
theorem dX20_isShelf_2 : decode cX20_isShelf 2 = .ok (.iconst 3, 1) := dk_6 (dk_at dksX20_isShelf_0 2 rfl rfl)
theorem dX20_isShelf_3 : decode cX20_isShelf 3 = .ok (.invokestatic 100, 3) := dk_184 0 100 (dk_at dksX20_isShelf_0 3 rfl rfl)
theorem dX20_isShelf_6 : decode cX20_isShelf 6 = .ok (.ireturn, 1) := dk_172 (dk_at dksX20_isShelf_0 6 rfl rfl)
abbrev cX20_lacksSort : ByteArray := prog_38_method_73_code
def yX20_lacksSort : MethodName := ⟨RX20, "lacksSort", "(II)I"⟩
def dkwX20_lacksSort_1 : List UInt8 := [16, 243, 167, 0, 4, 3, 172]
abbrev dktX20_lacksSort_1 : List UInt8 := dkwX20_lacksSort_1 ++ []
def dkwX20_lacksSort_0 : List UInt8 := [42, 180, 0, 72, 27, 46, 156, 0, 8, 16, 245, 167, 0, 19, 42, 180, 0, 72, 27, 46, 28, 159, 0, 8]
abbrev dktX20_lacksSort_0 : List UInt8 := dkwX20_lacksSort_0 ++ dktX20_lacksSort_1
theorem dksX20_lacksSort_0 : cX20_lacksSort.data.toList.drop 0 = dktX20_lacksSort_0 := by decide +kernel
theorem dksX20_lacksSort_1 : cX20_lacksSort.data.toList.drop 24 = dktX20_lacksSort_1 := dk_seg dksX20_lacksSort_0 24 rfl rfl
theorem dX20_lacksSort_0 : decode cX20_lacksSort 0 = .ok (.aload_n 0, 1) := dk_42 (dk_at dksX20_lacksSort_0 0 rfl rfl)
theorem dX20_lacksSort_1 : decode cX20_lacksSort 1 = .ok (.getfield 72, 3) := dk_180 0 72 (dk_at dksX20_lacksSort_0 1 rfl rfl)
theorem dX20_lacksSort_4 : decode cX20_lacksSort 4 = .ok (.iload_n 1, 1) := dk_27 (dk_at dksX20_lacksSort_0 4 rfl rfl)
theorem dX20_lacksSort_5 : decode cX20_lacksSort 5 = .ok (.iaload, 1) := dk_46 (dk_at dksX20_lacksSort_0 5 rfl rfl)
theorem dX20_lacksSort_6 : decode cX20_lacksSort 6 = .ok (.ifCond .ge 8, 3) := dk_156 0 8 (dk_at dksX20_lacksSort_0 6 rfl rfl)
theorem dX20_lacksSort_9 : decode cX20_lacksSort 9 = .ok (.bipush (-11), 2) := dk_16 245 (dk_at dksX20_lacksSort_0 9 rfl rfl)
theorem dX20_lacksSort_11 : decode cX20_lacksSort 11 = .ok (.goto 19, 3) := dk_167 0 19 (dk_at dksX20_lacksSort_0 11 rfl rfl)
theorem dX20_lacksSort_14 : decode cX20_lacksSort 14 = .ok (.aload_n 0, 1) := dk_42 (dk_at dksX20_lacksSort_0 14 rfl rfl)
theorem dX20_lacksSort_15 : decode cX20_lacksSort 15 = .ok (.getfield 72, 3) := dk_180 0 72 (dk_at dksX20_lacksSort_0 15 rfl rfl)
theorem dX20_lacksSort_18 : decode cX20_lacksSort 18 = .ok (.iload_n 1, 1) := dk_27 (dk_at dksX20_lacksSort_0 18 rfl rfl)
theorem dX20_lacksSort_19 : decode cX20_lacksSort 19 = .ok (.iaload, 1) := dk_46 (dk_at dksX20_lacksSort_0 19 rfl rfl)
theorem dX20_lacksSort_20 : decode cX20_lacksSort 20 = .ok (.iload_n 2, 1) := dk_28 (dk_at dksX20_lacksSort_0 20 rfl rfl)
theorem dX20_lacksSort_21 : decode cX20_lacksSort 21 = .ok (.if_icmp .eq 8, 3) := dk_159 0 8 (dk_at dksX20_lacksSort_0 21 rfl rfl)
theorem dX20_lacksSort_24 : decode cX20_lacksSort 24 = .ok (.bipush (-13), 2) := dk_16 243 (dk_at dksX20_lacksSort_1 0 rfl rfl)
theorem dX20_lacksSort_26 : decode cX20_lacksSort 26 = .ok (.goto 4, 3) := dk_167 0 4 (dk_at dksX20_lacksSort_1 2 rfl rfl)
theorem dX20_lacksSort_29 : decode cX20_lacksSort 29 = .ok (.iconst 0, 1) := dk_3 (dk_at dksX20_lacksSort_1 5 rfl rfl)
theorem dX20_lacksSort_30 : decode cX20_lacksSort 30 = .ok (.ireturn, 1) := dk_172 (dk_at dksX20_lacksSort_1 6 rfl rfl)
abbrev cX20_sheet : ByteArray := prog_38_method_71_code
def yX20_sheet : MethodName := ⟨RX20, "sheet", "(III)I"⟩
def dkwX20_sheet_3 : List UInt8 := [42, 180, 0, 78, 16, 40, 27, 104, 21, 4, 96, 9, 80, 132, 4, 1, 167, 255, 233, 4, 172]
abbrev dktX20_sheet_3 : List UInt8 := dkwX20_sheet_3 ++ []
def dkwX20_sheet_2 : List UInt8 := [180, 0, 75, 27, 28, 156, 0, 7, 3, 167, 0, 4, 29, 79, 3, 54, 4, 21, 4, 16, 40, 162, 0, 22]
abbrev dktX20_sheet_2 : List UInt8 := dkwX20_sheet_2 ++ dktX20_sheet_3
def dkwX20_sheet_1 : List UInt8 := [164, 0, 5, 2, 172, 28, 155, 0, 10, 29, 156, 0, 6, 16, 242, 172, 42, 180, 0, 72, 27, 28, 79, 42]
abbrev dktX20_sheet_1 : List UInt8 := dkwX20_sheet_1 ++ dktX20_sheet_2
def dkwX20_sheet_0 : List UInt8 := [27, 184, 1, 75, 153, 0, 22, 28, 2, 6, 184, 0, 100, 153, 0, 13, 28, 155, 0, 11, 29, 16, 40]
abbrev dktX20_sheet_0 : List UInt8 := dkwX20_sheet_0 ++ dktX20_sheet_1
theorem dksX20_sheet_0 : cX20_sheet.data.toList.drop 0 = dktX20_sheet_0 := by decide +kernel
theorem dksX20_sheet_1 : cX20_sheet.data.toList.drop 23 = dktX20_sheet_1 := dk_seg dksX20_sheet_0 23 rfl rfl
theorem dksX20_sheet_2 : cX20_sheet.data.toList.drop 47 = dktX20_sheet_2 := dk_seg dksX20_sheet_1 24 rfl rfl
theorem dksX20_sheet_3 : cX20_sheet.data.toList.drop 71 = dktX20_sheet_3 := dk_seg dksX20_sheet_2 24 rfl rfl
theorem dX20_sheet_0 : decode cX20_sheet 0 = .ok (.iload_n 1, 1) := dk_27 (dk_at dksX20_sheet_0 0 rfl rfl)
theorem dX20_sheet_1 : decode cX20_sheet 1 = .ok (.invokestatic 331, 3) := dk_184 1 75 (dk_at dksX20_sheet_0 1 rfl rfl)
theorem dX20_sheet_4 : decode cX20_sheet 4 = .ok (.ifCond .eq 22, 3) := dk_153 0 22 (dk_at dksX20_sheet_0 4 rfl rfl)
theorem dX20_sheet_7 : decode cX20_sheet 7 = .ok (.iload_n 2, 1) := dk_28 (dk_at dksX20_sheet_0 7 rfl rfl)
theorem dX20_sheet_8 : decode cX20_sheet 8 = .ok (.iconst (-1), 1) := dk_2 (dk_at dksX20_sheet_0 8 rfl rfl)
theorem dX20_sheet_9 : decode cX20_sheet 9 = .ok (.iconst 3, 1) := dk_6 (dk_at dksX20_sheet_0 9 rfl rfl)
theorem dX20_sheet_10 : decode cX20_sheet 10 = .ok (.invokestatic 100, 3) := dk_184 0 100 (dk_at dksX20_sheet_0 10 rfl rfl)
theorem dX20_sheet_13 : decode cX20_sheet 13 = .ok (.ifCond .eq 13, 3) := dk_153 0 13 (dk_at dksX20_sheet_0 13 rfl rfl)
theorem dX20_sheet_16 : decode cX20_sheet 16 = .ok (.iload_n 2, 1) := dk_28 (dk_at dksX20_sheet_0 16 rfl rfl)
theorem dX20_sheet_17 : decode cX20_sheet 17 = .ok (.ifCond .lt 11, 3) := dk_155 0 11 (dk_at dksX20_sheet_0 17 rfl rfl)
theorem dX20_sheet_20 : decode cX20_sheet 20 = .ok (.iload_n 3, 1) := dk_29 (dk_at dksX20_sheet_0 20 rfl rfl)
theorem dX20_sheet_21 : decode cX20_sheet 21 = .ok (.bipush 40, 2) := dk_16 40 (dk_at dksX20_sheet_0 21 rfl rfl)
theorem dX20_sheet_23 : decode cX20_sheet 23 = .ok (.if_icmp .le 5, 3) := dk_164 0 5 (dk_at dksX20_sheet_1 0 rfl rfl)
theorem dX20_sheet_26 : decode cX20_sheet 26 = .ok (.iconst (-1), 1) := dk_2 (dk_at dksX20_sheet_1 3 rfl rfl)
theorem dX20_sheet_27 : decode cX20_sheet 27 = .ok (.ireturn, 1) := dk_172 (dk_at dksX20_sheet_1 4 rfl rfl)
theorem dX20_sheet_28 : decode cX20_sheet 28 = .ok (.iload_n 2, 1) := dk_28 (dk_at dksX20_sheet_1 5 rfl rfl)
theorem dX20_sheet_29 : decode cX20_sheet 29 = .ok (.ifCond .lt 10, 3) := dk_155 0 10 (dk_at dksX20_sheet_1 6 rfl rfl)
theorem dX20_sheet_32 : decode cX20_sheet 32 = .ok (.iload_n 3, 1) := dk_29 (dk_at dksX20_sheet_1 9 rfl rfl)
theorem dX20_sheet_33 : decode cX20_sheet 33 = .ok (.ifCond .ge 6, 3) := dk_156 0 6 (dk_at dksX20_sheet_1 10 rfl rfl)
theorem dX20_sheet_36 : decode cX20_sheet 36 = .ok (.bipush (-14), 2) := dk_16 242 (dk_at dksX20_sheet_1 13 rfl rfl)
theorem dX20_sheet_38 : decode cX20_sheet 38 = .ok (.ireturn, 1) := dk_172 (dk_at dksX20_sheet_1 15 rfl rfl)
theorem dX20_sheet_39 : decode cX20_sheet 39 = .ok (.aload_n 0, 1) := dk_42 (dk_at dksX20_sheet_1 16 rfl rfl)
theorem dX20_sheet_40 : decode cX20_sheet 40 = .ok (.getfield 72, 3) := dk_180 0 72 (dk_at dksX20_sheet_1 17 rfl rfl)
theorem dX20_sheet_43 : decode cX20_sheet 43 = .ok (.iload_n 1, 1) := dk_27 (dk_at dksX20_sheet_1 20 rfl rfl)
theorem dX20_sheet_44 : decode cX20_sheet 44 = .ok (.iload_n 2, 1) := dk_28 (dk_at dksX20_sheet_1 21 rfl rfl)
theorem dX20_sheet_45 : decode cX20_sheet 45 = .ok (.iastore, 1) := dk_79 (dk_at dksX20_sheet_1 22 rfl rfl)
theorem dX20_sheet_46 : decode cX20_sheet 46 = .ok (.aload_n 0, 1) := dk_42 (dk_at dksX20_sheet_1 23 rfl rfl)
theorem dX20_sheet_47 : decode cX20_sheet 47 = .ok (.getfield 75, 3) := dk_180 0 75 (dk_at dksX20_sheet_2 0 rfl rfl)
theorem dX20_sheet_50 : decode cX20_sheet 50 = .ok (.iload_n 1, 1) := dk_27 (dk_at dksX20_sheet_2 3 rfl rfl)
theorem dX20_sheet_51 : decode cX20_sheet 51 = .ok (.iload_n 2, 1) := dk_28 (dk_at dksX20_sheet_2 4 rfl rfl)
theorem dX20_sheet_52 : decode cX20_sheet 52 = .ok (.ifCond .ge 7, 3) := dk_156 0 7 (dk_at dksX20_sheet_2 5 rfl rfl)
theorem dX20_sheet_55 : decode cX20_sheet 55 = .ok (.iconst 0, 1) := dk_3 (dk_at dksX20_sheet_2 8 rfl rfl)
theorem dX20_sheet_56 : decode cX20_sheet 56 = .ok (.goto 4, 3) := dk_167 0 4 (dk_at dksX20_sheet_2 9 rfl rfl)
theorem dX20_sheet_59 : decode cX20_sheet 59 = .ok (.iload_n 3, 1) := dk_29 (dk_at dksX20_sheet_2 12 rfl rfl)
theorem dX20_sheet_60 : decode cX20_sheet 60 = .ok (.iastore, 1) := dk_79 (dk_at dksX20_sheet_2 13 rfl rfl)
theorem dX20_sheet_61 : decode cX20_sheet 61 = .ok (.iconst 0, 1) := dk_3 (dk_at dksX20_sheet_2 14 rfl rfl)
theorem dX20_sheet_62 : decode cX20_sheet 62 = .ok (.istore 4, 2) := dk_54 4 (dk_at dksX20_sheet_2 15 rfl rfl)
theorem dX20_sheet_64 : decode cX20_sheet 64 = .ok (.iload 4, 2) := dk_21 4 (dk_at dksX20_sheet_2 17 rfl rfl)
theorem dX20_sheet_66 : decode cX20_sheet 66 = .ok (.bipush 40, 2) := dk_16 40 (dk_at dksX20_sheet_2 19 rfl rfl)
theorem dX20_sheet_68 : decode cX20_sheet 68 = .ok (.if_icmp .ge 22, 3) := dk_162 0 22 (dk_at dksX20_sheet_2 21 rfl rfl)
theorem dX20_sheet_71 : decode cX20_sheet 71 = .ok (.aload_n 0, 1) := dk_42 (dk_at dksX20_sheet_3 0 rfl rfl)
theorem dX20_sheet_72 : decode cX20_sheet 72 = .ok (.getfield 78, 3) := dk_180 0 78 (dk_at dksX20_sheet_3 1 rfl rfl)
theorem dX20_sheet_75 : decode cX20_sheet 75 = .ok (.bipush 40, 2) := dk_16 40 (dk_at dksX20_sheet_3 4 rfl rfl)
theorem dX20_sheet_77 : decode cX20_sheet 77 = .ok (.iload_n 1, 1) := dk_27 (dk_at dksX20_sheet_3 6 rfl rfl)
theorem dX20_sheet_78 : decode cX20_sheet 78 = .ok (.imul, 1) := dk_104 (dk_at dksX20_sheet_3 7 rfl rfl)
theorem dX20_sheet_79 : decode cX20_sheet 79 = .ok (.iload 4, 2) := dk_21 4 (dk_at dksX20_sheet_3 8 rfl rfl)
theorem dX20_sheet_81 : decode cX20_sheet 81 = .ok (.iadd, 1) := dk_96 (dk_at dksX20_sheet_3 10 rfl rfl)
theorem dX20_sheet_82 : decode cX20_sheet 82 = .ok (.lconst 0, 1) := dk_9 (dk_at dksX20_sheet_3 11 rfl rfl)
theorem dX20_sheet_83 : decode cX20_sheet 83 = .ok (.lastore, 1) := dk_80 (dk_at dksX20_sheet_3 12 rfl rfl)
theorem dX20_sheet_84 : decode cX20_sheet 84 = .ok (.iinc 4 1, 3) := dk_132 4 1 (dk_at dksX20_sheet_3 13 rfl rfl)
theorem dX20_sheet_87 : decode cX20_sheet 87 = .ok (.goto (-23), 3) := dk_167 255 233 (dk_at dksX20_sheet_3 16 rfl rfl)
theorem dX20_sheet_90 : decode cX20_sheet 90 = .ok (.iconst 1, 1) := dk_4 (dk_at dksX20_sheet_3 19 rfl rfl)
theorem dX20_sheet_91 : decode cX20_sheet 91 = .ok (.ireturn, 1) := dk_172 (dk_at dksX20_sheet_3 20 rfl rfl)
abbrev cX20_put : ByteArray := prog_38_method_72_code
def yX20_put : MethodName := ⟨RX20, "put", "(III)I"⟩
def dkwX20_put_3 : List UInt8 := [160, 0, 9, 29, 147, 133, 167, 0, 5, 29, 133, 80, 4, 172]
abbrev dktX20_put_3 : List UInt8 := dkwX20_put_3 ++ []
def dkwX20_put_2 : List UInt8 := [28, 96, 42, 180, 0, 72, 27, 46, 154, 0, 9, 29, 145, 133, 167, 0, 21, 42, 180, 0, 72, 27, 46, 4]
abbrev dktX20_put_2 : List UInt8 := dkwX20_put_2 ++ dktX20_put_3
def dkwX20_put_1 : List UInt8 := [180, 0, 75, 27, 46, 4, 100, 184, 0, 100, 154, 0, 6, 16, 244, 172, 42, 180, 0, 78, 16, 40, 27, 104]
abbrev dktX20_put_1 : List UInt8 := dkwX20_put_1 ++ dktX20_put_2
def dkwX20_put_0 : List UInt8 := [27, 184, 1, 75, 154, 0, 5, 2, 172, 42, 180, 0, 72, 27, 46, 156, 0, 6, 16, 245, 172, 28, 3, 42]
abbrev dktX20_put_0 : List UInt8 := dkwX20_put_0 ++ dktX20_put_1
theorem dksX20_put_0 : cX20_put.data.toList.drop 0 = dktX20_put_0 := by decide +kernel
theorem dksX20_put_1 : cX20_put.data.toList.drop 24 = dktX20_put_1 := dk_seg dksX20_put_0 24 rfl rfl
theorem dksX20_put_2 : cX20_put.data.toList.drop 48 = dktX20_put_2 := dk_seg dksX20_put_1 24 rfl rfl
theorem dksX20_put_3 : cX20_put.data.toList.drop 72 = dktX20_put_3 := dk_seg dksX20_put_2 24 rfl rfl
theorem dX20_put_0 : decode cX20_put 0 = .ok (.iload_n 1, 1) := dk_27 (dk_at dksX20_put_0 0 rfl rfl)
theorem dX20_put_1 : decode cX20_put 1 = .ok (.invokestatic 331, 3) := dk_184 1 75 (dk_at dksX20_put_0 1 rfl rfl)
theorem dX20_put_4 : decode cX20_put 4 = .ok (.ifCond .ne 5, 3) := dk_154 0 5 (dk_at dksX20_put_0 4 rfl rfl)
theorem dX20_put_7 : decode cX20_put 7 = .ok (.iconst (-1), 1) := dk_2 (dk_at dksX20_put_0 7 rfl rfl)
theorem dX20_put_8 : decode cX20_put 8 = .ok (.ireturn, 1) := dk_172 (dk_at dksX20_put_0 8 rfl rfl)
theorem dX20_put_9 : decode cX20_put 9 = .ok (.aload_n 0, 1) := dk_42 (dk_at dksX20_put_0 9 rfl rfl)
theorem dX20_put_10 : decode cX20_put 10 = .ok (.getfield 72, 3) := dk_180 0 72 (dk_at dksX20_put_0 10 rfl rfl)
theorem dX20_put_13 : decode cX20_put 13 = .ok (.iload_n 1, 1) := dk_27 (dk_at dksX20_put_0 13 rfl rfl)
theorem dX20_put_14 : decode cX20_put 14 = .ok (.iaload, 1) := dk_46 (dk_at dksX20_put_0 14 rfl rfl)
theorem dX20_put_15 : decode cX20_put 15 = .ok (.ifCond .ge 6, 3) := dk_156 0 6 (dk_at dksX20_put_0 15 rfl rfl)
theorem dX20_put_18 : decode cX20_put 18 = .ok (.bipush (-11), 2) := dk_16 245 (dk_at dksX20_put_0 18 rfl rfl)
theorem dX20_put_20 : decode cX20_put 20 = .ok (.ireturn, 1) := dk_172 (dk_at dksX20_put_0 20 rfl rfl)
theorem dX20_put_21 : decode cX20_put 21 = .ok (.iload_n 2, 1) := dk_28 (dk_at dksX20_put_0 21 rfl rfl)
theorem dX20_put_22 : decode cX20_put 22 = .ok (.iconst 0, 1) := dk_3 (dk_at dksX20_put_0 22 rfl rfl)
theorem dX20_put_23 : decode cX20_put 23 = .ok (.aload_n 0, 1) := dk_42 (dk_at dksX20_put_0 23 rfl rfl)
theorem dX20_put_24 : decode cX20_put 24 = .ok (.getfield 75, 3) := dk_180 0 75 (dk_at dksX20_put_1 0 rfl rfl)
theorem dX20_put_27 : decode cX20_put 27 = .ok (.iload_n 1, 1) := dk_27 (dk_at dksX20_put_1 3 rfl rfl)
theorem dX20_put_28 : decode cX20_put 28 = .ok (.iaload, 1) := dk_46 (dk_at dksX20_put_1 4 rfl rfl)
theorem dX20_put_29 : decode cX20_put 29 = .ok (.iconst 1, 1) := dk_4 (dk_at dksX20_put_1 5 rfl rfl)
theorem dX20_put_30 : decode cX20_put 30 = .ok (.isub, 1) := dk_100 (dk_at dksX20_put_1 6 rfl rfl)
theorem dX20_put_31 : decode cX20_put 31 = .ok (.invokestatic 100, 3) := dk_184 0 100 (dk_at dksX20_put_1 7 rfl rfl)
theorem dX20_put_34 : decode cX20_put 34 = .ok (.ifCond .ne 6, 3) := dk_154 0 6 (dk_at dksX20_put_1 10 rfl rfl)
theorem dX20_put_37 : decode cX20_put 37 = .ok (.bipush (-12), 2) := dk_16 244 (dk_at dksX20_put_1 13 rfl rfl)
theorem dX20_put_39 : decode cX20_put 39 = .ok (.ireturn, 1) := dk_172 (dk_at dksX20_put_1 15 rfl rfl)
theorem dX20_put_40 : decode cX20_put 40 = .ok (.aload_n 0, 1) := dk_42 (dk_at dksX20_put_1 16 rfl rfl)
theorem dX20_put_41 : decode cX20_put 41 = .ok (.getfield 78, 3) := dk_180 0 78 (dk_at dksX20_put_1 17 rfl rfl)
theorem dX20_put_44 : decode cX20_put 44 = .ok (.bipush 40, 2) := dk_16 40 (dk_at dksX20_put_1 20 rfl rfl)
theorem dX20_put_46 : decode cX20_put 46 = .ok (.iload_n 1, 1) := dk_27 (dk_at dksX20_put_1 22 rfl rfl)
theorem dX20_put_47 : decode cX20_put 47 = .ok (.imul, 1) := dk_104 (dk_at dksX20_put_1 23 rfl rfl)
theorem dX20_put_48 : decode cX20_put 48 = .ok (.iload_n 2, 1) := dk_28 (dk_at dksX20_put_2 0 rfl rfl)
theorem dX20_put_49 : decode cX20_put 49 = .ok (.iadd, 1) := dk_96 (dk_at dksX20_put_2 1 rfl rfl)
theorem dX20_put_50 : decode cX20_put 50 = .ok (.aload_n 0, 1) := dk_42 (dk_at dksX20_put_2 2 rfl rfl)
theorem dX20_put_51 : decode cX20_put 51 = .ok (.getfield 72, 3) := dk_180 0 72 (dk_at dksX20_put_2 3 rfl rfl)
theorem dX20_put_54 : decode cX20_put 54 = .ok (.iload_n 1, 1) := dk_27 (dk_at dksX20_put_2 6 rfl rfl)
theorem dX20_put_55 : decode cX20_put 55 = .ok (.iaload, 1) := dk_46 (dk_at dksX20_put_2 7 rfl rfl)
theorem dX20_put_56 : decode cX20_put 56 = .ok (.ifCond .ne 9, 3) := dk_154 0 9 (dk_at dksX20_put_2 8 rfl rfl)
theorem dX20_put_59 : decode cX20_put 59 = .ok (.iload_n 3, 1) := dk_29 (dk_at dksX20_put_2 11 rfl rfl)
theorem dX20_put_60 : decode cX20_put 60 = .ok (.i2b, 1) := dk_145 (dk_at dksX20_put_2 12 rfl rfl)
theorem dX20_put_61 : decode cX20_put 61 = .ok (.i2l, 1) := dk_133 (dk_at dksX20_put_2 13 rfl rfl)
theorem dX20_put_62 : decode cX20_put 62 = .ok (.goto 21, 3) := dk_167 0 21 (dk_at dksX20_put_2 14 rfl rfl)
theorem dX20_put_65 : decode cX20_put 65 = .ok (.aload_n 0, 1) := dk_42 (dk_at dksX20_put_2 17 rfl rfl)
theorem dX20_put_66 : decode cX20_put 66 = .ok (.getfield 72, 3) := dk_180 0 72 (dk_at dksX20_put_2 18 rfl rfl)
theorem dX20_put_69 : decode cX20_put 69 = .ok (.iload_n 1, 1) := dk_27 (dk_at dksX20_put_2 21 rfl rfl)
theorem dX20_put_70 : decode cX20_put 70 = .ok (.iaload, 1) := dk_46 (dk_at dksX20_put_2 22 rfl rfl)
theorem dX20_put_71 : decode cX20_put 71 = .ok (.iconst 1, 1) := dk_4 (dk_at dksX20_put_2 23 rfl rfl)
theorem dX20_put_72 : decode cX20_put 72 = .ok (.if_icmp .ne 9, 3) := dk_160 0 9 (dk_at dksX20_put_3 0 rfl rfl)
theorem dX20_put_75 : decode cX20_put 75 = .ok (.iload_n 3, 1) := dk_29 (dk_at dksX20_put_3 3 rfl rfl)
theorem dX20_put_76 : decode cX20_put 76 = .ok (.i2s, 1) := dk_147 (dk_at dksX20_put_3 4 rfl rfl)
theorem dX20_put_77 : decode cX20_put 77 = .ok (.i2l, 1) := dk_133 (dk_at dksX20_put_3 5 rfl rfl)
theorem dX20_put_78 : decode cX20_put 78 = .ok (.goto 5, 3) := dk_167 0 5 (dk_at dksX20_put_3 6 rfl rfl)
theorem dX20_put_81 : decode cX20_put 81 = .ok (.iload_n 3, 1) := dk_29 (dk_at dksX20_put_3 9 rfl rfl)
theorem dX20_put_82 : decode cX20_put 82 = .ok (.i2l, 1) := dk_133 (dk_at dksX20_put_3 10 rfl rfl)
theorem dX20_put_83 : decode cX20_put 83 = .ok (.lastore, 1) := dk_80 (dk_at dksX20_put_3 11 rfl rfl)
theorem dX20_put_84 : decode cX20_put 84 = .ok (.iconst 1, 1) := dk_4 (dk_at dksX20_put_3 12 rfl rfl)
theorem dX20_put_85 : decode cX20_put 85 = .ok (.ireturn, 1) := dk_172 (dk_at dksX20_put_3 13 rfl rfl)
abbrev cX20_item : ByteArray := prog_38_method_74_code
def yX20_item : MethodName := ⟨RX20, "item", "(III)I"⟩
def dkwX20_item_2 : List UInt8 := [153, 0, 18, 42, 180, 0, 78, 16, 40, 27, 104, 29, 96, 47, 136, 167, 0, 5, 16, 244, 172]
abbrev dktX20_item_2 : List UInt8 := dkwX20_item_2 ++ []
def dkwX20_item_1 : List UInt8 := [54, 4, 21, 4, 153, 0, 6, 21, 4, 172, 29, 3, 42, 180, 0, 75, 27, 46, 4, 100, 184, 0, 100]
abbrev dktX20_item_1 : List UInt8 := dkwX20_item_1 ++ dktX20_item_2
def dkwX20_item_0 : List UInt8 := [27, 184, 1, 75, 153, 0, 12, 28, 3, 6, 184, 0, 100, 154, 0, 5, 2, 172, 42, 27, 28, 182, 1, 78]
abbrev dktX20_item_0 : List UInt8 := dkwX20_item_0 ++ dktX20_item_1
theorem dksX20_item_0 : cX20_item.data.toList.drop 0 = dktX20_item_0 := by decide +kernel
theorem dksX20_item_1 : cX20_item.data.toList.drop 24 = dktX20_item_1 := dk_seg dksX20_item_0 24 rfl rfl
theorem dksX20_item_2 : cX20_item.data.toList.drop 47 = dktX20_item_2 := dk_seg dksX20_item_1 23 rfl rfl
theorem dX20_item_0 : decode cX20_item 0 = .ok (.iload_n 1, 1) := dk_27 (dk_at dksX20_item_0 0 rfl rfl)
theorem dX20_item_1 : decode cX20_item 1 = .ok (.invokestatic 331, 3) := dk_184 1 75 (dk_at dksX20_item_0 1 rfl rfl)
theorem dX20_item_4 : decode cX20_item 4 = .ok (.ifCond .eq 12, 3) := dk_153 0 12 (dk_at dksX20_item_0 4 rfl rfl)
theorem dX20_item_7 : decode cX20_item 7 = .ok (.iload_n 2, 1) := dk_28 (dk_at dksX20_item_0 7 rfl rfl)
theorem dX20_item_8 : decode cX20_item 8 = .ok (.iconst 0, 1) := dk_3 (dk_at dksX20_item_0 8 rfl rfl)
theorem dX20_item_9 : decode cX20_item 9 = .ok (.iconst 3, 1) := dk_6 (dk_at dksX20_item_0 9 rfl rfl)
theorem dX20_item_10 : decode cX20_item 10 = .ok (.invokestatic 100, 3) := dk_184 0 100 (dk_at dksX20_item_0 10 rfl rfl)
theorem dX20_item_13 : decode cX20_item 13 = .ok (.ifCond .ne 5, 3) := dk_154 0 5 (dk_at dksX20_item_0 13 rfl rfl)
theorem dX20_item_16 : decode cX20_item 16 = .ok (.iconst (-1), 1) := dk_2 (dk_at dksX20_item_0 16 rfl rfl)
theorem dX20_item_17 : decode cX20_item 17 = .ok (.ireturn, 1) := dk_172 (dk_at dksX20_item_0 17 rfl rfl)
theorem dX20_item_18 : decode cX20_item 18 = .ok (.aload_n 0, 1) := dk_42 (dk_at dksX20_item_0 18 rfl rfl)
theorem dX20_item_19 : decode cX20_item 19 = .ok (.iload_n 1, 1) := dk_27 (dk_at dksX20_item_0 19 rfl rfl)
theorem dX20_item_20 : decode cX20_item 20 = .ok (.iload_n 2, 1) := dk_28 (dk_at dksX20_item_0 20 rfl rfl)
theorem dX20_item_21 : decode cX20_item 21 = .ok (.invokevirtual 334, 3) := dk_182 1 78 (dk_at dksX20_item_0 21 rfl rfl)
theorem dX20_item_24 : decode cX20_item 24 = .ok (.istore 4, 2) := dk_54 4 (dk_at dksX20_item_1 0 rfl rfl)
theorem dX20_item_26 : decode cX20_item 26 = .ok (.iload 4, 2) := dk_21 4 (dk_at dksX20_item_1 2 rfl rfl)
theorem dX20_item_28 : decode cX20_item 28 = .ok (.ifCond .eq 6, 3) := dk_153 0 6 (dk_at dksX20_item_1 4 rfl rfl)
theorem dX20_item_31 : decode cX20_item 31 = .ok (.iload 4, 2) := dk_21 4 (dk_at dksX20_item_1 7 rfl rfl)
theorem dX20_item_33 : decode cX20_item 33 = .ok (.ireturn, 1) := dk_172 (dk_at dksX20_item_1 9 rfl rfl)
theorem dX20_item_34 : decode cX20_item 34 = .ok (.iload_n 3, 1) := dk_29 (dk_at dksX20_item_1 10 rfl rfl)
theorem dX20_item_35 : decode cX20_item 35 = .ok (.iconst 0, 1) := dk_3 (dk_at dksX20_item_1 11 rfl rfl)
theorem dX20_item_36 : decode cX20_item 36 = .ok (.aload_n 0, 1) := dk_42 (dk_at dksX20_item_1 12 rfl rfl)
theorem dX20_item_37 : decode cX20_item 37 = .ok (.getfield 75, 3) := dk_180 0 75 (dk_at dksX20_item_1 13 rfl rfl)
theorem dX20_item_40 : decode cX20_item 40 = .ok (.iload_n 1, 1) := dk_27 (dk_at dksX20_item_1 16 rfl rfl)
theorem dX20_item_41 : decode cX20_item 41 = .ok (.iaload, 1) := dk_46 (dk_at dksX20_item_1 17 rfl rfl)
theorem dX20_item_42 : decode cX20_item 42 = .ok (.iconst 1, 1) := dk_4 (dk_at dksX20_item_1 18 rfl rfl)
theorem dX20_item_43 : decode cX20_item 43 = .ok (.isub, 1) := dk_100 (dk_at dksX20_item_1 19 rfl rfl)
theorem dX20_item_44 : decode cX20_item 44 = .ok (.invokestatic 100, 3) := dk_184 0 100 (dk_at dksX20_item_1 20 rfl rfl)
theorem dX20_item_47 : decode cX20_item 47 = .ok (.ifCond .eq 18, 3) := dk_153 0 18 (dk_at dksX20_item_2 0 rfl rfl)
theorem dX20_item_50 : decode cX20_item 50 = .ok (.aload_n 0, 1) := dk_42 (dk_at dksX20_item_2 3 rfl rfl)
theorem dX20_item_51 : decode cX20_item 51 = .ok (.getfield 78, 3) := dk_180 0 78 (dk_at dksX20_item_2 4 rfl rfl)
theorem dX20_item_54 : decode cX20_item 54 = .ok (.bipush 40, 2) := dk_16 40 (dk_at dksX20_item_2 7 rfl rfl)
theorem dX20_item_56 : decode cX20_item 56 = .ok (.iload_n 1, 1) := dk_27 (dk_at dksX20_item_2 9 rfl rfl)
theorem dX20_item_57 : decode cX20_item 57 = .ok (.imul, 1) := dk_104 (dk_at dksX20_item_2 10 rfl rfl)
theorem dX20_item_58 : decode cX20_item 58 = .ok (.iload_n 3, 1) := dk_29 (dk_at dksX20_item_2 11 rfl rfl)
theorem dX20_item_59 : decode cX20_item 59 = .ok (.iadd, 1) := dk_96 (dk_at dksX20_item_2 12 rfl rfl)
theorem dX20_item_60 : decode cX20_item 60 = .ok (.laload, 1) := dk_47 (dk_at dksX20_item_2 13 rfl rfl)
theorem dX20_item_61 : decode cX20_item 61 = .ok (.l2i, 1) := dk_136 (dk_at dksX20_item_2 14 rfl rfl)
theorem dX20_item_62 : decode cX20_item 62 = .ok (.goto 5, 3) := dk_167 0 5 (dk_at dksX20_item_2 15 rfl rfl)
theorem dX20_item_65 : decode cX20_item 65 = .ok (.bipush (-12), 2) := dk_16 244 (dk_at dksX20_item_2 18 rfl rfl)
theorem dX20_item_67 : decode cX20_item 67 = .ok (.ireturn, 1) := dk_172 (dk_at dksX20_item_2 20 rfl rfl)
abbrev cX20_shelf : ByteArray := prog_38_method_76_code
def yX20_shelf : MethodName := ⟨RX20, "shelf", "(III)I"⟩
def dkwX20_shelf_3 : List UInt8 := [180, 0, 88, 27, 28, 4, 160, 0, 12, 42, 180, 0, 75, 29, 46, 167, 0, 4, 3, 79, 4, 172]
abbrev dktX20_shelf_3 : List UInt8 := dkwX20_shelf_3 ++ []
def dkwX20_shelf_2 : List UInt8 := [42, 180, 0, 85, 27, 28, 4, 160, 0, 12, 42, 180, 0, 72, 29, 46, 167, 0, 4, 29, 79, 42]
abbrev dktX20_shelf_2 : List UInt8 := dkwX20_shelf_2 ++ dktX20_shelf_3
def dkwX20_shelf_1 : List UInt8 := [5, 159, 0, 17, 28, 4, 160, 0, 16, 42, 180, 0, 72, 29, 46, 156, 0, 7, 2, 167, 0, 4, 28, 79]
abbrev dktX20_shelf_1 : List UInt8 := dkwX20_shelf_1 ++ dktX20_shelf_2
def dkwX20_shelf_0 : List UInt8 := [27, 184, 1, 75, 153, 0, 12, 42, 28, 29, 182, 1, 85, 154, 0, 5, 2, 172, 42, 180, 0, 82, 27, 28]
abbrev dktX20_shelf_0 : List UInt8 := dkwX20_shelf_0 ++ dktX20_shelf_1
theorem dksX20_shelf_0 : cX20_shelf.data.toList.drop 0 = dktX20_shelf_0 := by decide +kernel
theorem dksX20_shelf_1 : cX20_shelf.data.toList.drop 24 = dktX20_shelf_1 := dk_seg dksX20_shelf_0 24 rfl rfl
theorem dksX20_shelf_2 : cX20_shelf.data.toList.drop 48 = dktX20_shelf_2 := dk_seg dksX20_shelf_1 24 rfl rfl
theorem dksX20_shelf_3 : cX20_shelf.data.toList.drop 70 = dktX20_shelf_3 := dk_seg dksX20_shelf_2 22 rfl rfl
theorem dX20_shelf_0 : decode cX20_shelf 0 = .ok (.iload_n 1, 1) := dk_27 (dk_at dksX20_shelf_0 0 rfl rfl)
theorem dX20_shelf_1 : decode cX20_shelf 1 = .ok (.invokestatic 331, 3) := dk_184 1 75 (dk_at dksX20_shelf_0 1 rfl rfl)
theorem dX20_shelf_4 : decode cX20_shelf 4 = .ok (.ifCond .eq 12, 3) := dk_153 0 12 (dk_at dksX20_shelf_0 4 rfl rfl)
theorem dX20_shelf_7 : decode cX20_shelf 7 = .ok (.aload_n 0, 1) := dk_42 (dk_at dksX20_shelf_0 7 rfl rfl)
theorem dX20_shelf_8 : decode cX20_shelf 8 = .ok (.iload_n 2, 1) := dk_28 (dk_at dksX20_shelf_0 8 rfl rfl)
theorem dX20_shelf_9 : decode cX20_shelf 9 = .ok (.iload_n 3, 1) := dk_29 (dk_at dksX20_shelf_0 9 rfl rfl)
theorem dX20_shelf_10 : decode cX20_shelf 10 = .ok (.invokevirtual 341, 3) := dk_182 1 85 (dk_at dksX20_shelf_0 10 rfl rfl)
theorem dX20_shelf_13 : decode cX20_shelf 13 = .ok (.ifCond .ne 5, 3) := dk_154 0 5 (dk_at dksX20_shelf_0 13 rfl rfl)
theorem dX20_shelf_16 : decode cX20_shelf 16 = .ok (.iconst (-1), 1) := dk_2 (dk_at dksX20_shelf_0 16 rfl rfl)
theorem dX20_shelf_17 : decode cX20_shelf 17 = .ok (.ireturn, 1) := dk_172 (dk_at dksX20_shelf_0 17 rfl rfl)
theorem dX20_shelf_18 : decode cX20_shelf 18 = .ok (.aload_n 0, 1) := dk_42 (dk_at dksX20_shelf_0 18 rfl rfl)
theorem dX20_shelf_19 : decode cX20_shelf 19 = .ok (.getfield 82, 3) := dk_180 0 82 (dk_at dksX20_shelf_0 19 rfl rfl)
theorem dX20_shelf_22 : decode cX20_shelf 22 = .ok (.iload_n 1, 1) := dk_27 (dk_at dksX20_shelf_0 22 rfl rfl)
theorem dX20_shelf_23 : decode cX20_shelf 23 = .ok (.iload_n 2, 1) := dk_28 (dk_at dksX20_shelf_0 23 rfl rfl)
theorem dX20_shelf_24 : decode cX20_shelf 24 = .ok (.iconst 2, 1) := dk_5 (dk_at dksX20_shelf_1 0 rfl rfl)
theorem dX20_shelf_25 : decode cX20_shelf 25 = .ok (.if_icmp .eq 17, 3) := dk_159 0 17 (dk_at dksX20_shelf_1 1 rfl rfl)
theorem dX20_shelf_28 : decode cX20_shelf 28 = .ok (.iload_n 2, 1) := dk_28 (dk_at dksX20_shelf_1 4 rfl rfl)
theorem dX20_shelf_29 : decode cX20_shelf 29 = .ok (.iconst 1, 1) := dk_4 (dk_at dksX20_shelf_1 5 rfl rfl)
theorem dX20_shelf_30 : decode cX20_shelf 30 = .ok (.if_icmp .ne 16, 3) := dk_160 0 16 (dk_at dksX20_shelf_1 6 rfl rfl)
theorem dX20_shelf_33 : decode cX20_shelf 33 = .ok (.aload_n 0, 1) := dk_42 (dk_at dksX20_shelf_1 9 rfl rfl)
theorem dX20_shelf_34 : decode cX20_shelf 34 = .ok (.getfield 72, 3) := dk_180 0 72 (dk_at dksX20_shelf_1 10 rfl rfl)
theorem dX20_shelf_37 : decode cX20_shelf 37 = .ok (.iload_n 3, 1) := dk_29 (dk_at dksX20_shelf_1 13 rfl rfl)
theorem dX20_shelf_38 : decode cX20_shelf 38 = .ok (.iaload, 1) := dk_46 (dk_at dksX20_shelf_1 14 rfl rfl)
theorem dX20_shelf_39 : decode cX20_shelf 39 = .ok (.ifCond .ge 7, 3) := dk_156 0 7 (dk_at dksX20_shelf_1 15 rfl rfl)
theorem dX20_shelf_42 : decode cX20_shelf 42 = .ok (.iconst (-1), 1) := dk_2 (dk_at dksX20_shelf_1 18 rfl rfl)
theorem dX20_shelf_43 : decode cX20_shelf 43 = .ok (.goto 4, 3) := dk_167 0 4 (dk_at dksX20_shelf_1 19 rfl rfl)
theorem dX20_shelf_46 : decode cX20_shelf 46 = .ok (.iload_n 2, 1) := dk_28 (dk_at dksX20_shelf_1 22 rfl rfl)
theorem dX20_shelf_47 : decode cX20_shelf 47 = .ok (.iastore, 1) := dk_79 (dk_at dksX20_shelf_1 23 rfl rfl)
theorem dX20_shelf_48 : decode cX20_shelf 48 = .ok (.aload_n 0, 1) := dk_42 (dk_at dksX20_shelf_2 0 rfl rfl)
theorem dX20_shelf_49 : decode cX20_shelf 49 = .ok (.getfield 85, 3) := dk_180 0 85 (dk_at dksX20_shelf_2 1 rfl rfl)
theorem dX20_shelf_52 : decode cX20_shelf 52 = .ok (.iload_n 1, 1) := dk_27 (dk_at dksX20_shelf_2 4 rfl rfl)
theorem dX20_shelf_53 : decode cX20_shelf 53 = .ok (.iload_n 2, 1) := dk_28 (dk_at dksX20_shelf_2 5 rfl rfl)
theorem dX20_shelf_54 : decode cX20_shelf 54 = .ok (.iconst 1, 1) := dk_4 (dk_at dksX20_shelf_2 6 rfl rfl)
theorem dX20_shelf_55 : decode cX20_shelf 55 = .ok (.if_icmp .ne 12, 3) := dk_160 0 12 (dk_at dksX20_shelf_2 7 rfl rfl)
theorem dX20_shelf_58 : decode cX20_shelf 58 = .ok (.aload_n 0, 1) := dk_42 (dk_at dksX20_shelf_2 10 rfl rfl)
theorem dX20_shelf_59 : decode cX20_shelf 59 = .ok (.getfield 72, 3) := dk_180 0 72 (dk_at dksX20_shelf_2 11 rfl rfl)
theorem dX20_shelf_62 : decode cX20_shelf 62 = .ok (.iload_n 3, 1) := dk_29 (dk_at dksX20_shelf_2 14 rfl rfl)
theorem dX20_shelf_63 : decode cX20_shelf 63 = .ok (.iaload, 1) := dk_46 (dk_at dksX20_shelf_2 15 rfl rfl)
theorem dX20_shelf_64 : decode cX20_shelf 64 = .ok (.goto 4, 3) := dk_167 0 4 (dk_at dksX20_shelf_2 16 rfl rfl)
theorem dX20_shelf_67 : decode cX20_shelf 67 = .ok (.iload_n 3, 1) := dk_29 (dk_at dksX20_shelf_2 19 rfl rfl)
theorem dX20_shelf_68 : decode cX20_shelf 68 = .ok (.iastore, 1) := dk_79 (dk_at dksX20_shelf_2 20 rfl rfl)
theorem dX20_shelf_69 : decode cX20_shelf 69 = .ok (.aload_n 0, 1) := dk_42 (dk_at dksX20_shelf_2 21 rfl rfl)
theorem dX20_shelf_70 : decode cX20_shelf 70 = .ok (.getfield 88, 3) := dk_180 0 88 (dk_at dksX20_shelf_3 0 rfl rfl)
theorem dX20_shelf_73 : decode cX20_shelf 73 = .ok (.iload_n 1, 1) := dk_27 (dk_at dksX20_shelf_3 3 rfl rfl)
theorem dX20_shelf_74 : decode cX20_shelf 74 = .ok (.iload_n 2, 1) := dk_28 (dk_at dksX20_shelf_3 4 rfl rfl)
theorem dX20_shelf_75 : decode cX20_shelf 75 = .ok (.iconst 1, 1) := dk_4 (dk_at dksX20_shelf_3 5 rfl rfl)
theorem dX20_shelf_76 : decode cX20_shelf 76 = .ok (.if_icmp .ne 12, 3) := dk_160 0 12 (dk_at dksX20_shelf_3 6 rfl rfl)
theorem dX20_shelf_79 : decode cX20_shelf 79 = .ok (.aload_n 0, 1) := dk_42 (dk_at dksX20_shelf_3 9 rfl rfl)
theorem dX20_shelf_80 : decode cX20_shelf 80 = .ok (.getfield 75, 3) := dk_180 0 75 (dk_at dksX20_shelf_3 10 rfl rfl)
theorem dX20_shelf_83 : decode cX20_shelf 83 = .ok (.iload_n 3, 1) := dk_29 (dk_at dksX20_shelf_3 13 rfl rfl)
theorem dX20_shelf_84 : decode cX20_shelf 84 = .ok (.iaload, 1) := dk_46 (dk_at dksX20_shelf_3 14 rfl rfl)
theorem dX20_shelf_85 : decode cX20_shelf 85 = .ok (.goto 4, 3) := dk_167 0 4 (dk_at dksX20_shelf_3 15 rfl rfl)
theorem dX20_shelf_88 : decode cX20_shelf 88 = .ok (.iconst 0, 1) := dk_3 (dk_at dksX20_shelf_3 18 rfl rfl)
theorem dX20_shelf_89 : decode cX20_shelf 89 = .ok (.iastore, 1) := dk_79 (dk_at dksX20_shelf_3 19 rfl rfl)
theorem dX20_shelf_90 : decode cX20_shelf 90 = .ok (.iconst 1, 1) := dk_4 (dk_at dksX20_shelf_3 20 rfl rfl)
theorem dX20_shelf_91 : decode cX20_shelf 91 = .ok (.ireturn, 1) := dk_172 (dk_at dksX20_shelf_3 21 rfl rfl)
abbrev cX20_isHeld : ByteArray := prog_38_method_75_code
def yX20_isHeld : MethodName := ⟨RX20, "isHeld", "(II)Z"⟩
def dkwX20_isHeld_1 : List UInt8 := [5, 160, 0, 7, 4, 167, 0, 4, 3, 172]
abbrev dktX20_isHeld_1 : List UInt8 := dkwX20_isHeld_1 ++ []
def dkwX20_isHeld_0 : List UInt8 := [27, 154, 0, 10, 28, 184, 0, 238, 167, 0, 25, 27, 4, 160, 0, 10, 28, 184, 1, 75, 167, 0, 13, 27]
abbrev dktX20_isHeld_0 : List UInt8 := dkwX20_isHeld_0 ++ dktX20_isHeld_1
theorem dksX20_isHeld_0 : cX20_isHeld.data.toList.drop 0 = dktX20_isHeld_0 := by decide +kernel
theorem dksX20_isHeld_1 : cX20_isHeld.data.toList.drop 24 = dktX20_isHeld_1 := dk_seg dksX20_isHeld_0 24 rfl rfl
theorem dX20_isHeld_0 : decode cX20_isHeld 0 = .ok (.iload_n 1, 1) := dk_27 (dk_at dksX20_isHeld_0 0 rfl rfl)
theorem dX20_isHeld_1 : decode cX20_isHeld 1 = .ok (.ifCond .ne 10, 3) := dk_154 0 10 (dk_at dksX20_isHeld_0 1 rfl rfl)
theorem dX20_isHeld_4 : decode cX20_isHeld 4 = .ok (.iload_n 2, 1) := dk_28 (dk_at dksX20_isHeld_0 4 rfl rfl)
theorem dX20_isHeld_5 : decode cX20_isHeld 5 = .ok (.invokestatic 238, 3) := dk_184 0 238 (dk_at dksX20_isHeld_0 5 rfl rfl)
theorem dX20_isHeld_8 : decode cX20_isHeld 8 = .ok (.goto 25, 3) := dk_167 0 25 (dk_at dksX20_isHeld_0 8 rfl rfl)
theorem dX20_isHeld_11 : decode cX20_isHeld 11 = .ok (.iload_n 1, 1) := dk_27 (dk_at dksX20_isHeld_0 11 rfl rfl)
theorem dX20_isHeld_12 : decode cX20_isHeld 12 = .ok (.iconst 1, 1) := dk_4 (dk_at dksX20_isHeld_0 12 rfl rfl)
theorem dX20_isHeld_13 : decode cX20_isHeld 13 = .ok (.if_icmp .ne 10, 3) := dk_160 0 10 (dk_at dksX20_isHeld_0 13 rfl rfl)
theorem dX20_isHeld_16 : decode cX20_isHeld 16 = .ok (.iload_n 2, 1) := dk_28 (dk_at dksX20_isHeld_0 16 rfl rfl)
theorem dX20_isHeld_17 : decode cX20_isHeld 17 = .ok (.invokestatic 331, 3) := dk_184 1 75 (dk_at dksX20_isHeld_0 17 rfl rfl)
theorem dX20_isHeld_20 : decode cX20_isHeld 20 = .ok (.goto 13, 3) := dk_167 0 13 (dk_at dksX20_isHeld_0 20 rfl rfl)
theorem dX20_isHeld_23 : decode cX20_isHeld 23 = .ok (.iload_n 1, 1) := dk_27 (dk_at dksX20_isHeld_0 23 rfl rfl)
theorem dX20_isHeld_24 : decode cX20_isHeld 24 = .ok (.iconst 2, 1) := dk_5 (dk_at dksX20_isHeld_1 0 rfl rfl)
theorem dX20_isHeld_25 : decode cX20_isHeld 25 = .ok (.if_icmp .ne 7, 3) := dk_160 0 7 (dk_at dksX20_isHeld_1 1 rfl rfl)
theorem dX20_isHeld_28 : decode cX20_isHeld 28 = .ok (.iconst 1, 1) := dk_4 (dk_at dksX20_isHeld_1 4 rfl rfl)
theorem dX20_isHeld_29 : decode cX20_isHeld 29 = .ok (.goto 4, 3) := dk_167 0 4 (dk_at dksX20_isHeld_1 5 rfl rfl)
theorem dX20_isHeld_32 : decode cX20_isHeld 32 = .ok (.iconst 0, 1) := dk_3 (dk_at dksX20_isHeld_1 8 rfl rfl)
theorem dX20_isHeld_33 : decode cX20_isHeld 33 = .ok (.ireturn, 1) := dk_172 (dk_at dksX20_isHeld_1 9 rfl rfl)
abbrev cX20_taken : ByteArray := prog_38_method_79_code
def yX20_taken : MethodName := ⟨RX20, "taken", "(II)I"⟩
def dkwX20_taken_4 : List UInt8 := [16, 243, 172]
abbrev dktX20_taken_4 : List UInt8 := dkwX20_taken_4 ++ []
def dkwX20_taken_3 : List UInt8 := [172, 28, 16, 10, 162, 0, 20, 29, 28, 184, 1, 91, 153, 0, 12, 42, 180, 0, 85, 27, 46, 167, 0, 5]
abbrev dktX20_taken_3 : List UInt8 := dkwX20_taken_3 ++ dktX20_taken_4
def dkwX20_taken_2 : List UInt8 := [28, 16, 10, 42, 180, 0, 85, 27, 46, 96, 160, 0, 12, 42, 180, 0, 88, 27, 46, 167, 0, 5, 16, 243]
abbrev dktX20_taken_2 : List UInt8 := dkwX20_taken_2 ++ dktX20_taken_3
def dkwX20_taken_1 : List UInt8 := [154, 0, 5, 2, 172, 42, 27, 182, 1, 88, 62, 29, 156, 0, 6, 16, 245, 172, 29, 16, 9, 160, 0, 28]
abbrev dktX20_taken_1 : List UInt8 := dkwX20_taken_1 ++ dktX20_taken_2
def dkwX20_taken_0 : List UInt8 := [27, 184, 1, 75, 153, 0, 23, 28, 3, 8, 184, 0, 100, 154, 0, 16, 28, 16, 10, 16, 13, 184, 0, 100]
abbrev dktX20_taken_0 : List UInt8 := dkwX20_taken_0 ++ dktX20_taken_1
theorem dksX20_taken_0 : cX20_taken.data.toList.drop 0 = dktX20_taken_0 := by decide +kernel
theorem dksX20_taken_1 : cX20_taken.data.toList.drop 24 = dktX20_taken_1 := dk_seg dksX20_taken_0 24 rfl rfl
theorem dksX20_taken_2 : cX20_taken.data.toList.drop 48 = dktX20_taken_2 := dk_seg dksX20_taken_1 24 rfl rfl
theorem dksX20_taken_3 : cX20_taken.data.toList.drop 72 = dktX20_taken_3 := dk_seg dksX20_taken_2 24 rfl rfl
theorem dksX20_taken_4 : cX20_taken.data.toList.drop 96 = dktX20_taken_4 := dk_seg dksX20_taken_3 24 rfl rfl
theorem dX20_taken_0 : decode cX20_taken 0 = .ok (.iload_n 1, 1) := dk_27 (dk_at dksX20_taken_0 0 rfl rfl)
theorem dX20_taken_1 : decode cX20_taken 1 = .ok (.invokestatic 331, 3) := dk_184 1 75 (dk_at dksX20_taken_0 1 rfl rfl)
theorem dX20_taken_4 : decode cX20_taken 4 = .ok (.ifCond .eq 23, 3) := dk_153 0 23 (dk_at dksX20_taken_0 4 rfl rfl)
theorem dX20_taken_7 : decode cX20_taken 7 = .ok (.iload_n 2, 1) := dk_28 (dk_at dksX20_taken_0 7 rfl rfl)
theorem dX20_taken_8 : decode cX20_taken 8 = .ok (.iconst 0, 1) := dk_3 (dk_at dksX20_taken_0 8 rfl rfl)
theorem dX20_taken_9 : decode cX20_taken 9 = .ok (.iconst 5, 1) := dk_8 (dk_at dksX20_taken_0 9 rfl rfl)
theorem dX20_taken_10 : decode cX20_taken 10 = .ok (.invokestatic 100, 3) := dk_184 0 100 (dk_at dksX20_taken_0 10 rfl rfl)
theorem dX20_taken_13 : decode cX20_taken 13 = .ok (.ifCond .ne 16, 3) := dk_154 0 16 (dk_at dksX20_taken_0 13 rfl rfl)
theorem dX20_taken_16 : decode cX20_taken 16 = .ok (.iload_n 2, 1) := dk_28 (dk_at dksX20_taken_0 16 rfl rfl)
theorem dX20_taken_17 : decode cX20_taken 17 = .ok (.bipush 10, 2) := dk_16 10 (dk_at dksX20_taken_0 17 rfl rfl)
theorem dX20_taken_19 : decode cX20_taken 19 = .ok (.bipush 13, 2) := dk_16 13 (dk_at dksX20_taken_0 19 rfl rfl)
theorem dX20_taken_21 : decode cX20_taken 21 = .ok (.invokestatic 100, 3) := dk_184 0 100 (dk_at dksX20_taken_0 21 rfl rfl)
theorem dX20_taken_24 : decode cX20_taken 24 = .ok (.ifCond .ne 5, 3) := dk_154 0 5 (dk_at dksX20_taken_1 0 rfl rfl)
theorem dX20_taken_27 : decode cX20_taken 27 = .ok (.iconst (-1), 1) := dk_2 (dk_at dksX20_taken_1 3 rfl rfl)
theorem dX20_taken_28 : decode cX20_taken 28 = .ok (.ireturn, 1) := dk_172 (dk_at dksX20_taken_1 4 rfl rfl)
theorem dX20_taken_29 : decode cX20_taken 29 = .ok (.aload_n 0, 1) := dk_42 (dk_at dksX20_taken_1 5 rfl rfl)
theorem dX20_taken_30 : decode cX20_taken 30 = .ok (.iload_n 1, 1) := dk_27 (dk_at dksX20_taken_1 6 rfl rfl)
theorem dX20_taken_31 : decode cX20_taken 31 = .ok (.invokevirtual 344, 3) := dk_182 1 88 (dk_at dksX20_taken_1 7 rfl rfl)
theorem dX20_taken_34 : decode cX20_taken 34 = .ok (.istore_n 3, 1) := dk_62 (dk_at dksX20_taken_1 10 rfl rfl)
theorem dX20_taken_35 : decode cX20_taken 35 = .ok (.iload_n 3, 1) := dk_29 (dk_at dksX20_taken_1 11 rfl rfl)
theorem dX20_taken_36 : decode cX20_taken 36 = .ok (.ifCond .ge 6, 3) := dk_156 0 6 (dk_at dksX20_taken_1 12 rfl rfl)
theorem dX20_taken_39 : decode cX20_taken 39 = .ok (.bipush (-11), 2) := dk_16 245 (dk_at dksX20_taken_1 15 rfl rfl)
theorem dX20_taken_41 : decode cX20_taken 41 = .ok (.ireturn, 1) := dk_172 (dk_at dksX20_taken_1 17 rfl rfl)
theorem dX20_taken_42 : decode cX20_taken 42 = .ok (.iload_n 3, 1) := dk_29 (dk_at dksX20_taken_1 18 rfl rfl)
theorem dX20_taken_43 : decode cX20_taken 43 = .ok (.bipush 9, 2) := dk_16 9 (dk_at dksX20_taken_1 19 rfl rfl)
theorem dX20_taken_45 : decode cX20_taken 45 = .ok (.if_icmp .ne 28, 3) := dk_160 0 28 (dk_at dksX20_taken_1 21 rfl rfl)
theorem dX20_taken_48 : decode cX20_taken 48 = .ok (.iload_n 2, 1) := dk_28 (dk_at dksX20_taken_2 0 rfl rfl)
theorem dX20_taken_49 : decode cX20_taken 49 = .ok (.bipush 10, 2) := dk_16 10 (dk_at dksX20_taken_2 1 rfl rfl)
theorem dX20_taken_51 : decode cX20_taken 51 = .ok (.aload_n 0, 1) := dk_42 (dk_at dksX20_taken_2 3 rfl rfl)
theorem dX20_taken_52 : decode cX20_taken 52 = .ok (.getfield 85, 3) := dk_180 0 85 (dk_at dksX20_taken_2 4 rfl rfl)
theorem dX20_taken_55 : decode cX20_taken 55 = .ok (.iload_n 1, 1) := dk_27 (dk_at dksX20_taken_2 7 rfl rfl)
theorem dX20_taken_56 : decode cX20_taken 56 = .ok (.iaload, 1) := dk_46 (dk_at dksX20_taken_2 8 rfl rfl)
theorem dX20_taken_57 : decode cX20_taken 57 = .ok (.iadd, 1) := dk_96 (dk_at dksX20_taken_2 9 rfl rfl)
theorem dX20_taken_58 : decode cX20_taken 58 = .ok (.if_icmp .ne 12, 3) := dk_160 0 12 (dk_at dksX20_taken_2 10 rfl rfl)
theorem dX20_taken_61 : decode cX20_taken 61 = .ok (.aload_n 0, 1) := dk_42 (dk_at dksX20_taken_2 13 rfl rfl)
theorem dX20_taken_62 : decode cX20_taken 62 = .ok (.getfield 88, 3) := dk_180 0 88 (dk_at dksX20_taken_2 14 rfl rfl)
theorem dX20_taken_65 : decode cX20_taken 65 = .ok (.iload_n 1, 1) := dk_27 (dk_at dksX20_taken_2 17 rfl rfl)
theorem dX20_taken_66 : decode cX20_taken 66 = .ok (.iaload, 1) := dk_46 (dk_at dksX20_taken_2 18 rfl rfl)
theorem dX20_taken_67 : decode cX20_taken 67 = .ok (.goto 5, 3) := dk_167 0 5 (dk_at dksX20_taken_2 19 rfl rfl)
theorem dX20_taken_70 : decode cX20_taken 70 = .ok (.bipush (-13), 2) := dk_16 243 (dk_at dksX20_taken_2 22 rfl rfl)
theorem dX20_taken_72 : decode cX20_taken 72 = .ok (.ireturn, 1) := dk_172 (dk_at dksX20_taken_3 0 rfl rfl)
theorem dX20_taken_73 : decode cX20_taken 73 = .ok (.iload_n 2, 1) := dk_28 (dk_at dksX20_taken_3 1 rfl rfl)
theorem dX20_taken_74 : decode cX20_taken 74 = .ok (.bipush 10, 2) := dk_16 10 (dk_at dksX20_taken_3 2 rfl rfl)
theorem dX20_taken_76 : decode cX20_taken 76 = .ok (.if_icmp .ge 20, 3) := dk_162 0 20 (dk_at dksX20_taken_3 4 rfl rfl)
theorem dX20_taken_79 : decode cX20_taken 79 = .ok (.iload_n 3, 1) := dk_29 (dk_at dksX20_taken_3 7 rfl rfl)
theorem dX20_taken_80 : decode cX20_taken 80 = .ok (.iload_n 2, 1) := dk_28 (dk_at dksX20_taken_3 8 rfl rfl)
theorem dX20_taken_81 : decode cX20_taken 81 = .ok (.invokestatic 347, 3) := dk_184 1 91 (dk_at dksX20_taken_3 9 rfl rfl)
theorem dX20_taken_84 : decode cX20_taken 84 = .ok (.ifCond .eq 12, 3) := dk_153 0 12 (dk_at dksX20_taken_3 12 rfl rfl)
theorem dX20_taken_87 : decode cX20_taken 87 = .ok (.aload_n 0, 1) := dk_42 (dk_at dksX20_taken_3 15 rfl rfl)
theorem dX20_taken_88 : decode cX20_taken 88 = .ok (.getfield 85, 3) := dk_180 0 85 (dk_at dksX20_taken_3 16 rfl rfl)
theorem dX20_taken_91 : decode cX20_taken 91 = .ok (.iload_n 1, 1) := dk_27 (dk_at dksX20_taken_3 19 rfl rfl)
theorem dX20_taken_92 : decode cX20_taken 92 = .ok (.iaload, 1) := dk_46 (dk_at dksX20_taken_3 20 rfl rfl)
theorem dX20_taken_93 : decode cX20_taken 93 = .ok (.goto 5, 3) := dk_167 0 5 (dk_at dksX20_taken_3 21 rfl rfl)
theorem dX20_taken_96 : decode cX20_taken 96 = .ok (.bipush (-13), 2) := dk_16 243 (dk_at dksX20_taken_4 0 rfl rfl)
theorem dX20_taken_98 : decode cX20_taken 98 = .ok (.ireturn, 1) := dk_172 (dk_at dksX20_taken_4 2 rfl rfl)
abbrev cX20_kindOn : ByteArray := prog_38_method_77_code
def yX20_kindOn : MethodName := ⟨RX20, "kindOn", "(I)I"⟩
def dkwX20_kindOn_1 : List UInt8 := [172, 42, 42, 180, 0, 85, 27, 46, 42, 180, 0, 7, 8, 46, 182, 0, 249, 172]
abbrev dktX20_kindOn_1 : List UInt8 := dkwX20_kindOn_1 ++ []
def dkwX20_kindOn_0 : List UInt8 := [42, 180, 0, 82, 27, 46, 153, 0, 19, 42, 180, 0, 82, 27, 46, 156, 0, 7, 2, 167, 0, 5, 16, 9]
abbrev dktX20_kindOn_0 : List UInt8 := dkwX20_kindOn_0 ++ dktX20_kindOn_1
theorem dksX20_kindOn_0 : cX20_kindOn.data.toList.drop 0 = dktX20_kindOn_0 := by decide +kernel
theorem dksX20_kindOn_1 : cX20_kindOn.data.toList.drop 24 = dktX20_kindOn_1 := dk_seg dksX20_kindOn_0 24 rfl rfl
theorem dX20_kindOn_0 : decode cX20_kindOn 0 = .ok (.aload_n 0, 1) := dk_42 (dk_at dksX20_kindOn_0 0 rfl rfl)
theorem dX20_kindOn_1 : decode cX20_kindOn 1 = .ok (.getfield 82, 3) := dk_180 0 82 (dk_at dksX20_kindOn_0 1 rfl rfl)
theorem dX20_kindOn_4 : decode cX20_kindOn 4 = .ok (.iload_n 1, 1) := dk_27 (dk_at dksX20_kindOn_0 4 rfl rfl)
theorem dX20_kindOn_5 : decode cX20_kindOn 5 = .ok (.iaload, 1) := dk_46 (dk_at dksX20_kindOn_0 5 rfl rfl)
theorem dX20_kindOn_6 : decode cX20_kindOn 6 = .ok (.ifCond .eq 19, 3) := dk_153 0 19 (dk_at dksX20_kindOn_0 6 rfl rfl)
theorem dX20_kindOn_9 : decode cX20_kindOn 9 = .ok (.aload_n 0, 1) := dk_42 (dk_at dksX20_kindOn_0 9 rfl rfl)
theorem dX20_kindOn_10 : decode cX20_kindOn 10 = .ok (.getfield 82, 3) := dk_180 0 82 (dk_at dksX20_kindOn_0 10 rfl rfl)
theorem dX20_kindOn_13 : decode cX20_kindOn 13 = .ok (.iload_n 1, 1) := dk_27 (dk_at dksX20_kindOn_0 13 rfl rfl)
theorem dX20_kindOn_14 : decode cX20_kindOn 14 = .ok (.iaload, 1) := dk_46 (dk_at dksX20_kindOn_0 14 rfl rfl)
theorem dX20_kindOn_15 : decode cX20_kindOn 15 = .ok (.ifCond .ge 7, 3) := dk_156 0 7 (dk_at dksX20_kindOn_0 15 rfl rfl)
theorem dX20_kindOn_18 : decode cX20_kindOn 18 = .ok (.iconst (-1), 1) := dk_2 (dk_at dksX20_kindOn_0 18 rfl rfl)
theorem dX20_kindOn_19 : decode cX20_kindOn 19 = .ok (.goto 5, 3) := dk_167 0 5 (dk_at dksX20_kindOn_0 19 rfl rfl)
theorem dX20_kindOn_22 : decode cX20_kindOn 22 = .ok (.bipush 9, 2) := dk_16 9 (dk_at dksX20_kindOn_0 22 rfl rfl)
theorem dX20_kindOn_24 : decode cX20_kindOn 24 = .ok (.ireturn, 1) := dk_172 (dk_at dksX20_kindOn_1 0 rfl rfl)
theorem dX20_kindOn_25 : decode cX20_kindOn 25 = .ok (.aload_n 0, 1) := dk_42 (dk_at dksX20_kindOn_1 1 rfl rfl)
theorem dX20_kindOn_26 : decode cX20_kindOn 26 = .ok (.aload_n 0, 1) := dk_42 (dk_at dksX20_kindOn_1 2 rfl rfl)
theorem dX20_kindOn_27 : decode cX20_kindOn 27 = .ok (.getfield 85, 3) := dk_180 0 85 (dk_at dksX20_kindOn_1 3 rfl rfl)
theorem dX20_kindOn_30 : decode cX20_kindOn 30 = .ok (.iload_n 1, 1) := dk_27 (dk_at dksX20_kindOn_1 6 rfl rfl)
theorem dX20_kindOn_31 : decode cX20_kindOn 31 = .ok (.iaload, 1) := dk_46 (dk_at dksX20_kindOn_1 7 rfl rfl)
theorem dX20_kindOn_32 : decode cX20_kindOn 32 = .ok (.aload_n 0, 1) := dk_42 (dk_at dksX20_kindOn_1 8 rfl rfl)
theorem dX20_kindOn_33 : decode cX20_kindOn 33 = .ok (.getfield 7, 3) := dk_180 0 7 (dk_at dksX20_kindOn_1 9 rfl rfl)
theorem dX20_kindOn_36 : decode cX20_kindOn 36 = .ok (.iconst 5, 1) := dk_8 (dk_at dksX20_kindOn_1 12 rfl rfl)
theorem dX20_kindOn_37 : decode cX20_kindOn 37 = .ok (.iaload, 1) := dk_46 (dk_at dksX20_kindOn_1 13 rfl rfl)
theorem dX20_kindOn_38 : decode cX20_kindOn 38 = .ok (.invokevirtual 249, 3) := dk_182 0 249 (dk_at dksX20_kindOn_1 14 rfl rfl)
theorem dX20_kindOn_41 : decode cX20_kindOn 41 = .ok (.ireturn, 1) := dk_172 (dk_at dksX20_kindOn_1 17 rfl rfl)
abbrev cX20_isUnder : ByteArray := prog_38_method_78_code
def yX20_isUnder : MethodName := ⟨RX20, "isUnder", "(II)Z"⟩
def dkwX20_isUnder_1 : List UInt8 := [26, 7, 160, 0, 7, 4, 167, 0, 4, 3, 172]
abbrev dktX20_isUnder_1 : List UInt8 := dkwX20_isUnder_1 ++ []
def dkwX20_isUnder_0 : List UInt8 := [27, 153, 0, 28, 27, 26, 159, 0, 23, 27, 5, 160, 0, 8, 26, 6, 159, 0, 13, 27, 4, 160, 0, 12]
abbrev dktX20_isUnder_0 : List UInt8 := dkwX20_isUnder_0 ++ dktX20_isUnder_1
theorem dksX20_isUnder_0 : cX20_isUnder.data.toList.drop 0 = dktX20_isUnder_0 := by decide +kernel
theorem dksX20_isUnder_1 : cX20_isUnder.data.toList.drop 24 = dktX20_isUnder_1 := dk_seg dksX20_isUnder_0 24 rfl rfl
theorem dX20_isUnder_0 : decode cX20_isUnder 0 = .ok (.iload_n 1, 1) := dk_27 (dk_at dksX20_isUnder_0 0 rfl rfl)
theorem dX20_isUnder_1 : decode cX20_isUnder 1 = .ok (.ifCond .eq 28, 3) := dk_153 0 28 (dk_at dksX20_isUnder_0 1 rfl rfl)
theorem dX20_isUnder_4 : decode cX20_isUnder 4 = .ok (.iload_n 1, 1) := dk_27 (dk_at dksX20_isUnder_0 4 rfl rfl)
theorem dX20_isUnder_5 : decode cX20_isUnder 5 = .ok (.iload_n 0, 1) := dk_26 (dk_at dksX20_isUnder_0 5 rfl rfl)
theorem dX20_isUnder_6 : decode cX20_isUnder 6 = .ok (.if_icmp .eq 23, 3) := dk_159 0 23 (dk_at dksX20_isUnder_0 6 rfl rfl)
theorem dX20_isUnder_9 : decode cX20_isUnder 9 = .ok (.iload_n 1, 1) := dk_27 (dk_at dksX20_isUnder_0 9 rfl rfl)
theorem dX20_isUnder_10 : decode cX20_isUnder 10 = .ok (.iconst 2, 1) := dk_5 (dk_at dksX20_isUnder_0 10 rfl rfl)
theorem dX20_isUnder_11 : decode cX20_isUnder 11 = .ok (.if_icmp .ne 8, 3) := dk_160 0 8 (dk_at dksX20_isUnder_0 11 rfl rfl)
theorem dX20_isUnder_14 : decode cX20_isUnder 14 = .ok (.iload_n 0, 1) := dk_26 (dk_at dksX20_isUnder_0 14 rfl rfl)
theorem dX20_isUnder_15 : decode cX20_isUnder 15 = .ok (.iconst 3, 1) := dk_6 (dk_at dksX20_isUnder_0 15 rfl rfl)
theorem dX20_isUnder_16 : decode cX20_isUnder 16 = .ok (.if_icmp .eq 13, 3) := dk_159 0 13 (dk_at dksX20_isUnder_0 16 rfl rfl)
theorem dX20_isUnder_19 : decode cX20_isUnder 19 = .ok (.iload_n 1, 1) := dk_27 (dk_at dksX20_isUnder_0 19 rfl rfl)
theorem dX20_isUnder_20 : decode cX20_isUnder 20 = .ok (.iconst 1, 1) := dk_4 (dk_at dksX20_isUnder_0 20 rfl rfl)
theorem dX20_isUnder_21 : decode cX20_isUnder 21 = .ok (.if_icmp .ne 12, 3) := dk_160 0 12 (dk_at dksX20_isUnder_0 21 rfl rfl)
theorem dX20_isUnder_24 : decode cX20_isUnder 24 = .ok (.iload_n 0, 1) := dk_26 (dk_at dksX20_isUnder_1 0 rfl rfl)
theorem dX20_isUnder_25 : decode cX20_isUnder 25 = .ok (.iconst 4, 1) := dk_7 (dk_at dksX20_isUnder_1 1 rfl rfl)
theorem dX20_isUnder_26 : decode cX20_isUnder 26 = .ok (.if_icmp .ne 7, 3) := dk_160 0 7 (dk_at dksX20_isUnder_1 2 rfl rfl)
theorem dX20_isUnder_29 : decode cX20_isUnder 29 = .ok (.iconst 1, 1) := dk_4 (dk_at dksX20_isUnder_1 5 rfl rfl)
theorem dX20_isUnder_30 : decode cX20_isUnder 30 = .ok (.goto 4, 3) := dk_167 0 4 (dk_at dksX20_isUnder_1 6 rfl rfl)
theorem dX20_isUnder_33 : decode cX20_isUnder 33 = .ok (.iconst 0, 1) := dk_3 (dk_at dksX20_isUnder_1 9 rfl rfl)
theorem dX20_isUnder_34 : decode cX20_isUnder 34 = .ok (.ireturn, 1) := dk_172 (dk_at dksX20_isUnder_1 10 rfl rfl)
abbrev cX20_act : ByteArray := prog_38_method_90_code
def yX20_act : MethodName := ⟨RX20, "act", "(III)I"⟩
def dkwX20_act_5 : List UInt8 := [42, 29, 182, 1, 136, 54, 5, 42, 180, 1, 121, 153, 0, 8, 16, 241, 167, 0, 5, 21, 5, 172]
abbrev dktX20_act_5 : List UInt8 := dkwX20_act_5 ++ []
def dkwX20_act_4 : List UInt8 := [160, 0, 11, 42, 29, 182, 1, 127, 167, 0, 21, 28, 5, 160, 0, 11, 42, 29, 182, 1, 133, 167, 0, 8]
abbrev dktX20_act_4 : List UInt8 := dkwX20_act_4 ++ dktX20_act_5
def dkwX20_act_3 : List UInt8 := [181, 1, 118, 42, 3, 181, 1, 121, 28, 154, 0, 11, 42, 29, 182, 1, 112, 167, 0, 34, 28, 4]
abbrev dktX20_act_3 : List UInt8 := dkwX20_act_3 ++ dktX20_act_4
def dkwX20_act_2 : List UInt8 := [181, 1, 106, 42, 42, 180, 0, 85, 27, 46, 181, 1, 100, 42, 42, 180, 0, 22, 42, 180, 1, 100, 46]
abbrev dktX20_act_2 : List UInt8 := dkwX20_act_2 ++ dktX20_act_3
def dkwX20_act_1 : List UInt8 := [3, 6, 184, 0, 100, 153, 0, 13, 21, 4, 3, 8, 184, 0, 100, 154, 0, 5, 3, 172, 42, 21, 4]
abbrev dktX20_act_1 : List UInt8 := dkwX20_act_1 ++ dktX20_act_2
def dkwX20_act_0 : List UInt8 := [42, 3, 181, 1, 94, 27, 184, 1, 75, 153, 0, 11, 42, 27, 182, 1, 88, 167, 0, 4, 2, 54, 4, 28]
abbrev dktX20_act_0 : List UInt8 := dkwX20_act_0 ++ dktX20_act_1
theorem dksX20_act_0 : cX20_act.data.toList.drop 0 = dktX20_act_0 := by decide +kernel
theorem dksX20_act_1 : cX20_act.data.toList.drop 24 = dktX20_act_1 := dk_seg dksX20_act_0 24 rfl rfl
theorem dksX20_act_2 : cX20_act.data.toList.drop 47 = dktX20_act_2 := dk_seg dksX20_act_1 23 rfl rfl
theorem dksX20_act_3 : cX20_act.data.toList.drop 70 = dktX20_act_3 := dk_seg dksX20_act_2 23 rfl rfl
theorem dksX20_act_4 : cX20_act.data.toList.drop 92 = dktX20_act_4 := dk_seg dksX20_act_3 22 rfl rfl
theorem dksX20_act_5 : cX20_act.data.toList.drop 116 = dktX20_act_5 := dk_seg dksX20_act_4 24 rfl rfl
theorem dX20_act_0 : decode cX20_act 0 = .ok (.aload_n 0, 1) := dk_42 (dk_at dksX20_act_0 0 rfl rfl)
theorem dX20_act_1 : decode cX20_act 1 = .ok (.iconst 0, 1) := dk_3 (dk_at dksX20_act_0 1 rfl rfl)
theorem dX20_act_2 : decode cX20_act 2 = .ok (.putfield 350, 3) := dk_181 1 94 (dk_at dksX20_act_0 2 rfl rfl)
theorem dX20_act_5 : decode cX20_act 5 = .ok (.iload_n 1, 1) := dk_27 (dk_at dksX20_act_0 5 rfl rfl)
theorem dX20_act_6 : decode cX20_act 6 = .ok (.invokestatic 331, 3) := dk_184 1 75 (dk_at dksX20_act_0 6 rfl rfl)
theorem dX20_act_9 : decode cX20_act 9 = .ok (.ifCond .eq 11, 3) := dk_153 0 11 (dk_at dksX20_act_0 9 rfl rfl)
theorem dX20_act_12 : decode cX20_act 12 = .ok (.aload_n 0, 1) := dk_42 (dk_at dksX20_act_0 12 rfl rfl)
theorem dX20_act_13 : decode cX20_act 13 = .ok (.iload_n 1, 1) := dk_27 (dk_at dksX20_act_0 13 rfl rfl)
theorem dX20_act_14 : decode cX20_act 14 = .ok (.invokevirtual 344, 3) := dk_182 1 88 (dk_at dksX20_act_0 14 rfl rfl)
theorem dX20_act_17 : decode cX20_act 17 = .ok (.goto 4, 3) := dk_167 0 4 (dk_at dksX20_act_0 17 rfl rfl)
theorem dX20_act_20 : decode cX20_act 20 = .ok (.iconst (-1), 1) := dk_2 (dk_at dksX20_act_0 20 rfl rfl)
theorem dX20_act_21 : decode cX20_act 21 = .ok (.istore 4, 2) := dk_54 4 (dk_at dksX20_act_0 21 rfl rfl)
theorem dX20_act_23 : decode cX20_act 23 = .ok (.iload_n 2, 1) := dk_28 (dk_at dksX20_act_0 23 rfl rfl)
theorem dX20_act_24 : decode cX20_act 24 = .ok (.iconst 0, 1) := dk_3 (dk_at dksX20_act_1 0 rfl rfl)
theorem dX20_act_25 : decode cX20_act 25 = .ok (.iconst 3, 1) := dk_6 (dk_at dksX20_act_1 1 rfl rfl)
theorem dX20_act_26 : decode cX20_act 26 = .ok (.invokestatic 100, 3) := dk_184 0 100 (dk_at dksX20_act_1 2 rfl rfl)
theorem dX20_act_29 : decode cX20_act 29 = .ok (.ifCond .eq 13, 3) := dk_153 0 13 (dk_at dksX20_act_1 5 rfl rfl)
theorem dX20_act_32 : decode cX20_act 32 = .ok (.iload 4, 2) := dk_21 4 (dk_at dksX20_act_1 8 rfl rfl)
theorem dX20_act_34 : decode cX20_act 34 = .ok (.iconst 0, 1) := dk_3 (dk_at dksX20_act_1 10 rfl rfl)
theorem dX20_act_35 : decode cX20_act 35 = .ok (.iconst 5, 1) := dk_8 (dk_at dksX20_act_1 11 rfl rfl)
theorem dX20_act_36 : decode cX20_act 36 = .ok (.invokestatic 100, 3) := dk_184 0 100 (dk_at dksX20_act_1 12 rfl rfl)
theorem dX20_act_39 : decode cX20_act 39 = .ok (.ifCond .ne 5, 3) := dk_154 0 5 (dk_at dksX20_act_1 15 rfl rfl)
theorem dX20_act_42 : decode cX20_act 42 = .ok (.iconst 0, 1) := dk_3 (dk_at dksX20_act_1 18 rfl rfl)
theorem dX20_act_43 : decode cX20_act 43 = .ok (.ireturn, 1) := dk_172 (dk_at dksX20_act_1 19 rfl rfl)
theorem dX20_act_44 : decode cX20_act 44 = .ok (.aload_n 0, 1) := dk_42 (dk_at dksX20_act_1 20 rfl rfl)
theorem dX20_act_45 : decode cX20_act 45 = .ok (.iload 4, 2) := dk_21 4 (dk_at dksX20_act_1 21 rfl rfl)
theorem dX20_act_47 : decode cX20_act 47 = .ok (.putfield 362, 3) := dk_181 1 106 (dk_at dksX20_act_2 0 rfl rfl)
theorem dX20_act_50 : decode cX20_act 50 = .ok (.aload_n 0, 1) := dk_42 (dk_at dksX20_act_2 3 rfl rfl)
theorem dX20_act_51 : decode cX20_act 51 = .ok (.aload_n 0, 1) := dk_42 (dk_at dksX20_act_2 4 rfl rfl)
theorem dX20_act_52 : decode cX20_act 52 = .ok (.getfield 85, 3) := dk_180 0 85 (dk_at dksX20_act_2 5 rfl rfl)
theorem dX20_act_55 : decode cX20_act 55 = .ok (.iload_n 1, 1) := dk_27 (dk_at dksX20_act_2 8 rfl rfl)
theorem dX20_act_56 : decode cX20_act 56 = .ok (.iaload, 1) := dk_46 (dk_at dksX20_act_2 9 rfl rfl)
theorem dX20_act_57 : decode cX20_act 57 = .ok (.putfield 356, 3) := dk_181 1 100 (dk_at dksX20_act_2 10 rfl rfl)
theorem dX20_act_60 : decode cX20_act 60 = .ok (.aload_n 0, 1) := dk_42 (dk_at dksX20_act_2 13 rfl rfl)
theorem dX20_act_61 : decode cX20_act 61 = .ok (.aload_n 0, 1) := dk_42 (dk_at dksX20_act_2 14 rfl rfl)
theorem dX20_act_62 : decode cX20_act 62 = .ok (.getfield 22, 3) := dk_180 0 22 (dk_at dksX20_act_2 15 rfl rfl)
theorem dX20_act_65 : decode cX20_act 65 = .ok (.aload_n 0, 1) := dk_42 (dk_at dksX20_act_2 18 rfl rfl)
theorem dX20_act_66 : decode cX20_act 66 = .ok (.getfield 356, 3) := dk_180 1 100 (dk_at dksX20_act_2 19 rfl rfl)
theorem dX20_act_69 : decode cX20_act 69 = .ok (.iaload, 1) := dk_46 (dk_at dksX20_act_2 22 rfl rfl)
theorem dX20_act_70 : decode cX20_act 70 = .ok (.putfield 374, 3) := dk_181 1 118 (dk_at dksX20_act_3 0 rfl rfl)
theorem dX20_act_73 : decode cX20_act 73 = .ok (.aload_n 0, 1) := dk_42 (dk_at dksX20_act_3 3 rfl rfl)
theorem dX20_act_74 : decode cX20_act 74 = .ok (.iconst 0, 1) := dk_3 (dk_at dksX20_act_3 4 rfl rfl)
theorem dX20_act_75 : decode cX20_act 75 = .ok (.putfield 377, 3) := dk_181 1 121 (dk_at dksX20_act_3 5 rfl rfl)
theorem dX20_act_78 : decode cX20_act 78 = .ok (.iload_n 2, 1) := dk_28 (dk_at dksX20_act_3 8 rfl rfl)
theorem dX20_act_79 : decode cX20_act 79 = .ok (.ifCond .ne 11, 3) := dk_154 0 11 (dk_at dksX20_act_3 9 rfl rfl)
theorem dX20_act_82 : decode cX20_act 82 = .ok (.aload_n 0, 1) := dk_42 (dk_at dksX20_act_3 12 rfl rfl)
theorem dX20_act_83 : decode cX20_act 83 = .ok (.iload_n 3, 1) := dk_29 (dk_at dksX20_act_3 13 rfl rfl)
theorem dX20_act_84 : decode cX20_act 84 = .ok (.invokevirtual 368, 3) := dk_182 1 112 (dk_at dksX20_act_3 14 rfl rfl)
theorem dX20_act_87 : decode cX20_act 87 = .ok (.goto 34, 3) := dk_167 0 34 (dk_at dksX20_act_3 17 rfl rfl)
theorem dX20_act_90 : decode cX20_act 90 = .ok (.iload_n 2, 1) := dk_28 (dk_at dksX20_act_3 20 rfl rfl)
theorem dX20_act_91 : decode cX20_act 91 = .ok (.iconst 1, 1) := dk_4 (dk_at dksX20_act_3 21 rfl rfl)
theorem dX20_act_92 : decode cX20_act 92 = .ok (.if_icmp .ne 11, 3) := dk_160 0 11 (dk_at dksX20_act_4 0 rfl rfl)
theorem dX20_act_95 : decode cX20_act 95 = .ok (.aload_n 0, 1) := dk_42 (dk_at dksX20_act_4 3 rfl rfl)
theorem dX20_act_96 : decode cX20_act 96 = .ok (.iload_n 3, 1) := dk_29 (dk_at dksX20_act_4 4 rfl rfl)
theorem dX20_act_97 : decode cX20_act 97 = .ok (.invokevirtual 383, 3) := dk_182 1 127 (dk_at dksX20_act_4 5 rfl rfl)
theorem dX20_act_100 : decode cX20_act 100 = .ok (.goto 21, 3) := dk_167 0 21 (dk_at dksX20_act_4 8 rfl rfl)
theorem dX20_act_103 : decode cX20_act 103 = .ok (.iload_n 2, 1) := dk_28 (dk_at dksX20_act_4 11 rfl rfl)
theorem dX20_act_104 : decode cX20_act 104 = .ok (.iconst 2, 1) := dk_5 (dk_at dksX20_act_4 12 rfl rfl)
theorem dX20_act_105 : decode cX20_act 105 = .ok (.if_icmp .ne 11, 3) := dk_160 0 11 (dk_at dksX20_act_4 13 rfl rfl)
theorem dX20_act_108 : decode cX20_act 108 = .ok (.aload_n 0, 1) := dk_42 (dk_at dksX20_act_4 16 rfl rfl)
theorem dX20_act_109 : decode cX20_act 109 = .ok (.iload_n 3, 1) := dk_29 (dk_at dksX20_act_4 17 rfl rfl)
theorem dX20_act_110 : decode cX20_act 110 = .ok (.invokevirtual 389, 3) := dk_182 1 133 (dk_at dksX20_act_4 18 rfl rfl)
theorem dX20_act_113 : decode cX20_act 113 = .ok (.goto 8, 3) := dk_167 0 8 (dk_at dksX20_act_4 21 rfl rfl)
theorem dX20_act_116 : decode cX20_act 116 = .ok (.aload_n 0, 1) := dk_42 (dk_at dksX20_act_5 0 rfl rfl)
theorem dX20_act_117 : decode cX20_act 117 = .ok (.iload_n 3, 1) := dk_29 (dk_at dksX20_act_5 1 rfl rfl)
theorem dX20_act_118 : decode cX20_act 118 = .ok (.invokevirtual 392, 3) := dk_182 1 136 (dk_at dksX20_act_5 2 rfl rfl)
theorem dX20_act_121 : decode cX20_act 121 = .ok (.istore 5, 2) := dk_54 5 (dk_at dksX20_act_5 5 rfl rfl)
theorem dX20_act_123 : decode cX20_act 123 = .ok (.aload_n 0, 1) := dk_42 (dk_at dksX20_act_5 7 rfl rfl)
theorem dX20_act_124 : decode cX20_act 124 = .ok (.getfield 377, 3) := dk_180 1 121 (dk_at dksX20_act_5 8 rfl rfl)
theorem dX20_act_127 : decode cX20_act 127 = .ok (.ifCond .eq 8, 3) := dk_153 0 8 (dk_at dksX20_act_5 11 rfl rfl)
theorem dX20_act_130 : decode cX20_act 130 = .ok (.bipush (-15), 2) := dk_16 241 (dk_at dksX20_act_5 14 rfl rfl)
theorem dX20_act_132 : decode cX20_act 132 = .ok (.goto 5, 3) := dk_167 0 5 (dk_at dksX20_act_5 16 rfl rfl)
theorem dX20_act_135 : decode cX20_act 135 = .ok (.iload 5, 2) := dk_21 5 (dk_at dksX20_act_5 19 rfl rfl)
theorem dX20_act_137 : decode cX20_act 137 = .ok (.ireturn, 1) := dk_172 (dk_at dksX20_act_5 21 rfl rfl)
abbrev cX20_spendsIt : ByteArray := prog_38_method_83_code
def yX20_spendsIt : MethodName := ⟨RX20, "spendsIt", "(I)I"⟩
def dkwX20_spendsIt_3 : List UInt8 := [182, 1, 97, 42, 27, 182, 1, 103, 42, 180, 1, 100, 100, 172, 42, 27, 182, 1, 103, 172]
abbrev dktX20_spendsIt_3 : List UInt8 := dkwX20_spendsIt_3 ++ []
def dkwX20_spendsIt_2 : List UInt8 := [42, 27, 182, 1, 109, 172, 42, 16, 40, 182, 1, 97, 3, 42, 27, 182, 1, 109, 100, 172, 42, 16, 51]
abbrev dktX20_spendsIt_2 : List UInt8 := dkwX20_spendsIt_2 ++ dktX20_spendsIt_3
def dkwX20_spendsIt_1 : List UInt8 := [170, 0, 0, 0, 0, 0, 0, 65, 0, 0, 0, 2, 0, 0, 0, 4, 0, 0, 0, 28, 0, 0, 0, 34, 0, 0, 0, 48]
abbrev dktX20_spendsIt_1 : List UInt8 := dkwX20_spendsIt_1 ++ dktX20_spendsIt_2
def dkwX20_spendsIt_0 : List UInt8 := [42, 180, 1, 106]
abbrev dktX20_spendsIt_0 : List UInt8 := dkwX20_spendsIt_0 ++ dktX20_spendsIt_1
theorem dksX20_spendsIt_0 : cX20_spendsIt.data.toList.drop 0 = dktX20_spendsIt_0 := by decide +kernel
theorem dksX20_spendsIt_1 : cX20_spendsIt.data.toList.drop 4 = dktX20_spendsIt_1 := dk_seg dksX20_spendsIt_0 4 rfl rfl
theorem dksX20_spendsIt_2 : cX20_spendsIt.data.toList.drop 32 = dktX20_spendsIt_2 := dk_seg dksX20_spendsIt_1 28 rfl rfl
theorem dksX20_spendsIt_3 : cX20_spendsIt.data.toList.drop 55 = dktX20_spendsIt_3 := dk_seg dksX20_spendsIt_2 23 rfl rfl
theorem dX20_spendsIt_0 : decode cX20_spendsIt 0 = .ok (.aload_n 0, 1) := dk_42 (dk_at dksX20_spendsIt_0 0 rfl rfl)
theorem dX20_spendsIt_1 : decode cX20_spendsIt 1 = .ok (.getfield 362, 3) := dk_180 1 106 (dk_at dksX20_spendsIt_0 1 rfl rfl)
theorem dX20_spendsIt_4 : decode cX20_spendsIt 4 = .ok (.tableswitch 65 2 4 #[28, 34, 48], 28) := by decide +kernel
theorem dX20_spendsIt_32 : decode cX20_spendsIt 32 = .ok (.aload_n 0, 1) := dk_42 (dk_at dksX20_spendsIt_2 0 rfl rfl)
theorem dX20_spendsIt_33 : decode cX20_spendsIt 33 = .ok (.iload_n 1, 1) := dk_27 (dk_at dksX20_spendsIt_2 1 rfl rfl)
theorem dX20_spendsIt_34 : decode cX20_spendsIt 34 = .ok (.invokevirtual 365, 3) := dk_182 1 109 (dk_at dksX20_spendsIt_2 2 rfl rfl)
theorem dX20_spendsIt_37 : decode cX20_spendsIt 37 = .ok (.ireturn, 1) := dk_172 (dk_at dksX20_spendsIt_2 5 rfl rfl)
theorem dX20_spendsIt_38 : decode cX20_spendsIt 38 = .ok (.aload_n 0, 1) := dk_42 (dk_at dksX20_spendsIt_2 6 rfl rfl)
theorem dX20_spendsIt_39 : decode cX20_spendsIt 39 = .ok (.bipush 40, 2) := dk_16 40 (dk_at dksX20_spendsIt_2 7 rfl rfl)
theorem dX20_spendsIt_41 : decode cX20_spendsIt 41 = .ok (.invokevirtual 353, 3) := dk_182 1 97 (dk_at dksX20_spendsIt_2 9 rfl rfl)
theorem dX20_spendsIt_44 : decode cX20_spendsIt 44 = .ok (.iconst 0, 1) := dk_3 (dk_at dksX20_spendsIt_2 12 rfl rfl)
theorem dX20_spendsIt_45 : decode cX20_spendsIt 45 = .ok (.aload_n 0, 1) := dk_42 (dk_at dksX20_spendsIt_2 13 rfl rfl)
theorem dX20_spendsIt_46 : decode cX20_spendsIt 46 = .ok (.iload_n 1, 1) := dk_27 (dk_at dksX20_spendsIt_2 14 rfl rfl)
theorem dX20_spendsIt_47 : decode cX20_spendsIt 47 = .ok (.invokevirtual 365, 3) := dk_182 1 109 (dk_at dksX20_spendsIt_2 15 rfl rfl)
theorem dX20_spendsIt_50 : decode cX20_spendsIt 50 = .ok (.isub, 1) := dk_100 (dk_at dksX20_spendsIt_2 18 rfl rfl)
theorem dX20_spendsIt_51 : decode cX20_spendsIt 51 = .ok (.ireturn, 1) := dk_172 (dk_at dksX20_spendsIt_2 19 rfl rfl)
theorem dX20_spendsIt_52 : decode cX20_spendsIt 52 = .ok (.aload_n 0, 1) := dk_42 (dk_at dksX20_spendsIt_2 20 rfl rfl)
theorem dX20_spendsIt_53 : decode cX20_spendsIt 53 = .ok (.bipush 51, 2) := dk_16 51 (dk_at dksX20_spendsIt_2 21 rfl rfl)
theorem dX20_spendsIt_55 : decode cX20_spendsIt 55 = .ok (.invokevirtual 353, 3) := dk_182 1 97 (dk_at dksX20_spendsIt_3 0 rfl rfl)
theorem dX20_spendsIt_58 : decode cX20_spendsIt 58 = .ok (.aload_n 0, 1) := dk_42 (dk_at dksX20_spendsIt_3 3 rfl rfl)
theorem dX20_spendsIt_59 : decode cX20_spendsIt 59 = .ok (.iload_n 1, 1) := dk_27 (dk_at dksX20_spendsIt_3 4 rfl rfl)
theorem dX20_spendsIt_60 : decode cX20_spendsIt 60 = .ok (.invokevirtual 359, 3) := dk_182 1 103 (dk_at dksX20_spendsIt_3 5 rfl rfl)
theorem dX20_spendsIt_63 : decode cX20_spendsIt 63 = .ok (.aload_n 0, 1) := dk_42 (dk_at dksX20_spendsIt_3 8 rfl rfl)
theorem dX20_spendsIt_64 : decode cX20_spendsIt 64 = .ok (.getfield 356, 3) := dk_180 1 100 (dk_at dksX20_spendsIt_3 9 rfl rfl)
theorem dX20_spendsIt_67 : decode cX20_spendsIt 67 = .ok (.isub, 1) := dk_100 (dk_at dksX20_spendsIt_3 12 rfl rfl)
theorem dX20_spendsIt_68 : decode cX20_spendsIt 68 = .ok (.ireturn, 1) := dk_172 (dk_at dksX20_spendsIt_3 13 rfl rfl)
theorem dX20_spendsIt_69 : decode cX20_spendsIt 69 = .ok (.aload_n 0, 1) := dk_42 (dk_at dksX20_spendsIt_3 14 rfl rfl)
theorem dX20_spendsIt_70 : decode cX20_spendsIt 70 = .ok (.iload_n 1, 1) := dk_27 (dk_at dksX20_spendsIt_3 15 rfl rfl)
theorem dX20_spendsIt_71 : decode cX20_spendsIt 71 = .ok (.invokevirtual 359, 3) := dk_182 1 103 (dk_at dksX20_spendsIt_3 16 rfl rfl)
theorem dX20_spendsIt_74 : decode cX20_spendsIt 74 = .ok (.ireturn, 1) := dk_172 (dk_at dksX20_spendsIt_3 19 rfl rfl)
abbrev cX20_mildSpends : ByteArray := prog_38_method_82_code
def yX20_mildSpends : MethodName := ⟨RX20, "mildSpends", "(I)I"⟩
def dkwX20_mildSpends_0 : List UInt8 := [42, 16, 30, 182, 1, 97, 42, 27, 182, 1, 103, 6, 104, 172]
abbrev dktX20_mildSpends_0 : List UInt8 := dkwX20_mildSpends_0 ++ []
theorem dksX20_mildSpends_0 : cX20_mildSpends.data.toList.drop 0 = dktX20_mildSpends_0 := by decide +kernel
theorem dX20_mildSpends_0 : decode cX20_mildSpends 0 = .ok (.aload_n 0, 1) := dk_42 (dk_at dksX20_mildSpends_0 0 rfl rfl)
theorem dX20_mildSpends_1 : decode cX20_mildSpends 1 = .ok (.bipush 30, 2) := dk_16 30 (dk_at dksX20_mildSpends_0 1 rfl rfl)
theorem dX20_mildSpends_3 : decode cX20_mildSpends 3 = .ok (.invokevirtual 353, 3) := dk_182 1 97 (dk_at dksX20_mildSpends_0 3 rfl rfl)
theorem dX20_mildSpends_6 : decode cX20_mildSpends 6 = .ok (.aload_n 0, 1) := dk_42 (dk_at dksX20_mildSpends_0 6 rfl rfl)
theorem dX20_mildSpends_7 : decode cX20_mildSpends 7 = .ok (.iload_n 1, 1) := dk_27 (dk_at dksX20_mildSpends_0 7 rfl rfl)
theorem dX20_mildSpends_8 : decode cX20_mildSpends 8 = .ok (.invokevirtual 359, 3) := dk_182 1 103 (dk_at dksX20_mildSpends_0 8 rfl rfl)
theorem dX20_mildSpends_11 : decode cX20_mildSpends 11 = .ok (.iconst 3, 1) := dk_6 (dk_at dksX20_mildSpends_0 11 rfl rfl)
theorem dX20_mildSpends_12 : decode cX20_mildSpends 12 = .ok (.imul, 1) := dk_104 (dk_at dksX20_mildSpends_0 12 rfl rfl)
theorem dX20_mildSpends_13 : decode cX20_mildSpends 13 = .ok (.ireturn, 1) := dk_172 (dk_at dksX20_mildSpends_0 13 rfl rfl)
abbrev cX20_ran : ByteArray := prog_38_method_80_code
def yX20_ran : MethodName := ⟨RX20, "ran", "(I)V"⟩
def dkwX20_ran_1 : List UInt8 := [4, 96, 181, 1, 94, 177]
abbrev dktX20_ran_1 : List UInt8 := dkwX20_ran_1 ++ []
def dkwX20_ran_0 : List UInt8 := [42, 180, 1, 94, 16, 30, 162, 0, 23, 42, 180, 0, 91, 42, 180, 1, 94, 27, 79, 42, 89, 180, 1, 94]
abbrev dktX20_ran_0 : List UInt8 := dkwX20_ran_0 ++ dktX20_ran_1
theorem dksX20_ran_0 : cX20_ran.data.toList.drop 0 = dktX20_ran_0 := by decide +kernel
theorem dksX20_ran_1 : cX20_ran.data.toList.drop 24 = dktX20_ran_1 := dk_seg dksX20_ran_0 24 rfl rfl
theorem dX20_ran_0 : decode cX20_ran 0 = .ok (.aload_n 0, 1) := dk_42 (dk_at dksX20_ran_0 0 rfl rfl)
theorem dX20_ran_1 : decode cX20_ran 1 = .ok (.getfield 350, 3) := dk_180 1 94 (dk_at dksX20_ran_0 1 rfl rfl)
theorem dX20_ran_4 : decode cX20_ran 4 = .ok (.bipush 30, 2) := dk_16 30 (dk_at dksX20_ran_0 4 rfl rfl)
theorem dX20_ran_6 : decode cX20_ran 6 = .ok (.if_icmp .ge 23, 3) := dk_162 0 23 (dk_at dksX20_ran_0 6 rfl rfl)
theorem dX20_ran_9 : decode cX20_ran 9 = .ok (.aload_n 0, 1) := dk_42 (dk_at dksX20_ran_0 9 rfl rfl)
theorem dX20_ran_10 : decode cX20_ran 10 = .ok (.getfield 91, 3) := dk_180 0 91 (dk_at dksX20_ran_0 10 rfl rfl)
theorem dX20_ran_13 : decode cX20_ran 13 = .ok (.aload_n 0, 1) := dk_42 (dk_at dksX20_ran_0 13 rfl rfl)
theorem dX20_ran_14 : decode cX20_ran 14 = .ok (.getfield 350, 3) := dk_180 1 94 (dk_at dksX20_ran_0 14 rfl rfl)
theorem dX20_ran_17 : decode cX20_ran 17 = .ok (.iload_n 1, 1) := dk_27 (dk_at dksX20_ran_0 17 rfl rfl)
theorem dX20_ran_18 : decode cX20_ran 18 = .ok (.iastore, 1) := dk_79 (dk_at dksX20_ran_0 18 rfl rfl)
theorem dX20_ran_19 : decode cX20_ran 19 = .ok (.aload_n 0, 1) := dk_42 (dk_at dksX20_ran_0 19 rfl rfl)
theorem dX20_ran_20 : decode cX20_ran 20 = .ok (.dup, 1) := dk_89 (dk_at dksX20_ran_0 20 rfl rfl)
theorem dX20_ran_21 : decode cX20_ran 21 = .ok (.getfield 350, 3) := dk_180 1 94 (dk_at dksX20_ran_0 21 rfl rfl)
theorem dX20_ran_24 : decode cX20_ran 24 = .ok (.iconst 1, 1) := dk_4 (dk_at dksX20_ran_1 0 rfl rfl)
theorem dX20_ran_25 : decode cX20_ran 25 = .ok (.iadd, 1) := dk_96 (dk_at dksX20_ran_1 1 rfl rfl)
theorem dX20_ran_26 : decode cX20_ran 26 = .ok (.putfield 350, 3) := dk_181 1 94 (dk_at dksX20_ran_1 2 rfl rfl)
theorem dX20_ran_29 : decode cX20_ran 29 = .ok (.return_, 1) := dk_177 (dk_at dksX20_ran_1 5 rfl rfl)
abbrev cX20_plainSpends : ByteArray := prog_38_method_81_code
def yX20_plainSpends : MethodName := ⟨RX20, "plainSpends", "(I)I"⟩
def dkwX20_plainSpends_0 : List UInt8 := [42, 16, 10, 182, 1, 97, 27, 42, 180, 1, 100, 96, 172]
abbrev dktX20_plainSpends_0 : List UInt8 := dkwX20_plainSpends_0 ++ []
theorem dksX20_plainSpends_0 : cX20_plainSpends.data.toList.drop 0 = dktX20_plainSpends_0 := by decide +kernel
theorem dX20_plainSpends_0 : decode cX20_plainSpends 0 = .ok (.aload_n 0, 1) := dk_42 (dk_at dksX20_plainSpends_0 0 rfl rfl)
theorem dX20_plainSpends_1 : decode cX20_plainSpends 1 = .ok (.bipush 10, 2) := dk_16 10 (dk_at dksX20_plainSpends_0 1 rfl rfl)
theorem dX20_plainSpends_3 : decode cX20_plainSpends 3 = .ok (.invokevirtual 353, 3) := dk_182 1 97 (dk_at dksX20_plainSpends_0 3 rfl rfl)
theorem dX20_plainSpends_6 : decode cX20_plainSpends 6 = .ok (.iload_n 1, 1) := dk_27 (dk_at dksX20_plainSpends_0 6 rfl rfl)
theorem dX20_plainSpends_7 : decode cX20_plainSpends 7 = .ok (.aload_n 0, 1) := dk_42 (dk_at dksX20_plainSpends_0 7 rfl rfl)
theorem dX20_plainSpends_8 : decode cX20_plainSpends 8 = .ok (.getfield 356, 3) := dk_180 1 100 (dk_at dksX20_plainSpends_0 8 rfl rfl)
theorem dX20_plainSpends_11 : decode cX20_plainSpends 11 = .ok (.iadd, 1) := dk_96 (dk_at dksX20_plainSpends_0 11 rfl rfl)
theorem dX20_plainSpends_12 : decode cX20_plainSpends 12 = .ok (.ireturn, 1) := dk_172 (dk_at dksX20_plainSpends_0 12 rfl rfl)
abbrev cX20_parchesIt : ByteArray := prog_38_method_85_code
def yX20_parchesIt : MethodName := ⟨RX20, "parchesIt", "(I)I"⟩
def dkwX20_parchesIt_2 : List UInt8 := [27, 182, 1, 115, 61, 28, 42, 42, 180, 1, 100, 182, 1, 112, 96, 172, 42, 27, 182, 1, 115, 172]
abbrev dktX20_parchesIt_2 : List UInt8 := dkwX20_parchesIt_2 ++ []
def dkwX20_parchesIt_1 : List UInt8 := [182, 1, 115, 42, 180, 1, 118, 100, 172, 42, 180, 1, 106, 6, 160, 0, 26, 42, 16, 41, 182, 1, 97, 42]
abbrev dktX20_parchesIt_1 : List UInt8 := dkwX20_parchesIt_1 ++ dktX20_parchesIt_2
def dkwX20_parchesIt_0 : List UInt8 := [42, 180, 1, 106, 4, 159, 0, 11, 42, 180, 1, 106, 7, 160, 0, 20, 42, 16, 20, 182, 1, 97, 42, 27]
abbrev dktX20_parchesIt_0 : List UInt8 := dkwX20_parchesIt_0 ++ dktX20_parchesIt_1
theorem dksX20_parchesIt_0 : cX20_parchesIt.data.toList.drop 0 = dktX20_parchesIt_0 := by decide +kernel
theorem dksX20_parchesIt_1 : cX20_parchesIt.data.toList.drop 24 = dktX20_parchesIt_1 := dk_seg dksX20_parchesIt_0 24 rfl rfl
theorem dksX20_parchesIt_2 : cX20_parchesIt.data.toList.drop 48 = dktX20_parchesIt_2 := dk_seg dksX20_parchesIt_1 24 rfl rfl
theorem dX20_parchesIt_0 : decode cX20_parchesIt 0 = .ok (.aload_n 0, 1) := dk_42 (dk_at dksX20_parchesIt_0 0 rfl rfl)
theorem dX20_parchesIt_1 : decode cX20_parchesIt 1 = .ok (.getfield 362, 3) := dk_180 1 106 (dk_at dksX20_parchesIt_0 1 rfl rfl)
theorem dX20_parchesIt_4 : decode cX20_parchesIt 4 = .ok (.iconst 1, 1) := dk_4 (dk_at dksX20_parchesIt_0 4 rfl rfl)
theorem dX20_parchesIt_5 : decode cX20_parchesIt 5 = .ok (.if_icmp .eq 11, 3) := dk_159 0 11 (dk_at dksX20_parchesIt_0 5 rfl rfl)
theorem dX20_parchesIt_8 : decode cX20_parchesIt 8 = .ok (.aload_n 0, 1) := dk_42 (dk_at dksX20_parchesIt_0 8 rfl rfl)
theorem dX20_parchesIt_9 : decode cX20_parchesIt 9 = .ok (.getfield 362, 3) := dk_180 1 106 (dk_at dksX20_parchesIt_0 9 rfl rfl)
theorem dX20_parchesIt_12 : decode cX20_parchesIt 12 = .ok (.iconst 4, 1) := dk_7 (dk_at dksX20_parchesIt_0 12 rfl rfl)
theorem dX20_parchesIt_13 : decode cX20_parchesIt 13 = .ok (.if_icmp .ne 20, 3) := dk_160 0 20 (dk_at dksX20_parchesIt_0 13 rfl rfl)
theorem dX20_parchesIt_16 : decode cX20_parchesIt 16 = .ok (.aload_n 0, 1) := dk_42 (dk_at dksX20_parchesIt_0 16 rfl rfl)
theorem dX20_parchesIt_17 : decode cX20_parchesIt 17 = .ok (.bipush 20, 2) := dk_16 20 (dk_at dksX20_parchesIt_0 17 rfl rfl)
theorem dX20_parchesIt_19 : decode cX20_parchesIt 19 = .ok (.invokevirtual 353, 3) := dk_182 1 97 (dk_at dksX20_parchesIt_0 19 rfl rfl)
theorem dX20_parchesIt_22 : decode cX20_parchesIt 22 = .ok (.aload_n 0, 1) := dk_42 (dk_at dksX20_parchesIt_0 22 rfl rfl)
theorem dX20_parchesIt_23 : decode cX20_parchesIt 23 = .ok (.iload_n 1, 1) := dk_27 (dk_at dksX20_parchesIt_0 23 rfl rfl)
theorem dX20_parchesIt_24 : decode cX20_parchesIt 24 = .ok (.invokevirtual 371, 3) := dk_182 1 115 (dk_at dksX20_parchesIt_1 0 rfl rfl)
theorem dX20_parchesIt_27 : decode cX20_parchesIt 27 = .ok (.aload_n 0, 1) := dk_42 (dk_at dksX20_parchesIt_1 3 rfl rfl)
theorem dX20_parchesIt_28 : decode cX20_parchesIt 28 = .ok (.getfield 374, 3) := dk_180 1 118 (dk_at dksX20_parchesIt_1 4 rfl rfl)
theorem dX20_parchesIt_31 : decode cX20_parchesIt 31 = .ok (.isub, 1) := dk_100 (dk_at dksX20_parchesIt_1 7 rfl rfl)
theorem dX20_parchesIt_32 : decode cX20_parchesIt 32 = .ok (.ireturn, 1) := dk_172 (dk_at dksX20_parchesIt_1 8 rfl rfl)
theorem dX20_parchesIt_33 : decode cX20_parchesIt 33 = .ok (.aload_n 0, 1) := dk_42 (dk_at dksX20_parchesIt_1 9 rfl rfl)
theorem dX20_parchesIt_34 : decode cX20_parchesIt 34 = .ok (.getfield 362, 3) := dk_180 1 106 (dk_at dksX20_parchesIt_1 10 rfl rfl)
theorem dX20_parchesIt_37 : decode cX20_parchesIt 37 = .ok (.iconst 3, 1) := dk_6 (dk_at dksX20_parchesIt_1 13 rfl rfl)
theorem dX20_parchesIt_38 : decode cX20_parchesIt 38 = .ok (.if_icmp .ne 26, 3) := dk_160 0 26 (dk_at dksX20_parchesIt_1 14 rfl rfl)
theorem dX20_parchesIt_41 : decode cX20_parchesIt 41 = .ok (.aload_n 0, 1) := dk_42 (dk_at dksX20_parchesIt_1 17 rfl rfl)
theorem dX20_parchesIt_42 : decode cX20_parchesIt 42 = .ok (.bipush 41, 2) := dk_16 41 (dk_at dksX20_parchesIt_1 18 rfl rfl)
theorem dX20_parchesIt_44 : decode cX20_parchesIt 44 = .ok (.invokevirtual 353, 3) := dk_182 1 97 (dk_at dksX20_parchesIt_1 20 rfl rfl)
theorem dX20_parchesIt_47 : decode cX20_parchesIt 47 = .ok (.aload_n 0, 1) := dk_42 (dk_at dksX20_parchesIt_1 23 rfl rfl)
theorem dX20_parchesIt_48 : decode cX20_parchesIt 48 = .ok (.iload_n 1, 1) := dk_27 (dk_at dksX20_parchesIt_2 0 rfl rfl)
theorem dX20_parchesIt_49 : decode cX20_parchesIt 49 = .ok (.invokevirtual 371, 3) := dk_182 1 115 (dk_at dksX20_parchesIt_2 1 rfl rfl)
theorem dX20_parchesIt_52 : decode cX20_parchesIt 52 = .ok (.istore_n 2, 1) := dk_61 (dk_at dksX20_parchesIt_2 4 rfl rfl)
theorem dX20_parchesIt_53 : decode cX20_parchesIt 53 = .ok (.iload_n 2, 1) := dk_28 (dk_at dksX20_parchesIt_2 5 rfl rfl)
theorem dX20_parchesIt_54 : decode cX20_parchesIt 54 = .ok (.aload_n 0, 1) := dk_42 (dk_at dksX20_parchesIt_2 6 rfl rfl)
theorem dX20_parchesIt_55 : decode cX20_parchesIt 55 = .ok (.aload_n 0, 1) := dk_42 (dk_at dksX20_parchesIt_2 7 rfl rfl)
theorem dX20_parchesIt_56 : decode cX20_parchesIt 56 = .ok (.getfield 356, 3) := dk_180 1 100 (dk_at dksX20_parchesIt_2 8 rfl rfl)
theorem dX20_parchesIt_59 : decode cX20_parchesIt 59 = .ok (.invokevirtual 368, 3) := dk_182 1 112 (dk_at dksX20_parchesIt_2 11 rfl rfl)
theorem dX20_parchesIt_62 : decode cX20_parchesIt 62 = .ok (.iadd, 1) := dk_96 (dk_at dksX20_parchesIt_2 14 rfl rfl)
theorem dX20_parchesIt_63 : decode cX20_parchesIt 63 = .ok (.ireturn, 1) := dk_172 (dk_at dksX20_parchesIt_2 15 rfl rfl)
theorem dX20_parchesIt_64 : decode cX20_parchesIt 64 = .ok (.aload_n 0, 1) := dk_42 (dk_at dksX20_parchesIt_2 16 rfl rfl)
theorem dX20_parchesIt_65 : decode cX20_parchesIt 65 = .ok (.iload_n 1, 1) := dk_27 (dk_at dksX20_parchesIt_2 17 rfl rfl)
theorem dX20_parchesIt_66 : decode cX20_parchesIt 66 = .ok (.invokevirtual 371, 3) := dk_182 1 115 (dk_at dksX20_parchesIt_2 18 rfl rfl)
theorem dX20_parchesIt_69 : decode cX20_parchesIt 69 = .ok (.ireturn, 1) := dk_172 (dk_at dksX20_parchesIt_2 21 rfl rfl)
abbrev cX20_plainParches : ByteArray := prog_38_method_84_code
def yX20_plainParches : MethodName := ⟨RX20, "plainParches", "(I)I"⟩
def dkwX20_plainParches_0 : List UInt8 := [42, 16, 11, 182, 1, 97, 42, 27, 182, 1, 112, 5, 104, 172]
abbrev dktX20_plainParches_0 : List UInt8 := dkwX20_plainParches_0 ++ []
theorem dksX20_plainParches_0 : cX20_plainParches.data.toList.drop 0 = dktX20_plainParches_0 := by decide +kernel
theorem dX20_plainParches_0 : decode cX20_plainParches 0 = .ok (.aload_n 0, 1) := dk_42 (dk_at dksX20_plainParches_0 0 rfl rfl)
theorem dX20_plainParches_1 : decode cX20_plainParches 1 = .ok (.bipush 11, 2) := dk_16 11 (dk_at dksX20_plainParches_0 1 rfl rfl)
theorem dX20_plainParches_3 : decode cX20_plainParches 3 = .ok (.invokevirtual 353, 3) := dk_182 1 97 (dk_at dksX20_plainParches_0 3 rfl rfl)
theorem dX20_plainParches_6 : decode cX20_plainParches 6 = .ok (.aload_n 0, 1) := dk_42 (dk_at dksX20_plainParches_0 6 rfl rfl)
theorem dX20_plainParches_7 : decode cX20_plainParches 7 = .ok (.iload_n 1, 1) := dk_27 (dk_at dksX20_plainParches_0 7 rfl rfl)
theorem dX20_plainParches_8 : decode cX20_plainParches 8 = .ok (.invokevirtual 368, 3) := dk_182 1 112 (dk_at dksX20_plainParches_0 8 rfl rfl)
theorem dX20_plainParches_11 : decode cX20_plainParches 11 = .ok (.iconst 2, 1) := dk_5 (dk_at dksX20_plainParches_0 11 rfl rfl)
theorem dX20_plainParches_12 : decode cX20_plainParches 12 = .ok (.imul, 1) := dk_104 (dk_at dksX20_plainParches_0 12 rfl rfl)
theorem dX20_plainParches_13 : decode cX20_plainParches 13 = .ok (.ireturn, 1) := dk_172 (dk_at dksX20_plainParches_0 13 rfl rfl)
abbrev cX20_sharesIt : ByteArray := prog_38_method_87_code
def yX20_sharesIt : MethodName := ⟨RX20, "sharesIt", "(I)I"⟩
def dkwX20_sharesIt_2 : List UInt8 := [153, 0, 7, 3, 167, 0, 13, 28, 42, 42, 180, 1, 118, 182, 1, 112, 96, 172, 42, 27, 182, 1, 124, 172]
abbrev dktX20_sharesIt_2 : List UInt8 := dkwX20_sharesIt_2 ++ []
def dkwX20_sharesIt_1 : List UInt8 := [42, 180, 1, 106, 8, 160, 0, 37, 42, 16, 61, 182, 1, 97, 42, 27, 182, 1, 124, 61, 42, 180, 1, 121]
abbrev dktX20_sharesIt_1 : List UInt8 := dkwX20_sharesIt_1 ++ dktX20_sharesIt_2
def dkwX20_sharesIt_0 : List UInt8 := [42, 180, 1, 106, 7, 160, 0, 19, 42, 16, 50, 182, 1, 97, 42, 27, 5, 96, 182, 1, 124, 4, 130, 172]
abbrev dktX20_sharesIt_0 : List UInt8 := dkwX20_sharesIt_0 ++ dktX20_sharesIt_1
theorem dksX20_sharesIt_0 : cX20_sharesIt.data.toList.drop 0 = dktX20_sharesIt_0 := by decide +kernel
theorem dksX20_sharesIt_1 : cX20_sharesIt.data.toList.drop 24 = dktX20_sharesIt_1 := dk_seg dksX20_sharesIt_0 24 rfl rfl
theorem dksX20_sharesIt_2 : cX20_sharesIt.data.toList.drop 48 = dktX20_sharesIt_2 := dk_seg dksX20_sharesIt_1 24 rfl rfl
theorem dX20_sharesIt_0 : decode cX20_sharesIt 0 = .ok (.aload_n 0, 1) := dk_42 (dk_at dksX20_sharesIt_0 0 rfl rfl)
theorem dX20_sharesIt_1 : decode cX20_sharesIt 1 = .ok (.getfield 362, 3) := dk_180 1 106 (dk_at dksX20_sharesIt_0 1 rfl rfl)
theorem dX20_sharesIt_4 : decode cX20_sharesIt 4 = .ok (.iconst 4, 1) := dk_7 (dk_at dksX20_sharesIt_0 4 rfl rfl)
theorem dX20_sharesIt_5 : decode cX20_sharesIt 5 = .ok (.if_icmp .ne 19, 3) := dk_160 0 19 (dk_at dksX20_sharesIt_0 5 rfl rfl)
theorem dX20_sharesIt_8 : decode cX20_sharesIt 8 = .ok (.aload_n 0, 1) := dk_42 (dk_at dksX20_sharesIt_0 8 rfl rfl)
theorem dX20_sharesIt_9 : decode cX20_sharesIt 9 = .ok (.bipush 50, 2) := dk_16 50 (dk_at dksX20_sharesIt_0 9 rfl rfl)
theorem dX20_sharesIt_11 : decode cX20_sharesIt 11 = .ok (.invokevirtual 353, 3) := dk_182 1 97 (dk_at dksX20_sharesIt_0 11 rfl rfl)
theorem dX20_sharesIt_14 : decode cX20_sharesIt 14 = .ok (.aload_n 0, 1) := dk_42 (dk_at dksX20_sharesIt_0 14 rfl rfl)
theorem dX20_sharesIt_15 : decode cX20_sharesIt 15 = .ok (.iload_n 1, 1) := dk_27 (dk_at dksX20_sharesIt_0 15 rfl rfl)
theorem dX20_sharesIt_16 : decode cX20_sharesIt 16 = .ok (.iconst 2, 1) := dk_5 (dk_at dksX20_sharesIt_0 16 rfl rfl)
theorem dX20_sharesIt_17 : decode cX20_sharesIt 17 = .ok (.iadd, 1) := dk_96 (dk_at dksX20_sharesIt_0 17 rfl rfl)
theorem dX20_sharesIt_18 : decode cX20_sharesIt 18 = .ok (.invokevirtual 380, 3) := dk_182 1 124 (dk_at dksX20_sharesIt_0 18 rfl rfl)
theorem dX20_sharesIt_21 : decode cX20_sharesIt 21 = .ok (.iconst 1, 1) := dk_4 (dk_at dksX20_sharesIt_0 21 rfl rfl)
theorem dX20_sharesIt_22 : decode cX20_sharesIt 22 = .ok (.ixor, 1) := dk_130 (dk_at dksX20_sharesIt_0 22 rfl rfl)
theorem dX20_sharesIt_23 : decode cX20_sharesIt 23 = .ok (.ireturn, 1) := dk_172 (dk_at dksX20_sharesIt_0 23 rfl rfl)
theorem dX20_sharesIt_24 : decode cX20_sharesIt 24 = .ok (.aload_n 0, 1) := dk_42 (dk_at dksX20_sharesIt_1 0 rfl rfl)
theorem dX20_sharesIt_25 : decode cX20_sharesIt 25 = .ok (.getfield 362, 3) := dk_180 1 106 (dk_at dksX20_sharesIt_1 1 rfl rfl)
theorem dX20_sharesIt_28 : decode cX20_sharesIt 28 = .ok (.iconst 5, 1) := dk_8 (dk_at dksX20_sharesIt_1 4 rfl rfl)
theorem dX20_sharesIt_29 : decode cX20_sharesIt 29 = .ok (.if_icmp .ne 37, 3) := dk_160 0 37 (dk_at dksX20_sharesIt_1 5 rfl rfl)
theorem dX20_sharesIt_32 : decode cX20_sharesIt 32 = .ok (.aload_n 0, 1) := dk_42 (dk_at dksX20_sharesIt_1 8 rfl rfl)
theorem dX20_sharesIt_33 : decode cX20_sharesIt 33 = .ok (.bipush 61, 2) := dk_16 61 (dk_at dksX20_sharesIt_1 9 rfl rfl)
theorem dX20_sharesIt_35 : decode cX20_sharesIt 35 = .ok (.invokevirtual 353, 3) := dk_182 1 97 (dk_at dksX20_sharesIt_1 11 rfl rfl)
theorem dX20_sharesIt_38 : decode cX20_sharesIt 38 = .ok (.aload_n 0, 1) := dk_42 (dk_at dksX20_sharesIt_1 14 rfl rfl)
theorem dX20_sharesIt_39 : decode cX20_sharesIt 39 = .ok (.iload_n 1, 1) := dk_27 (dk_at dksX20_sharesIt_1 15 rfl rfl)
theorem dX20_sharesIt_40 : decode cX20_sharesIt 40 = .ok (.invokevirtual 380, 3) := dk_182 1 124 (dk_at dksX20_sharesIt_1 16 rfl rfl)
theorem dX20_sharesIt_43 : decode cX20_sharesIt 43 = .ok (.istore_n 2, 1) := dk_61 (dk_at dksX20_sharesIt_1 19 rfl rfl)
theorem dX20_sharesIt_44 : decode cX20_sharesIt 44 = .ok (.aload_n 0, 1) := dk_42 (dk_at dksX20_sharesIt_1 20 rfl rfl)
theorem dX20_sharesIt_45 : decode cX20_sharesIt 45 = .ok (.getfield 377, 3) := dk_180 1 121 (dk_at dksX20_sharesIt_1 21 rfl rfl)
theorem dX20_sharesIt_48 : decode cX20_sharesIt 48 = .ok (.ifCond .eq 7, 3) := dk_153 0 7 (dk_at dksX20_sharesIt_2 0 rfl rfl)
theorem dX20_sharesIt_51 : decode cX20_sharesIt 51 = .ok (.iconst 0, 1) := dk_3 (dk_at dksX20_sharesIt_2 3 rfl rfl)
theorem dX20_sharesIt_52 : decode cX20_sharesIt 52 = .ok (.goto 13, 3) := dk_167 0 13 (dk_at dksX20_sharesIt_2 4 rfl rfl)
theorem dX20_sharesIt_55 : decode cX20_sharesIt 55 = .ok (.iload_n 2, 1) := dk_28 (dk_at dksX20_sharesIt_2 7 rfl rfl)
theorem dX20_sharesIt_56 : decode cX20_sharesIt 56 = .ok (.aload_n 0, 1) := dk_42 (dk_at dksX20_sharesIt_2 8 rfl rfl)
theorem dX20_sharesIt_57 : decode cX20_sharesIt 57 = .ok (.aload_n 0, 1) := dk_42 (dk_at dksX20_sharesIt_2 9 rfl rfl)
theorem dX20_sharesIt_58 : decode cX20_sharesIt 58 = .ok (.getfield 374, 3) := dk_180 1 118 (dk_at dksX20_sharesIt_2 10 rfl rfl)
theorem dX20_sharesIt_61 : decode cX20_sharesIt 61 = .ok (.invokevirtual 368, 3) := dk_182 1 112 (dk_at dksX20_sharesIt_2 13 rfl rfl)
theorem dX20_sharesIt_64 : decode cX20_sharesIt 64 = .ok (.iadd, 1) := dk_96 (dk_at dksX20_sharesIt_2 16 rfl rfl)
theorem dX20_sharesIt_65 : decode cX20_sharesIt 65 = .ok (.ireturn, 1) := dk_172 (dk_at dksX20_sharesIt_2 17 rfl rfl)
theorem dX20_sharesIt_66 : decode cX20_sharesIt 66 = .ok (.aload_n 0, 1) := dk_42 (dk_at dksX20_sharesIt_2 18 rfl rfl)
theorem dX20_sharesIt_67 : decode cX20_sharesIt 67 = .ok (.iload_n 1, 1) := dk_27 (dk_at dksX20_sharesIt_2 19 rfl rfl)
theorem dX20_sharesIt_68 : decode cX20_sharesIt 68 = .ok (.invokevirtual 380, 3) := dk_182 1 124 (dk_at dksX20_sharesIt_2 20 rfl rfl)
theorem dX20_sharesIt_71 : decode cX20_sharesIt 71 = .ok (.ireturn, 1) := dk_172 (dk_at dksX20_sharesIt_2 23 rfl rfl)
abbrev cX20_plainShares : ByteArray := prog_38_method_86_code
def yX20_plainShares : MethodName := ⟨RX20, "plainShares", "(I)I"⟩
def dkwX20_plainShares_1 : List UInt8 := [27, 42, 180, 1, 118, 42, 180, 1, 100, 100, 108, 172]
abbrev dktX20_plainShares_1 : List UInt8 := dkwX20_plainShares_1 ++ []
def dkwX20_plainShares_0 : List UInt8 := [42, 16, 12, 182, 1, 97, 42, 180, 1, 118, 42, 180, 1, 100, 160, 0, 10, 42, 4, 181, 1, 121, 3, 172]
abbrev dktX20_plainShares_0 : List UInt8 := dkwX20_plainShares_0 ++ dktX20_plainShares_1
theorem dksX20_plainShares_0 : cX20_plainShares.data.toList.drop 0 = dktX20_plainShares_0 := by decide +kernel
theorem dksX20_plainShares_1 : cX20_plainShares.data.toList.drop 24 = dktX20_plainShares_1 := dk_seg dksX20_plainShares_0 24 rfl rfl
theorem dX20_plainShares_0 : decode cX20_plainShares 0 = .ok (.aload_n 0, 1) := dk_42 (dk_at dksX20_plainShares_0 0 rfl rfl)
theorem dX20_plainShares_1 : decode cX20_plainShares 1 = .ok (.bipush 12, 2) := dk_16 12 (dk_at dksX20_plainShares_0 1 rfl rfl)
theorem dX20_plainShares_3 : decode cX20_plainShares 3 = .ok (.invokevirtual 353, 3) := dk_182 1 97 (dk_at dksX20_plainShares_0 3 rfl rfl)
theorem dX20_plainShares_6 : decode cX20_plainShares 6 = .ok (.aload_n 0, 1) := dk_42 (dk_at dksX20_plainShares_0 6 rfl rfl)
theorem dX20_plainShares_7 : decode cX20_plainShares 7 = .ok (.getfield 374, 3) := dk_180 1 118 (dk_at dksX20_plainShares_0 7 rfl rfl)
theorem dX20_plainShares_10 : decode cX20_plainShares 10 = .ok (.aload_n 0, 1) := dk_42 (dk_at dksX20_plainShares_0 10 rfl rfl)
theorem dX20_plainShares_11 : decode cX20_plainShares 11 = .ok (.getfield 356, 3) := dk_180 1 100 (dk_at dksX20_plainShares_0 11 rfl rfl)
theorem dX20_plainShares_14 : decode cX20_plainShares 14 = .ok (.if_icmp .ne 10, 3) := dk_160 0 10 (dk_at dksX20_plainShares_0 14 rfl rfl)
theorem dX20_plainShares_17 : decode cX20_plainShares 17 = .ok (.aload_n 0, 1) := dk_42 (dk_at dksX20_plainShares_0 17 rfl rfl)
theorem dX20_plainShares_18 : decode cX20_plainShares 18 = .ok (.iconst 1, 1) := dk_4 (dk_at dksX20_plainShares_0 18 rfl rfl)
theorem dX20_plainShares_19 : decode cX20_plainShares 19 = .ok (.putfield 377, 3) := dk_181 1 121 (dk_at dksX20_plainShares_0 19 rfl rfl)
theorem dX20_plainShares_22 : decode cX20_plainShares 22 = .ok (.iconst 0, 1) := dk_3 (dk_at dksX20_plainShares_0 22 rfl rfl)
theorem dX20_plainShares_23 : decode cX20_plainShares 23 = .ok (.ireturn, 1) := dk_172 (dk_at dksX20_plainShares_0 23 rfl rfl)
theorem dX20_plainShares_24 : decode cX20_plainShares 24 = .ok (.iload_n 1, 1) := dk_27 (dk_at dksX20_plainShares_1 0 rfl rfl)
theorem dX20_plainShares_25 : decode cX20_plainShares 25 = .ok (.aload_n 0, 1) := dk_42 (dk_at dksX20_plainShares_1 1 rfl rfl)
theorem dX20_plainShares_26 : decode cX20_plainShares 26 = .ok (.getfield 374, 3) := dk_180 1 118 (dk_at dksX20_plainShares_1 2 rfl rfl)
theorem dX20_plainShares_29 : decode cX20_plainShares 29 = .ok (.aload_n 0, 1) := dk_42 (dk_at dksX20_plainShares_1 5 rfl rfl)
theorem dX20_plainShares_30 : decode cX20_plainShares 30 = .ok (.getfield 356, 3) := dk_180 1 100 (dk_at dksX20_plainShares_1 6 rfl rfl)
theorem dX20_plainShares_33 : decode cX20_plainShares 33 = .ok (.isub, 1) := dk_100 (dk_at dksX20_plainShares_1 9 rfl rfl)
theorem dX20_plainShares_34 : decode cX20_plainShares 34 = .ok (.idiv, 1) := dk_108 (dk_at dksX20_plainShares_1 10 rfl rfl)
theorem dX20_plainShares_35 : decode cX20_plainShares 35 = .ok (.ireturn, 1) := dk_172 (dk_at dksX20_plainShares_1 11 rfl rfl)
abbrev cX20_tellsIt : ByteArray := prog_38_method_89_code
def yX20_tellsIt : MethodName := ⟨RX20, "tellsIt", "(I)I"⟩
def dkwX20_tellsIt_2 : List UInt8 := [16, 60, 182, 1, 97, 42, 27, 182, 1, 130, 5, 104, 172, 42, 27, 182, 1, 130, 172]
abbrev dktX20_tellsIt_2 : List UInt8 := dkwX20_tellsIt_2 ++ []
def dkwX20_tellsIt_1 : List UInt8 := [182, 1, 130, 61, 28, 42, 42, 180, 1, 100, 182, 1, 133, 96, 172, 42, 180, 1, 106, 8, 160, 0, 17, 42]
abbrev dktX20_tellsIt_1 : List UInt8 := dkwX20_tellsIt_1 ++ dktX20_tellsIt_2
def dkwX20_tellsIt_0 : List UInt8 := [42, 180, 1, 106, 5, 159, 0, 11, 42, 180, 1, 106, 6, 160, 0, 26, 42, 16, 31, 182, 1, 97, 42, 27]
abbrev dktX20_tellsIt_0 : List UInt8 := dkwX20_tellsIt_0 ++ dktX20_tellsIt_1
theorem dksX20_tellsIt_0 : cX20_tellsIt.data.toList.drop 0 = dktX20_tellsIt_0 := by decide +kernel
theorem dksX20_tellsIt_1 : cX20_tellsIt.data.toList.drop 24 = dktX20_tellsIt_1 := dk_seg dksX20_tellsIt_0 24 rfl rfl
theorem dksX20_tellsIt_2 : cX20_tellsIt.data.toList.drop 48 = dktX20_tellsIt_2 := dk_seg dksX20_tellsIt_1 24 rfl rfl
theorem dX20_tellsIt_0 : decode cX20_tellsIt 0 = .ok (.aload_n 0, 1) := dk_42 (dk_at dksX20_tellsIt_0 0 rfl rfl)
theorem dX20_tellsIt_1 : decode cX20_tellsIt 1 = .ok (.getfield 362, 3) := dk_180 1 106 (dk_at dksX20_tellsIt_0 1 rfl rfl)
theorem dX20_tellsIt_4 : decode cX20_tellsIt 4 = .ok (.iconst 2, 1) := dk_5 (dk_at dksX20_tellsIt_0 4 rfl rfl)
theorem dX20_tellsIt_5 : decode cX20_tellsIt 5 = .ok (.if_icmp .eq 11, 3) := dk_159 0 11 (dk_at dksX20_tellsIt_0 5 rfl rfl)
theorem dX20_tellsIt_8 : decode cX20_tellsIt 8 = .ok (.aload_n 0, 1) := dk_42 (dk_at dksX20_tellsIt_0 8 rfl rfl)
theorem dX20_tellsIt_9 : decode cX20_tellsIt 9 = .ok (.getfield 362, 3) := dk_180 1 106 (dk_at dksX20_tellsIt_0 9 rfl rfl)
theorem dX20_tellsIt_12 : decode cX20_tellsIt 12 = .ok (.iconst 3, 1) := dk_6 (dk_at dksX20_tellsIt_0 12 rfl rfl)
theorem dX20_tellsIt_13 : decode cX20_tellsIt 13 = .ok (.if_icmp .ne 26, 3) := dk_160 0 26 (dk_at dksX20_tellsIt_0 13 rfl rfl)
theorem dX20_tellsIt_16 : decode cX20_tellsIt 16 = .ok (.aload_n 0, 1) := dk_42 (dk_at dksX20_tellsIt_0 16 rfl rfl)
theorem dX20_tellsIt_17 : decode cX20_tellsIt 17 = .ok (.bipush 31, 2) := dk_16 31 (dk_at dksX20_tellsIt_0 17 rfl rfl)
theorem dX20_tellsIt_19 : decode cX20_tellsIt 19 = .ok (.invokevirtual 353, 3) := dk_182 1 97 (dk_at dksX20_tellsIt_0 19 rfl rfl)
theorem dX20_tellsIt_22 : decode cX20_tellsIt 22 = .ok (.aload_n 0, 1) := dk_42 (dk_at dksX20_tellsIt_0 22 rfl rfl)
theorem dX20_tellsIt_23 : decode cX20_tellsIt 23 = .ok (.iload_n 1, 1) := dk_27 (dk_at dksX20_tellsIt_0 23 rfl rfl)
theorem dX20_tellsIt_24 : decode cX20_tellsIt 24 = .ok (.invokevirtual 386, 3) := dk_182 1 130 (dk_at dksX20_tellsIt_1 0 rfl rfl)
theorem dX20_tellsIt_27 : decode cX20_tellsIt 27 = .ok (.istore_n 2, 1) := dk_61 (dk_at dksX20_tellsIt_1 3 rfl rfl)
theorem dX20_tellsIt_28 : decode cX20_tellsIt 28 = .ok (.iload_n 2, 1) := dk_28 (dk_at dksX20_tellsIt_1 4 rfl rfl)
theorem dX20_tellsIt_29 : decode cX20_tellsIt 29 = .ok (.aload_n 0, 1) := dk_42 (dk_at dksX20_tellsIt_1 5 rfl rfl)
theorem dX20_tellsIt_30 : decode cX20_tellsIt 30 = .ok (.aload_n 0, 1) := dk_42 (dk_at dksX20_tellsIt_1 6 rfl rfl)
theorem dX20_tellsIt_31 : decode cX20_tellsIt 31 = .ok (.getfield 356, 3) := dk_180 1 100 (dk_at dksX20_tellsIt_1 7 rfl rfl)
theorem dX20_tellsIt_34 : decode cX20_tellsIt 34 = .ok (.invokevirtual 389, 3) := dk_182 1 133 (dk_at dksX20_tellsIt_1 10 rfl rfl)
theorem dX20_tellsIt_37 : decode cX20_tellsIt 37 = .ok (.iadd, 1) := dk_96 (dk_at dksX20_tellsIt_1 13 rfl rfl)
theorem dX20_tellsIt_38 : decode cX20_tellsIt 38 = .ok (.ireturn, 1) := dk_172 (dk_at dksX20_tellsIt_1 14 rfl rfl)
theorem dX20_tellsIt_39 : decode cX20_tellsIt 39 = .ok (.aload_n 0, 1) := dk_42 (dk_at dksX20_tellsIt_1 15 rfl rfl)
theorem dX20_tellsIt_40 : decode cX20_tellsIt 40 = .ok (.getfield 362, 3) := dk_180 1 106 (dk_at dksX20_tellsIt_1 16 rfl rfl)
theorem dX20_tellsIt_43 : decode cX20_tellsIt 43 = .ok (.iconst 5, 1) := dk_8 (dk_at dksX20_tellsIt_1 19 rfl rfl)
theorem dX20_tellsIt_44 : decode cX20_tellsIt 44 = .ok (.if_icmp .ne 17, 3) := dk_160 0 17 (dk_at dksX20_tellsIt_1 20 rfl rfl)
theorem dX20_tellsIt_47 : decode cX20_tellsIt 47 = .ok (.aload_n 0, 1) := dk_42 (dk_at dksX20_tellsIt_1 23 rfl rfl)
theorem dX20_tellsIt_48 : decode cX20_tellsIt 48 = .ok (.bipush 60, 2) := dk_16 60 (dk_at dksX20_tellsIt_2 0 rfl rfl)
theorem dX20_tellsIt_50 : decode cX20_tellsIt 50 = .ok (.invokevirtual 353, 3) := dk_182 1 97 (dk_at dksX20_tellsIt_2 2 rfl rfl)
theorem dX20_tellsIt_53 : decode cX20_tellsIt 53 = .ok (.aload_n 0, 1) := dk_42 (dk_at dksX20_tellsIt_2 5 rfl rfl)
theorem dX20_tellsIt_54 : decode cX20_tellsIt 54 = .ok (.iload_n 1, 1) := dk_27 (dk_at dksX20_tellsIt_2 6 rfl rfl)
theorem dX20_tellsIt_55 : decode cX20_tellsIt 55 = .ok (.invokevirtual 386, 3) := dk_182 1 130 (dk_at dksX20_tellsIt_2 7 rfl rfl)
theorem dX20_tellsIt_58 : decode cX20_tellsIt 58 = .ok (.iconst 2, 1) := dk_5 (dk_at dksX20_tellsIt_2 10 rfl rfl)
theorem dX20_tellsIt_59 : decode cX20_tellsIt 59 = .ok (.imul, 1) := dk_104 (dk_at dksX20_tellsIt_2 11 rfl rfl)
theorem dX20_tellsIt_60 : decode cX20_tellsIt 60 = .ok (.ireturn, 1) := dk_172 (dk_at dksX20_tellsIt_2 12 rfl rfl)
theorem dX20_tellsIt_61 : decode cX20_tellsIt 61 = .ok (.aload_n 0, 1) := dk_42 (dk_at dksX20_tellsIt_2 13 rfl rfl)
theorem dX20_tellsIt_62 : decode cX20_tellsIt 62 = .ok (.iload_n 1, 1) := dk_27 (dk_at dksX20_tellsIt_2 14 rfl rfl)
theorem dX20_tellsIt_63 : decode cX20_tellsIt 63 = .ok (.invokevirtual 386, 3) := dk_182 1 130 (dk_at dksX20_tellsIt_2 15 rfl rfl)
theorem dX20_tellsIt_66 : decode cX20_tellsIt 66 = .ok (.ireturn, 1) := dk_172 (dk_at dksX20_tellsIt_2 18 rfl rfl)
abbrev cX20_plainTells : ByteArray := prog_38_method_88_code
def yX20_plainTells : MethodName := ⟨RX20, "plainTells", "(I)I"⟩
def dkwX20_plainTells_0 : List UInt8 := [42, 16, 13, 182, 1, 97, 42, 27, 182, 1, 127, 42, 180, 1, 118, 130, 172]
abbrev dktX20_plainTells_0 : List UInt8 := dkwX20_plainTells_0 ++ []
theorem dksX20_plainTells_0 : cX20_plainTells.data.toList.drop 0 = dktX20_plainTells_0 := by decide +kernel
theorem dX20_plainTells_0 : decode cX20_plainTells 0 = .ok (.aload_n 0, 1) := dk_42 (dk_at dksX20_plainTells_0 0 rfl rfl)
theorem dX20_plainTells_1 : decode cX20_plainTells 1 = .ok (.bipush 13, 2) := dk_16 13 (dk_at dksX20_plainTells_0 1 rfl rfl)
theorem dX20_plainTells_3 : decode cX20_plainTells 3 = .ok (.invokevirtual 353, 3) := dk_182 1 97 (dk_at dksX20_plainTells_0 3 rfl rfl)
theorem dX20_plainTells_6 : decode cX20_plainTells 6 = .ok (.aload_n 0, 1) := dk_42 (dk_at dksX20_plainTells_0 6 rfl rfl)
theorem dX20_plainTells_7 : decode cX20_plainTells 7 = .ok (.iload_n 1, 1) := dk_27 (dk_at dksX20_plainTells_0 7 rfl rfl)
theorem dX20_plainTells_8 : decode cX20_plainTells 8 = .ok (.invokevirtual 383, 3) := dk_182 1 127 (dk_at dksX20_plainTells_0 8 rfl rfl)
theorem dX20_plainTells_11 : decode cX20_plainTells 11 = .ok (.aload_n 0, 1) := dk_42 (dk_at dksX20_plainTells_0 11 rfl rfl)
theorem dX20_plainTells_12 : decode cX20_plainTells 12 = .ok (.getfield 374, 3) := dk_180 1 118 (dk_at dksX20_plainTells_0 12 rfl rfl)
theorem dX20_plainTells_15 : decode cX20_plainTells 15 = .ok (.ixor, 1) := dk_130 (dk_at dksX20_plainTells_0 15 rfl rfl)
theorem dX20_plainTells_16 : decode cX20_plainTells 16 = .ok (.ireturn, 1) := dk_172 (dk_at dksX20_plainTells_0 16 rfl rfl)
abbrev cX20_trace : ByteArray := prog_38_method_91_code
def yX20_trace : MethodName := ⟨RX20, "trace", "(I)I"⟩
def dkwX20_trace_1 : List UInt8 := [16, 253, 172]
abbrev dktX20_trace_1 : List UInt8 := dkwX20_trace_1 ++ []
def dkwX20_trace_0 : List UInt8 := [27, 3, 42, 180, 1, 94, 4, 100, 184, 0, 100, 153, 0, 12, 42, 180, 0, 91, 27, 46, 167, 0, 5]
abbrev dktX20_trace_0 : List UInt8 := dkwX20_trace_0 ++ dktX20_trace_1
theorem dksX20_trace_0 : cX20_trace.data.toList.drop 0 = dktX20_trace_0 := by decide +kernel
theorem dksX20_trace_1 : cX20_trace.data.toList.drop 23 = dktX20_trace_1 := dk_seg dksX20_trace_0 23 rfl rfl
theorem dX20_trace_0 : decode cX20_trace 0 = .ok (.iload_n 1, 1) := dk_27 (dk_at dksX20_trace_0 0 rfl rfl)
theorem dX20_trace_1 : decode cX20_trace 1 = .ok (.iconst 0, 1) := dk_3 (dk_at dksX20_trace_0 1 rfl rfl)
theorem dX20_trace_2 : decode cX20_trace 2 = .ok (.aload_n 0, 1) := dk_42 (dk_at dksX20_trace_0 2 rfl rfl)
theorem dX20_trace_3 : decode cX20_trace 3 = .ok (.getfield 350, 3) := dk_180 1 94 (dk_at dksX20_trace_0 3 rfl rfl)
theorem dX20_trace_6 : decode cX20_trace 6 = .ok (.iconst 1, 1) := dk_4 (dk_at dksX20_trace_0 6 rfl rfl)
theorem dX20_trace_7 : decode cX20_trace 7 = .ok (.isub, 1) := dk_100 (dk_at dksX20_trace_0 7 rfl rfl)
theorem dX20_trace_8 : decode cX20_trace 8 = .ok (.invokestatic 100, 3) := dk_184 0 100 (dk_at dksX20_trace_0 8 rfl rfl)
theorem dX20_trace_11 : decode cX20_trace 11 = .ok (.ifCond .eq 12, 3) := dk_153 0 12 (dk_at dksX20_trace_0 11 rfl rfl)
theorem dX20_trace_14 : decode cX20_trace 14 = .ok (.aload_n 0, 1) := dk_42 (dk_at dksX20_trace_0 14 rfl rfl)
theorem dX20_trace_15 : decode cX20_trace 15 = .ok (.getfield 91, 3) := dk_180 0 91 (dk_at dksX20_trace_0 15 rfl rfl)
theorem dX20_trace_18 : decode cX20_trace 18 = .ok (.iload_n 1, 1) := dk_27 (dk_at dksX20_trace_0 18 rfl rfl)
theorem dX20_trace_19 : decode cX20_trace 19 = .ok (.iaload, 1) := dk_46 (dk_at dksX20_trace_0 19 rfl rfl)
theorem dX20_trace_20 : decode cX20_trace 20 = .ok (.goto 5, 3) := dk_167 0 5 (dk_at dksX20_trace_0 20 rfl rfl)
theorem dX20_trace_23 : decode cX20_trace 23 = .ok (.bipush (-3), 2) := dk_16 253 (dk_at dksX20_trace_1 0 rfl rfl)
theorem dX20_trace_25 : decode cX20_trace 25 = .ok (.ireturn, 1) := dk_172 (dk_at dksX20_trace_1 2 rfl rfl)
abbrev cX20_many : ByteArray := prog_38_method_92_code
def yX20_many : MethodName := ⟨RX20, "many", "(I)I"⟩
def dkwX20_many_3 : List UInt8 := [172, 2, 172]
abbrev dktX20_many_3 : List UInt8 := dkwX20_many_3 ++ []
def dkwX20_many_2 : List UInt8 := [42, 180, 0, 235, 172, 42, 180, 1, 59, 172, 42, 180, 1, 68, 172, 42, 180, 0, 107, 172, 42, 180, 1, 94]
abbrev dktX20_many_2 : List UInt8 := dkwX20_many_2 ++ dktX20_many_3
def dkwX20_many_1 : List UInt8 := [170, 0, 0, 0, 0, 0, 60, 0, 0, 0, 0, 0, 0, 0, 4, 0, 0, 0, 35, 0, 0, 0, 40, 0, 0, 0, 45, 0, 0, 0, 50, 0, 0, 0, 55]
abbrev dktX20_many_1 : List UInt8 := dkwX20_many_1 ++ dktX20_many_2
def dkwX20_many_0 : List UInt8 := [27]
abbrev dktX20_many_0 : List UInt8 := dkwX20_many_0 ++ dktX20_many_1
theorem dksX20_many_0 : cX20_many.data.toList.drop 0 = dktX20_many_0 := by decide +kernel
theorem dksX20_many_1 : cX20_many.data.toList.drop 1 = dktX20_many_1 := dk_seg dksX20_many_0 1 rfl rfl
theorem dksX20_many_2 : cX20_many.data.toList.drop 36 = dktX20_many_2 := dk_seg dksX20_many_1 35 rfl rfl
theorem dksX20_many_3 : cX20_many.data.toList.drop 60 = dktX20_many_3 := dk_seg dksX20_many_2 24 rfl rfl
theorem dX20_many_0 : decode cX20_many 0 = .ok (.iload_n 1, 1) := dk_27 (dk_at dksX20_many_0 0 rfl rfl)
theorem dX20_many_1 : decode cX20_many 1 = .ok (.tableswitch 60 0 4 #[35, 40, 45, 50, 55], 35) := by decide +kernel
theorem dX20_many_36 : decode cX20_many 36 = .ok (.aload_n 0, 1) := dk_42 (dk_at dksX20_many_2 0 rfl rfl)
theorem dX20_many_37 : decode cX20_many 37 = .ok (.getfield 235, 3) := dk_180 0 235 (dk_at dksX20_many_2 1 rfl rfl)
theorem dX20_many_40 : decode cX20_many 40 = .ok (.ireturn, 1) := dk_172 (dk_at dksX20_many_2 4 rfl rfl)
theorem dX20_many_41 : decode cX20_many 41 = .ok (.aload_n 0, 1) := dk_42 (dk_at dksX20_many_2 5 rfl rfl)
theorem dX20_many_42 : decode cX20_many 42 = .ok (.getfield 315, 3) := dk_180 1 59 (dk_at dksX20_many_2 6 rfl rfl)
theorem dX20_many_45 : decode cX20_many 45 = .ok (.ireturn, 1) := dk_172 (dk_at dksX20_many_2 9 rfl rfl)
theorem dX20_many_46 : decode cX20_many 46 = .ok (.aload_n 0, 1) := dk_42 (dk_at dksX20_many_2 10 rfl rfl)
theorem dX20_many_47 : decode cX20_many 47 = .ok (.getfield 324, 3) := dk_180 1 68 (dk_at dksX20_many_2 11 rfl rfl)
theorem dX20_many_50 : decode cX20_many 50 = .ok (.ireturn, 1) := dk_172 (dk_at dksX20_many_2 14 rfl rfl)
theorem dX20_many_51 : decode cX20_many 51 = .ok (.aload_n 0, 1) := dk_42 (dk_at dksX20_many_2 15 rfl rfl)
theorem dX20_many_52 : decode cX20_many 52 = .ok (.getfield 107, 3) := dk_180 0 107 (dk_at dksX20_many_2 16 rfl rfl)
theorem dX20_many_55 : decode cX20_many 55 = .ok (.ireturn, 1) := dk_172 (dk_at dksX20_many_2 19 rfl rfl)
theorem dX20_many_56 : decode cX20_many 56 = .ok (.aload_n 0, 1) := dk_42 (dk_at dksX20_many_2 20 rfl rfl)
theorem dX20_many_57 : decode cX20_many 57 = .ok (.getfield 350, 3) := dk_180 1 94 (dk_at dksX20_many_2 21 rfl rfl)
theorem dX20_many_60 : decode cX20_many 60 = .ok (.ireturn, 1) := dk_172 (dk_at dksX20_many_3 0 rfl rfl)
theorem dX20_many_61 : decode cX20_many 61 = .ok (.iconst (-1), 1) := dk_2 (dk_at dksX20_many_3 1 rfl rfl)
theorem dX20_many_62 : decode cX20_many 62 = .ok (.ireturn, 1) := dk_172 (dk_at dksX20_many_3 2 rfl rfl)
abbrev cX20_keep : ByteArray := prog_38_method_95_code
def yX20_keep : MethodName := ⟨RX20, "keep", "()I"⟩
def dkwX20_keep_0 : List UInt8 := [42, 4, 182, 1, 146, 42, 4, 181, 1, 150, 4, 172]
abbrev dktX20_keep_0 : List UInt8 := dkwX20_keep_0 ++ []
theorem dksX20_keep_0 : cX20_keep.data.toList.drop 0 = dktX20_keep_0 := by decide +kernel
theorem dX20_keep_0 : decode cX20_keep 0 = .ok (.aload_n 0, 1) := dk_42 (dk_at dksX20_keep_0 0 rfl rfl)
theorem dX20_keep_1 : decode cX20_keep 1 = .ok (.iconst 1, 1) := dk_4 (dk_at dksX20_keep_0 1 rfl rfl)
theorem dX20_keep_2 : decode cX20_keep 2 = .ok (.invokevirtual 402, 3) := dk_182 1 146 (dk_at dksX20_keep_0 2 rfl rfl)
theorem dX20_keep_5 : decode cX20_keep 5 = .ok (.aload_n 0, 1) := dk_42 (dk_at dksX20_keep_0 5 rfl rfl)
theorem dX20_keep_6 : decode cX20_keep 6 = .ok (.iconst 1, 1) := dk_4 (dk_at dksX20_keep_0 6 rfl rfl)
theorem dX20_keep_7 : decode cX20_keep 7 = .ok (.putfield 406, 3) := dk_181 1 150 (dk_at dksX20_keep_0 7 rfl rfl)
theorem dX20_keep_10 : decode cX20_keep 10 = .ok (.iconst 1, 1) := dk_4 (dk_at dksX20_keep_0 10 rfl rfl)
theorem dX20_keep_11 : decode cX20_keep 11 = .ok (.ireturn, 1) := dk_172 (dk_at dksX20_keep_0 11 rfl rfl)
abbrev cX20_moveAll : ByteArray := prog_38_method_94_code
def yX20_moveAll : MethodName := ⟨RX20, "moveAll", "(Z)V"⟩
def dkwX20_moveAll_5 : List UInt8 := [17, 0, 200, 27, 182, 1, 142, 177]
abbrev dktX20_moveAll_5 : List UInt8 := dkwX20_moveAll_5 ++ []
def dkwX20_moveAll_4 : List UInt8 := [16, 20, 27, 182, 1, 142, 42, 42, 180, 0, 37, 16, 24, 27, 182, 1, 142, 42, 42, 180, 0, 40]
abbrev dktX20_moveAll_4 : List UInt8 := dkwX20_moveAll_4 ++ dktX20_moveAll_5
def dkwX20_moveAll_3 : List UInt8 := [180, 0, 22, 16, 24, 27, 182, 1, 142, 42, 42, 180, 0, 25, 8, 27, 182, 1, 142, 42, 42, 180, 0, 34]
abbrev dktX20_moveAll_3 : List UInt8 := dkwX20_moveAll_3 ++ dktX20_moveAll_4
def dkwX20_moveAll_2 : List UInt8 := [180, 0, 7, 16, 7, 27, 182, 1, 142, 42, 42, 180, 0, 19, 16, 24, 27, 182, 1, 142, 42, 42]
abbrev dktX20_moveAll_2 : List UInt8 := dkwX20_moveAll_2 ++ dktX20_moveAll_3
def dkwX20_moveAll_1 : List UInt8 := [79, 42, 180, 0, 97, 5, 42, 180, 0, 43, 79, 42, 42, 180, 0, 97, 6, 27, 182, 1, 142, 42, 42]
abbrev dktX20_moveAll_1 : List UInt8 := dkwX20_moveAll_1 ++ dktX20_moveAll_2
def dkwX20_moveAll_0 : List UInt8 := [42, 3, 181, 1, 139, 42, 180, 0, 97, 3, 42, 180, 1, 59, 79, 42, 180, 0, 97, 4, 42, 180, 0, 235]
abbrev dktX20_moveAll_0 : List UInt8 := dkwX20_moveAll_0 ++ dktX20_moveAll_1
theorem dksX20_moveAll_0 : cX20_moveAll.data.toList.drop 0 = dktX20_moveAll_0 := by decide +kernel
theorem dksX20_moveAll_1 : cX20_moveAll.data.toList.drop 24 = dktX20_moveAll_1 := dk_seg dksX20_moveAll_0 24 rfl rfl
theorem dksX20_moveAll_2 : cX20_moveAll.data.toList.drop 47 = dktX20_moveAll_2 := dk_seg dksX20_moveAll_1 23 rfl rfl
theorem dksX20_moveAll_3 : cX20_moveAll.data.toList.drop 69 = dktX20_moveAll_3 := dk_seg dksX20_moveAll_2 22 rfl rfl
theorem dksX20_moveAll_4 : cX20_moveAll.data.toList.drop 93 = dktX20_moveAll_4 := dk_seg dksX20_moveAll_3 24 rfl rfl
theorem dksX20_moveAll_5 : cX20_moveAll.data.toList.drop 115 = dktX20_moveAll_5 := dk_seg dksX20_moveAll_4 22 rfl rfl
theorem dX20_moveAll_0 : decode cX20_moveAll 0 = .ok (.aload_n 0, 1) := dk_42 (dk_at dksX20_moveAll_0 0 rfl rfl)
theorem dX20_moveAll_1 : decode cX20_moveAll 1 = .ok (.iconst 0, 1) := dk_3 (dk_at dksX20_moveAll_0 1 rfl rfl)
theorem dX20_moveAll_2 : decode cX20_moveAll 2 = .ok (.putfield 395, 3) := dk_181 1 139 (dk_at dksX20_moveAll_0 2 rfl rfl)
theorem dX20_moveAll_5 : decode cX20_moveAll 5 = .ok (.aload_n 0, 1) := dk_42 (dk_at dksX20_moveAll_0 5 rfl rfl)
theorem dX20_moveAll_6 : decode cX20_moveAll 6 = .ok (.getfield 97, 3) := dk_180 0 97 (dk_at dksX20_moveAll_0 6 rfl rfl)
theorem dX20_moveAll_9 : decode cX20_moveAll 9 = .ok (.iconst 0, 1) := dk_3 (dk_at dksX20_moveAll_0 9 rfl rfl)
theorem dX20_moveAll_10 : decode cX20_moveAll 10 = .ok (.aload_n 0, 1) := dk_42 (dk_at dksX20_moveAll_0 10 rfl rfl)
theorem dX20_moveAll_11 : decode cX20_moveAll 11 = .ok (.getfield 315, 3) := dk_180 1 59 (dk_at dksX20_moveAll_0 11 rfl rfl)
theorem dX20_moveAll_14 : decode cX20_moveAll 14 = .ok (.iastore, 1) := dk_79 (dk_at dksX20_moveAll_0 14 rfl rfl)
theorem dX20_moveAll_15 : decode cX20_moveAll 15 = .ok (.aload_n 0, 1) := dk_42 (dk_at dksX20_moveAll_0 15 rfl rfl)
theorem dX20_moveAll_16 : decode cX20_moveAll 16 = .ok (.getfield 97, 3) := dk_180 0 97 (dk_at dksX20_moveAll_0 16 rfl rfl)
theorem dX20_moveAll_19 : decode cX20_moveAll 19 = .ok (.iconst 1, 1) := dk_4 (dk_at dksX20_moveAll_0 19 rfl rfl)
theorem dX20_moveAll_20 : decode cX20_moveAll 20 = .ok (.aload_n 0, 1) := dk_42 (dk_at dksX20_moveAll_0 20 rfl rfl)
theorem dX20_moveAll_21 : decode cX20_moveAll 21 = .ok (.getfield 235, 3) := dk_180 0 235 (dk_at dksX20_moveAll_0 21 rfl rfl)
theorem dX20_moveAll_24 : decode cX20_moveAll 24 = .ok (.iastore, 1) := dk_79 (dk_at dksX20_moveAll_1 0 rfl rfl)
theorem dX20_moveAll_25 : decode cX20_moveAll 25 = .ok (.aload_n 0, 1) := dk_42 (dk_at dksX20_moveAll_1 1 rfl rfl)
theorem dX20_moveAll_26 : decode cX20_moveAll 26 = .ok (.getfield 97, 3) := dk_180 0 97 (dk_at dksX20_moveAll_1 2 rfl rfl)
theorem dX20_moveAll_29 : decode cX20_moveAll 29 = .ok (.iconst 2, 1) := dk_5 (dk_at dksX20_moveAll_1 5 rfl rfl)
theorem dX20_moveAll_30 : decode cX20_moveAll 30 = .ok (.aload_n 0, 1) := dk_42 (dk_at dksX20_moveAll_1 6 rfl rfl)
theorem dX20_moveAll_31 : decode cX20_moveAll 31 = .ok (.getfield 43, 3) := dk_180 0 43 (dk_at dksX20_moveAll_1 7 rfl rfl)
theorem dX20_moveAll_34 : decode cX20_moveAll 34 = .ok (.iastore, 1) := dk_79 (dk_at dksX20_moveAll_1 10 rfl rfl)
theorem dX20_moveAll_35 : decode cX20_moveAll 35 = .ok (.aload_n 0, 1) := dk_42 (dk_at dksX20_moveAll_1 11 rfl rfl)
theorem dX20_moveAll_36 : decode cX20_moveAll 36 = .ok (.aload_n 0, 1) := dk_42 (dk_at dksX20_moveAll_1 12 rfl rfl)
theorem dX20_moveAll_37 : decode cX20_moveAll 37 = .ok (.getfield 97, 3) := dk_180 0 97 (dk_at dksX20_moveAll_1 13 rfl rfl)
theorem dX20_moveAll_40 : decode cX20_moveAll 40 = .ok (.iconst 3, 1) := dk_6 (dk_at dksX20_moveAll_1 16 rfl rfl)
theorem dX20_moveAll_41 : decode cX20_moveAll 41 = .ok (.iload_n 1, 1) := dk_27 (dk_at dksX20_moveAll_1 17 rfl rfl)
theorem dX20_moveAll_42 : decode cX20_moveAll 42 = .ok (.invokevirtual 398, 3) := dk_182 1 142 (dk_at dksX20_moveAll_1 18 rfl rfl)
theorem dX20_moveAll_45 : decode cX20_moveAll 45 = .ok (.aload_n 0, 1) := dk_42 (dk_at dksX20_moveAll_1 21 rfl rfl)
theorem dX20_moveAll_46 : decode cX20_moveAll 46 = .ok (.aload_n 0, 1) := dk_42 (dk_at dksX20_moveAll_1 22 rfl rfl)
theorem dX20_moveAll_47 : decode cX20_moveAll 47 = .ok (.getfield 7, 3) := dk_180 0 7 (dk_at dksX20_moveAll_2 0 rfl rfl)
theorem dX20_moveAll_50 : decode cX20_moveAll 50 = .ok (.bipush 7, 2) := dk_16 7 (dk_at dksX20_moveAll_2 3 rfl rfl)
theorem dX20_moveAll_52 : decode cX20_moveAll 52 = .ok (.iload_n 1, 1) := dk_27 (dk_at dksX20_moveAll_2 5 rfl rfl)
theorem dX20_moveAll_53 : decode cX20_moveAll 53 = .ok (.invokevirtual 398, 3) := dk_182 1 142 (dk_at dksX20_moveAll_2 6 rfl rfl)
theorem dX20_moveAll_56 : decode cX20_moveAll 56 = .ok (.aload_n 0, 1) := dk_42 (dk_at dksX20_moveAll_2 9 rfl rfl)
theorem dX20_moveAll_57 : decode cX20_moveAll 57 = .ok (.aload_n 0, 1) := dk_42 (dk_at dksX20_moveAll_2 10 rfl rfl)
theorem dX20_moveAll_58 : decode cX20_moveAll 58 = .ok (.getfield 19, 3) := dk_180 0 19 (dk_at dksX20_moveAll_2 11 rfl rfl)
theorem dX20_moveAll_61 : decode cX20_moveAll 61 = .ok (.bipush 24, 2) := dk_16 24 (dk_at dksX20_moveAll_2 14 rfl rfl)
theorem dX20_moveAll_63 : decode cX20_moveAll 63 = .ok (.iload_n 1, 1) := dk_27 (dk_at dksX20_moveAll_2 16 rfl rfl)
theorem dX20_moveAll_64 : decode cX20_moveAll 64 = .ok (.invokevirtual 398, 3) := dk_182 1 142 (dk_at dksX20_moveAll_2 17 rfl rfl)
theorem dX20_moveAll_67 : decode cX20_moveAll 67 = .ok (.aload_n 0, 1) := dk_42 (dk_at dksX20_moveAll_2 20 rfl rfl)
theorem dX20_moveAll_68 : decode cX20_moveAll 68 = .ok (.aload_n 0, 1) := dk_42 (dk_at dksX20_moveAll_2 21 rfl rfl)
theorem dX20_moveAll_69 : decode cX20_moveAll 69 = .ok (.getfield 22, 3) := dk_180 0 22 (dk_at dksX20_moveAll_3 0 rfl rfl)
theorem dX20_moveAll_72 : decode cX20_moveAll 72 = .ok (.bipush 24, 2) := dk_16 24 (dk_at dksX20_moveAll_3 3 rfl rfl)
theorem dX20_moveAll_74 : decode cX20_moveAll 74 = .ok (.iload_n 1, 1) := dk_27 (dk_at dksX20_moveAll_3 5 rfl rfl)
theorem dX20_moveAll_75 : decode cX20_moveAll 75 = .ok (.invokevirtual 398, 3) := dk_182 1 142 (dk_at dksX20_moveAll_3 6 rfl rfl)
theorem dX20_moveAll_78 : decode cX20_moveAll 78 = .ok (.aload_n 0, 1) := dk_42 (dk_at dksX20_moveAll_3 9 rfl rfl)
theorem dX20_moveAll_79 : decode cX20_moveAll 79 = .ok (.aload_n 0, 1) := dk_42 (dk_at dksX20_moveAll_3 10 rfl rfl)
theorem dX20_moveAll_80 : decode cX20_moveAll 80 = .ok (.getfield 25, 3) := dk_180 0 25 (dk_at dksX20_moveAll_3 11 rfl rfl)
theorem dX20_moveAll_83 : decode cX20_moveAll 83 = .ok (.iconst 5, 1) := dk_8 (dk_at dksX20_moveAll_3 14 rfl rfl)
theorem dX20_moveAll_84 : decode cX20_moveAll 84 = .ok (.iload_n 1, 1) := dk_27 (dk_at dksX20_moveAll_3 15 rfl rfl)
theorem dX20_moveAll_85 : decode cX20_moveAll 85 = .ok (.invokevirtual 398, 3) := dk_182 1 142 (dk_at dksX20_moveAll_3 16 rfl rfl)
theorem dX20_moveAll_88 : decode cX20_moveAll 88 = .ok (.aload_n 0, 1) := dk_42 (dk_at dksX20_moveAll_3 19 rfl rfl)
theorem dX20_moveAll_89 : decode cX20_moveAll 89 = .ok (.aload_n 0, 1) := dk_42 (dk_at dksX20_moveAll_3 20 rfl rfl)
theorem dX20_moveAll_90 : decode cX20_moveAll 90 = .ok (.getfield 34, 3) := dk_180 0 34 (dk_at dksX20_moveAll_3 21 rfl rfl)
theorem dX20_moveAll_93 : decode cX20_moveAll 93 = .ok (.bipush 20, 2) := dk_16 20 (dk_at dksX20_moveAll_4 0 rfl rfl)
theorem dX20_moveAll_95 : decode cX20_moveAll 95 = .ok (.iload_n 1, 1) := dk_27 (dk_at dksX20_moveAll_4 2 rfl rfl)
theorem dX20_moveAll_96 : decode cX20_moveAll 96 = .ok (.invokevirtual 398, 3) := dk_182 1 142 (dk_at dksX20_moveAll_4 3 rfl rfl)
theorem dX20_moveAll_99 : decode cX20_moveAll 99 = .ok (.aload_n 0, 1) := dk_42 (dk_at dksX20_moveAll_4 6 rfl rfl)
theorem dX20_moveAll_100 : decode cX20_moveAll 100 = .ok (.aload_n 0, 1) := dk_42 (dk_at dksX20_moveAll_4 7 rfl rfl)
theorem dX20_moveAll_101 : decode cX20_moveAll 101 = .ok (.getfield 37, 3) := dk_180 0 37 (dk_at dksX20_moveAll_4 8 rfl rfl)
theorem dX20_moveAll_104 : decode cX20_moveAll 104 = .ok (.bipush 24, 2) := dk_16 24 (dk_at dksX20_moveAll_4 11 rfl rfl)
theorem dX20_moveAll_106 : decode cX20_moveAll 106 = .ok (.iload_n 1, 1) := dk_27 (dk_at dksX20_moveAll_4 13 rfl rfl)
theorem dX20_moveAll_107 : decode cX20_moveAll 107 = .ok (.invokevirtual 398, 3) := dk_182 1 142 (dk_at dksX20_moveAll_4 14 rfl rfl)
theorem dX20_moveAll_110 : decode cX20_moveAll 110 = .ok (.aload_n 0, 1) := dk_42 (dk_at dksX20_moveAll_4 17 rfl rfl)
theorem dX20_moveAll_111 : decode cX20_moveAll 111 = .ok (.aload_n 0, 1) := dk_42 (dk_at dksX20_moveAll_4 18 rfl rfl)
theorem dX20_moveAll_112 : decode cX20_moveAll 112 = .ok (.getfield 40, 3) := dk_180 0 40 (dk_at dksX20_moveAll_4 19 rfl rfl)
theorem dX20_moveAll_115 : decode cX20_moveAll 115 = .ok (.sipush 200, 3) := dk_17 0 200 (dk_at dksX20_moveAll_5 0 rfl rfl)
theorem dX20_moveAll_118 : decode cX20_moveAll 118 = .ok (.iload_n 1, 1) := dk_27 (dk_at dksX20_moveAll_5 3 rfl rfl)
theorem dX20_moveAll_119 : decode cX20_moveAll 119 = .ok (.invokevirtual 398, 3) := dk_182 1 142 (dk_at dksX20_moveAll_5 4 rfl rfl)
theorem dX20_moveAll_122 : decode cX20_moveAll 122 = .ok (.return_, 1) := dk_177 (dk_at dksX20_moveAll_5 7 rfl rfl)
abbrev cX20_moveRow : ByteArray := prog_38_method_93_code
def yX20_moveRow : MethodName := ⟨RX20, "moveRow", "([IIZ)V"⟩
def dkwX20_moveRow_2 : List UInt8 := [96, 181, 1, 139, 132, 4, 1, 167, 255, 204, 177]
abbrev dktX20_moveRow_2 : List UInt8 := dkwX20_moveRow_2 ++ []
def dkwX20_moveRow_1 : List UInt8 := [46, 79, 167, 0, 16, 43, 21, 4, 42, 180, 0, 94, 42, 180, 1, 139, 46, 79, 42, 89, 180, 1, 139, 4]
abbrev dktX20_moveRow_1 : List UInt8 := dkwX20_moveRow_1 ++ dktX20_moveRow_2
def dkwX20_moveRow_0 : List UInt8 := [3, 54, 4, 21, 4, 28, 162, 0, 52, 29, 153, 0, 19, 42, 180, 0, 94, 42, 180, 1, 139, 43, 21, 4]
abbrev dktX20_moveRow_0 : List UInt8 := dkwX20_moveRow_0 ++ dktX20_moveRow_1
theorem dksX20_moveRow_0 : cX20_moveRow.data.toList.drop 0 = dktX20_moveRow_0 := by decide +kernel
theorem dksX20_moveRow_1 : cX20_moveRow.data.toList.drop 24 = dktX20_moveRow_1 := dk_seg dksX20_moveRow_0 24 rfl rfl
theorem dksX20_moveRow_2 : cX20_moveRow.data.toList.drop 48 = dktX20_moveRow_2 := dk_seg dksX20_moveRow_1 24 rfl rfl
theorem dX20_moveRow_0 : decode cX20_moveRow 0 = .ok (.iconst 0, 1) := dk_3 (dk_at dksX20_moveRow_0 0 rfl rfl)
theorem dX20_moveRow_1 : decode cX20_moveRow 1 = .ok (.istore 4, 2) := dk_54 4 (dk_at dksX20_moveRow_0 1 rfl rfl)
theorem dX20_moveRow_3 : decode cX20_moveRow 3 = .ok (.iload 4, 2) := dk_21 4 (dk_at dksX20_moveRow_0 3 rfl rfl)
theorem dX20_moveRow_5 : decode cX20_moveRow 5 = .ok (.iload_n 2, 1) := dk_28 (dk_at dksX20_moveRow_0 5 rfl rfl)
theorem dX20_moveRow_6 : decode cX20_moveRow 6 = .ok (.if_icmp .ge 52, 3) := dk_162 0 52 (dk_at dksX20_moveRow_0 6 rfl rfl)
theorem dX20_moveRow_9 : decode cX20_moveRow 9 = .ok (.iload_n 3, 1) := dk_29 (dk_at dksX20_moveRow_0 9 rfl rfl)
theorem dX20_moveRow_10 : decode cX20_moveRow 10 = .ok (.ifCond .eq 19, 3) := dk_153 0 19 (dk_at dksX20_moveRow_0 10 rfl rfl)
theorem dX20_moveRow_13 : decode cX20_moveRow 13 = .ok (.aload_n 0, 1) := dk_42 (dk_at dksX20_moveRow_0 13 rfl rfl)
theorem dX20_moveRow_14 : decode cX20_moveRow 14 = .ok (.getfield 94, 3) := dk_180 0 94 (dk_at dksX20_moveRow_0 14 rfl rfl)
theorem dX20_moveRow_17 : decode cX20_moveRow 17 = .ok (.aload_n 0, 1) := dk_42 (dk_at dksX20_moveRow_0 17 rfl rfl)
theorem dX20_moveRow_18 : decode cX20_moveRow 18 = .ok (.getfield 395, 3) := dk_180 1 139 (dk_at dksX20_moveRow_0 18 rfl rfl)
theorem dX20_moveRow_21 : decode cX20_moveRow 21 = .ok (.aload_n 1, 1) := dk_43 (dk_at dksX20_moveRow_0 21 rfl rfl)
theorem dX20_moveRow_22 : decode cX20_moveRow 22 = .ok (.iload 4, 2) := dk_21 4 (dk_at dksX20_moveRow_0 22 rfl rfl)
theorem dX20_moveRow_24 : decode cX20_moveRow 24 = .ok (.iaload, 1) := dk_46 (dk_at dksX20_moveRow_1 0 rfl rfl)
theorem dX20_moveRow_25 : decode cX20_moveRow 25 = .ok (.iastore, 1) := dk_79 (dk_at dksX20_moveRow_1 1 rfl rfl)
theorem dX20_moveRow_26 : decode cX20_moveRow 26 = .ok (.goto 16, 3) := dk_167 0 16 (dk_at dksX20_moveRow_1 2 rfl rfl)
theorem dX20_moveRow_29 : decode cX20_moveRow 29 = .ok (.aload_n 1, 1) := dk_43 (dk_at dksX20_moveRow_1 5 rfl rfl)
theorem dX20_moveRow_30 : decode cX20_moveRow 30 = .ok (.iload 4, 2) := dk_21 4 (dk_at dksX20_moveRow_1 6 rfl rfl)
theorem dX20_moveRow_32 : decode cX20_moveRow 32 = .ok (.aload_n 0, 1) := dk_42 (dk_at dksX20_moveRow_1 8 rfl rfl)
theorem dX20_moveRow_33 : decode cX20_moveRow 33 = .ok (.getfield 94, 3) := dk_180 0 94 (dk_at dksX20_moveRow_1 9 rfl rfl)
theorem dX20_moveRow_36 : decode cX20_moveRow 36 = .ok (.aload_n 0, 1) := dk_42 (dk_at dksX20_moveRow_1 12 rfl rfl)
theorem dX20_moveRow_37 : decode cX20_moveRow 37 = .ok (.getfield 395, 3) := dk_180 1 139 (dk_at dksX20_moveRow_1 13 rfl rfl)
theorem dX20_moveRow_40 : decode cX20_moveRow 40 = .ok (.iaload, 1) := dk_46 (dk_at dksX20_moveRow_1 16 rfl rfl)
theorem dX20_moveRow_41 : decode cX20_moveRow 41 = .ok (.iastore, 1) := dk_79 (dk_at dksX20_moveRow_1 17 rfl rfl)
theorem dX20_moveRow_42 : decode cX20_moveRow 42 = .ok (.aload_n 0, 1) := dk_42 (dk_at dksX20_moveRow_1 18 rfl rfl)
theorem dX20_moveRow_43 : decode cX20_moveRow 43 = .ok (.dup, 1) := dk_89 (dk_at dksX20_moveRow_1 19 rfl rfl)
theorem dX20_moveRow_44 : decode cX20_moveRow 44 = .ok (.getfield 395, 3) := dk_180 1 139 (dk_at dksX20_moveRow_1 20 rfl rfl)
theorem dX20_moveRow_47 : decode cX20_moveRow 47 = .ok (.iconst 1, 1) := dk_4 (dk_at dksX20_moveRow_1 23 rfl rfl)
theorem dX20_moveRow_48 : decode cX20_moveRow 48 = .ok (.iadd, 1) := dk_96 (dk_at dksX20_moveRow_2 0 rfl rfl)
theorem dX20_moveRow_49 : decode cX20_moveRow 49 = .ok (.putfield 395, 3) := dk_181 1 139 (dk_at dksX20_moveRow_2 1 rfl rfl)
theorem dX20_moveRow_52 : decode cX20_moveRow 52 = .ok (.iinc 4 1, 3) := dk_132 4 1 (dk_at dksX20_moveRow_2 4 rfl rfl)
theorem dX20_moveRow_55 : decode cX20_moveRow 55 = .ok (.goto (-52), 3) := dk_167 255 204 (dk_at dksX20_moveRow_2 7 rfl rfl)
theorem dX20_moveRow_58 : decode cX20_moveRow 58 = .ok (.return_, 1) := dk_177 (dk_at dksX20_moveRow_2 10 rfl rfl)
abbrev cX20_again : ByteArray := prog_38_method_96_code
def yX20_again : MethodName := ⟨RX20, "again", "()I"⟩
def dkwX20_again_2 : List UInt8 := [180, 0, 7, 16, 6, 46, 172]
abbrev dktX20_again_2 : List UInt8 := dkwX20_again_2 ++ []
def dkwX20_again_1 : List UInt8 := [181, 1, 59, 42, 42, 180, 0, 97, 4, 46, 181, 0, 235, 42, 42, 180, 0, 97, 5, 46, 181, 0, 43, 42]
abbrev dktX20_again_1 : List UInt8 := dkwX20_again_1 ++ dktX20_again_2
def dkwX20_again_0 : List UInt8 := [42, 180, 1, 150, 154, 0, 6, 16, 253, 172, 42, 3, 182, 1, 146, 42, 42, 180, 0, 97, 3, 46]
abbrev dktX20_again_0 : List UInt8 := dkwX20_again_0 ++ dktX20_again_1
theorem dksX20_again_0 : cX20_again.data.toList.drop 0 = dktX20_again_0 := by decide +kernel
theorem dksX20_again_1 : cX20_again.data.toList.drop 22 = dktX20_again_1 := dk_seg dksX20_again_0 22 rfl rfl
theorem dksX20_again_2 : cX20_again.data.toList.drop 46 = dktX20_again_2 := dk_seg dksX20_again_1 24 rfl rfl
theorem dX20_again_0 : decode cX20_again 0 = .ok (.aload_n 0, 1) := dk_42 (dk_at dksX20_again_0 0 rfl rfl)
theorem dX20_again_1 : decode cX20_again 1 = .ok (.getfield 406, 3) := dk_180 1 150 (dk_at dksX20_again_0 1 rfl rfl)
theorem dX20_again_4 : decode cX20_again 4 = .ok (.ifCond .ne 6, 3) := dk_154 0 6 (dk_at dksX20_again_0 4 rfl rfl)
theorem dX20_again_7 : decode cX20_again 7 = .ok (.bipush (-3), 2) := dk_16 253 (dk_at dksX20_again_0 7 rfl rfl)
theorem dX20_again_9 : decode cX20_again 9 = .ok (.ireturn, 1) := dk_172 (dk_at dksX20_again_0 9 rfl rfl)
theorem dX20_again_10 : decode cX20_again 10 = .ok (.aload_n 0, 1) := dk_42 (dk_at dksX20_again_0 10 rfl rfl)
theorem dX20_again_11 : decode cX20_again 11 = .ok (.iconst 0, 1) := dk_3 (dk_at dksX20_again_0 11 rfl rfl)
theorem dX20_again_12 : decode cX20_again 12 = .ok (.invokevirtual 402, 3) := dk_182 1 146 (dk_at dksX20_again_0 12 rfl rfl)
theorem dX20_again_15 : decode cX20_again 15 = .ok (.aload_n 0, 1) := dk_42 (dk_at dksX20_again_0 15 rfl rfl)
theorem dX20_again_16 : decode cX20_again 16 = .ok (.aload_n 0, 1) := dk_42 (dk_at dksX20_again_0 16 rfl rfl)
theorem dX20_again_17 : decode cX20_again 17 = .ok (.getfield 97, 3) := dk_180 0 97 (dk_at dksX20_again_0 17 rfl rfl)
theorem dX20_again_20 : decode cX20_again 20 = .ok (.iconst 0, 1) := dk_3 (dk_at dksX20_again_0 20 rfl rfl)
theorem dX20_again_21 : decode cX20_again 21 = .ok (.iaload, 1) := dk_46 (dk_at dksX20_again_0 21 rfl rfl)
theorem dX20_again_22 : decode cX20_again 22 = .ok (.putfield 315, 3) := dk_181 1 59 (dk_at dksX20_again_1 0 rfl rfl)
theorem dX20_again_25 : decode cX20_again 25 = .ok (.aload_n 0, 1) := dk_42 (dk_at dksX20_again_1 3 rfl rfl)
theorem dX20_again_26 : decode cX20_again 26 = .ok (.aload_n 0, 1) := dk_42 (dk_at dksX20_again_1 4 rfl rfl)
theorem dX20_again_27 : decode cX20_again 27 = .ok (.getfield 97, 3) := dk_180 0 97 (dk_at dksX20_again_1 5 rfl rfl)
theorem dX20_again_30 : decode cX20_again 30 = .ok (.iconst 1, 1) := dk_4 (dk_at dksX20_again_1 8 rfl rfl)
theorem dX20_again_31 : decode cX20_again 31 = .ok (.iaload, 1) := dk_46 (dk_at dksX20_again_1 9 rfl rfl)
theorem dX20_again_32 : decode cX20_again 32 = .ok (.putfield 235, 3) := dk_181 0 235 (dk_at dksX20_again_1 10 rfl rfl)
theorem dX20_again_35 : decode cX20_again 35 = .ok (.aload_n 0, 1) := dk_42 (dk_at dksX20_again_1 13 rfl rfl)
theorem dX20_again_36 : decode cX20_again 36 = .ok (.aload_n 0, 1) := dk_42 (dk_at dksX20_again_1 14 rfl rfl)
theorem dX20_again_37 : decode cX20_again 37 = .ok (.getfield 97, 3) := dk_180 0 97 (dk_at dksX20_again_1 15 rfl rfl)
theorem dX20_again_40 : decode cX20_again 40 = .ok (.iconst 2, 1) := dk_5 (dk_at dksX20_again_1 18 rfl rfl)
theorem dX20_again_41 : decode cX20_again 41 = .ok (.iaload, 1) := dk_46 (dk_at dksX20_again_1 19 rfl rfl)
theorem dX20_again_42 : decode cX20_again 42 = .ok (.putfield 43, 3) := dk_181 0 43 (dk_at dksX20_again_1 20 rfl rfl)
theorem dX20_again_45 : decode cX20_again 45 = .ok (.aload_n 0, 1) := dk_42 (dk_at dksX20_again_1 23 rfl rfl)
theorem dX20_again_46 : decode cX20_again 46 = .ok (.getfield 7, 3) := dk_180 0 7 (dk_at dksX20_again_2 0 rfl rfl)
theorem dX20_again_49 : decode cX20_again 49 = .ok (.bipush 6, 2) := dk_16 6 (dk_at dksX20_again_2 3 rfl rfl)
theorem dX20_again_51 : decode cX20_again 51 = .ok (.iaload, 1) := dk_46 (dk_at dksX20_again_2 5 rfl rfl)
theorem dX20_again_52 : decode cX20_again 52 = .ok (.ireturn, 1) := dk_172 (dk_at dksX20_again_2 6 rfl rfl)
theorem q106 : (Jvm.Cond.initialized "ColdBoxModel") ∈ lw_all := lw_g (lw_at lw_m1 24 rfl) rfl
theorem q1653 : (Jvm.Cond.instantiable "ColdBoxModel" (54 : Nat)) ∈ lw_all := lw_g (lw_at lw_m7 131 rfl) rfl
theorem q1655 : (Jvm.Cond.instanceMethod ({ cls := "ColdBoxModel", name := "<init>", desc := "()V" } : Jvm.MethodName)) ∈ lw_all := lw_g (lw_at lw_m7 133 rfl) rfl
theorem q1656 : (Jvm.Cond.code ({ cls := "ColdBoxModel", name := "<init>", desc := "()V" } : Jvm.MethodName) prog_38_method_1_code (1 : Nat) (Option.none : Option Jvm.ClassFile.FieldType)) ∈ lw_all := lw_g (lw_at lw_m7 134 rfl) rfl
theorem q1657 : (Jvm.Cond.methodLink "ColdBoxModel" (1 : Nat) ({ cls := "java/lang/Object", name := "<init>", desc := "()V" } : Jvm.MethodName)) ∈ lw_all := lw_g (lw_at lw_m7 135 rfl) rfl
theorem q1658 : (Jvm.Cond.fieldLink "ColdBoxModel" (7 : Nat) "ColdBoxModel" "row" "[I") ∈ lw_all := lw_g (lw_at lw_m7 136 rfl) rfl
theorem q1659 : (Jvm.Cond.fieldLink "ColdBoxModel" (104 : Nat) "ColdBoxModel" "at" "I") ∈ lw_all := lw_g (lw_at lw_m7 137 rfl) rfl
theorem q1660 : (Jvm.Cond.fieldLink "ColdBoxModel" (13 : Nat) "ColdBoxModel" "leastOf" "[I") ∈ lw_all := lw_g (lw_at lw_m7 138 rfl) rfl
theorem q1661 : (Jvm.Cond.fieldLink "ColdBoxModel" (16 : Nat) "ColdBoxModel" "mostOf" "[I") ∈ lw_all := lw_g (lw_at lw_m7 139 rfl) rfl
theorem q1662 : (Jvm.Cond.fieldLink "ColdBoxModel" (19 : Nat) "ColdBoxModel" "outs" "[I") ∈ lw_all := lw_g (lw_at lw_m7 140 rfl) rfl
theorem q1663 : (Jvm.Cond.fieldLink "ColdBoxModel" (22 : Nat) "ColdBoxModel" "airs" "[I") ∈ lw_all := lw_g (lw_at lw_m7 141 rfl) rfl
theorem q1664 : (Jvm.Cond.fieldLink "ColdBoxModel" (25 : Nat) "ColdBoxModel" "rules" "[I") ∈ lw_all := lw_g (lw_at lw_m7 142 rfl) rfl
theorem q1665 : (Jvm.Cond.fieldLink "ColdBoxModel" (28 : Nat) "ColdBoxModel" "leastRule" "[I") ∈ lw_all := lw_g (lw_at lw_m7 143 rfl) rfl
theorem q1666 : (Jvm.Cond.fieldLink "ColdBoxModel" (31 : Nat) "ColdBoxModel" "mostRule" "[I") ∈ lw_all := lw_g (lw_at lw_m7 144 rfl) rfl
theorem q1667 : (Jvm.Cond.fieldLink "ColdBoxModel" (315 : Nat) "ColdBoxModel" "others" "I") ∈ lw_all := lw_g (lw_at lw_m7 145 rfl) rfl
theorem q1668 : (Jvm.Cond.fieldLink "ColdBoxModel" (34 : Nat) "ColdBoxModel" "other" "[I") ∈ lw_all := lw_g (lw_at lw_m7 146 rfl) rfl
theorem q1669 : (Jvm.Cond.fieldLink "ColdBoxModel" (235 : Nat) "ColdBoxModel" "clauses" "I") ∈ lw_all := lw_g (lw_at lw_m7 147 rfl) rfl
theorem q1670 : (Jvm.Cond.fieldLink "ColdBoxModel" (37 : Nat) "ColdBoxModel" "clause" "[I") ∈ lw_all := lw_g (lw_at lw_m7 148 rfl) rfl
theorem q1671 : (Jvm.Cond.fieldLink "ColdBoxModel" (40 : Nat) "ColdBoxModel" "signs" "[I") ∈ lw_all := lw_g (lw_at lw_m7 149 rfl) rfl
theorem q1672 : (Jvm.Cond.fieldLink "ColdBoxModel" (43 : Nat) "ColdBoxModel" "z" "I") ∈ lw_all := lw_g (lw_at lw_m7 150 rfl) rfl
theorem q1673 : (Jvm.Cond.fieldLink "ColdBoxModel" (47 : Nat) "ColdBoxModel" "tape" "[I") ∈ lw_all := lw_g (lw_at lw_m7 151 rfl) rfl
theorem q1674 : (Jvm.Cond.fieldLink "ColdBoxModel" (107 : Nat) "ColdBoxModel" "tapeMany" "I") ∈ lw_all := lw_g (lw_at lw_m7 152 rfl) rfl
theorem q1675 : (Jvm.Cond.fieldLink "ColdBoxModel" (129 : Nat) "ColdBoxModel" "sort" "I") ∈ lw_all := lw_g (lw_at lw_m7 153 rfl) rfl
theorem q1676 : (Jvm.Cond.fieldLink "ColdBoxModel" (115 : Nat) "ColdBoxModel" "begins" "I") ∈ lw_all := lw_g (lw_at lw_m7 154 rfl) rfl
theorem q1677 : (Jvm.Cond.fieldLink "ColdBoxModel" (112 : Nat) "ColdBoxModel" "tokenEnds" "I") ∈ lw_all := lw_g (lw_at lw_m7 155 rfl) rfl
theorem q1678 : (Jvm.Cond.fieldLink "ColdBoxModel" (132 : Nat) "ColdBoxModel" "word" "J") ∈ lw_all := lw_g (lw_at lw_m7 156 rfl) rfl
theorem q1679 : (Jvm.Cond.fieldLink "ColdBoxModel" (136 : Nat) "ColdBoxModel" "value" "I") ∈ lw_all := lw_g (lw_at lw_m7 157 rfl) rfl
theorem q1680 : (Jvm.Cond.fieldLink "ColdBoxModel" (178 : Nat) "ColdBoxModel" "good" "Z") ∈ lw_all := lw_g (lw_at lw_m7 158 rfl) rfl
theorem q1681 : (Jvm.Cond.fieldLink "ColdBoxModel" (50 : Nat) "ColdBoxModel" "facts" "[I") ∈ lw_all := lw_g (lw_at lw_m7 159 rfl) rfl
theorem q1682 : (Jvm.Cond.fieldLink "ColdBoxModel" (53 : Nat) "ColdBoxModel" "fresh" "[I") ∈ lw_all := lw_g (lw_at lw_m7 160 rfl) rfl
theorem q1683 : (Jvm.Cond.fieldLink "ColdBoxModel" (56 : Nat) "ColdBoxModel" "pending" "[I") ∈ lw_all := lw_g (lw_at lw_m7 161 rfl) rfl
theorem q1684 : (Jvm.Cond.fieldLink "ColdBoxModel" (161 : Nat) "ColdBoxModel" "freshMany" "I") ∈ lw_all := lw_g (lw_at lw_m7 162 rfl) rfl
theorem q1685 : (Jvm.Cond.fieldLink "ColdBoxModel" (164 : Nat) "ColdBoxModel" "pendingMany" "I") ∈ lw_all := lw_g (lw_at lw_m7 163 rfl) rfl
theorem q1686 : (Jvm.Cond.fieldLink "ColdBoxModel" (195 : Nat) "ColdBoxModel" "open" "I") ∈ lw_all := lw_g (lw_at lw_m7 164 rfl) rfl
theorem q1687 : (Jvm.Cond.fieldLink "ColdBoxModel" (59 : Nat) "ColdBoxModel" "pile" "[Z") ∈ lw_all := lw_g (lw_at lw_m7 165 rfl) rfl
theorem q1688 : (Jvm.Cond.fieldLink "ColdBoxModel" (63 : Nat) "ColdBoxModel" "freshClause" "[I") ∈ lw_all := lw_g (lw_at lw_m7 166 rfl) rfl
theorem q1689 : (Jvm.Cond.fieldLink "ColdBoxModel" (66 : Nat) "ColdBoxModel" "must" "[I") ∈ lw_all := lw_g (lw_at lw_m7 167 rfl) rfl
theorem q1690 : (Jvm.Cond.fieldLink "ColdBoxModel" (289 : Nat) "ColdBoxModel" "mustMany" "I") ∈ lw_all := lw_g (lw_at lw_m7 168 rfl) rfl
theorem q1691 : (Jvm.Cond.fieldLink "ColdBoxModel" (302 : Nat) "ColdBoxModel" "bestEyes" "I") ∈ lw_all := lw_g (lw_at lw_m7 169 rfl) rfl
theorem q1692 : (Jvm.Cond.fieldLink "ColdBoxModel" (305 : Nat) "ColdBoxModel" "bestLeft" "I") ∈ lw_all := lw_g (lw_at lw_m7 170 rfl) rfl
theorem q1693 : (Jvm.Cond.fieldLink "ColdBoxModel" (308 : Nat) "ColdBoxModel" "bestDigits" "I") ∈ lw_all := lw_g (lw_at lw_m7 171 rfl) rfl
theorem q1694 : (Jvm.Cond.fieldLink "ColdBoxModel" (69 : Nat) "ColdBoxModel" "rows" "[I") ∈ lw_all := lw_g (lw_at lw_m7 172 rfl) rfl
theorem q1695 : (Jvm.Cond.fieldLink "ColdBoxModel" (324 : Nat) "ColdBoxModel" "rowMany" "I") ∈ lw_all := lw_g (lw_at lw_m7 173 rfl) rfl
theorem q1696 : (Jvm.Cond.fieldLink "ColdBoxModel" (72 : Nat) "ColdBoxModel" "sorts" "[I") ∈ lw_all := lw_g (lw_at lw_m7 174 rfl) rfl
theorem q1697 : (Jvm.Cond.fieldLink "ColdBoxModel" (75 : Nat) "ColdBoxModel" "sizes" "[I") ∈ lw_all := lw_g (lw_at lw_m7 175 rfl) rfl
theorem q1698 : (Jvm.Cond.fieldLink "ColdBoxModel" (78 : Nat) "ColdBoxModel" "sheets" "[J") ∈ lw_all := lw_g (lw_at lw_m7 176 rfl) rfl
theorem q1699 : (Jvm.Cond.fieldLink "ColdBoxModel" (82 : Nat) "ColdBoxModel" "held" "[I") ∈ lw_all := lw_g (lw_at lw_m7 177 rfl) rfl
theorem q1700 : (Jvm.Cond.fieldLink "ColdBoxModel" (85 : Nat) "ColdBoxModel" "heldNumber" "[I") ∈ lw_all := lw_g (lw_at lw_m7 178 rfl) rfl
theorem q1701 : (Jvm.Cond.fieldLink "ColdBoxModel" (88 : Nat) "ColdBoxModel" "heldSize" "[I") ∈ lw_all := lw_g (lw_at lw_m7 179 rfl) rfl
theorem q1702 : (Jvm.Cond.fieldLink "ColdBoxModel" (362 : Nat) "ColdBoxModel" "kind" "I") ∈ lw_all := lw_g (lw_at lw_m7 180 rfl) rfl
theorem q1703 : (Jvm.Cond.fieldLink "ColdBoxModel" (356 : Nat) "ColdBoxModel" "number" "I") ∈ lw_all := lw_g (lw_at lw_m7 181 rfl) rfl
theorem q1704 : (Jvm.Cond.fieldLink "ColdBoxModel" (374 : Nat) "ColdBoxModel" "own" "I") ∈ lw_all := lw_g (lw_at lw_m7 182 rfl) rfl
theorem q1705 : (Jvm.Cond.fieldLink "ColdBoxModel" (91 : Nat) "ColdBoxModel" "traced" "[I") ∈ lw_all := lw_g (lw_at lw_m7 183 rfl) rfl
theorem q1706 : (Jvm.Cond.fieldLink "ColdBoxModel" (350 : Nat) "ColdBoxModel" "bodies" "I") ∈ lw_all := lw_g (lw_at lw_m7 184 rfl) rfl
theorem q1707 : (Jvm.Cond.fieldLink "ColdBoxModel" (377 : Nat) "ColdBoxModel" "isParted" "Z") ∈ lw_all := lw_g (lw_at lw_m7 185 rfl) rfl
theorem q1708 : (Jvm.Cond.fieldLink "ColdBoxModel" (406 : Nat) "ColdBoxModel" "isKept" "Z") ∈ lw_all := lw_g (lw_at lw_m7 186 rfl) rfl
theorem q1709 : (Jvm.Cond.fieldLink "ColdBoxModel" (94 : Nat) "ColdBoxModel" "keptRow" "[I") ∈ lw_all := lw_g (lw_at lw_m7 187 rfl) rfl
theorem q1710 : (Jvm.Cond.fieldLink "ColdBoxModel" (395 : Nat) "ColdBoxModel" "movedTo" "I") ∈ lw_all := lw_g (lw_at lw_m7 188 rfl) rfl
theorem q1711 : (Jvm.Cond.fieldLink "ColdBoxModel" (97 : Nat) "ColdBoxModel" "single" "[I") ∈ lw_all := lw_g (lw_at lw_m7 189 rfl) rfl
theorem q1712 : (Jvm.Cond.laysFinal "ColdBoxModel" "ColdBoxModel" "row" "[I") ∈ lw_all := lw_g (lw_at lw_m7 190 rfl) rfl
theorem q1713 : (Jvm.Cond.soleField "ColdBoxModel" "row") ∈ lw_all := lw_g (lw_at lw_m7 191 rfl) rfl
theorem q1714 : (Jvm.Cond.lays "ColdBoxModel" "ColdBoxModel" "at" "I") ∈ lw_all := lw_g (lw_at lw_m7 192 rfl) rfl
theorem q1715 : (Jvm.Cond.soleField "ColdBoxModel" "at") ∈ lw_all := lw_g (lw_at lw_m7 193 rfl) rfl
theorem q1716 : (Jvm.Cond.laysFinal "ColdBoxModel" "ColdBoxModel" "leastOf" "[I") ∈ lw_all := lw_g (lw_at lw_m7 194 rfl) rfl
theorem q1717 : (Jvm.Cond.soleField "ColdBoxModel" "leastOf") ∈ lw_all := lw_g (lw_at lw_m7 195 rfl) rfl
theorem q1718 : (Jvm.Cond.laysFinal "ColdBoxModel" "ColdBoxModel" "mostOf" "[I") ∈ lw_all := lw_g (lw_at lw_m7 196 rfl) rfl
theorem q1719 : (Jvm.Cond.soleField "ColdBoxModel" "mostOf") ∈ lw_all := lw_g (lw_at lw_m7 197 rfl) rfl
theorem q1720 : (Jvm.Cond.laysFinal "ColdBoxModel" "ColdBoxModel" "outs" "[I") ∈ lw_all := lw_g (lw_at lw_m7 198 rfl) rfl
theorem q1721 : (Jvm.Cond.soleField "ColdBoxModel" "outs") ∈ lw_all := lw_g (lw_at lw_m7 199 rfl) rfl
theorem q1722 : (Jvm.Cond.laysFinal "ColdBoxModel" "ColdBoxModel" "airs" "[I") ∈ lw_all := lw_g (lw_at lw_m7 200 rfl) rfl
theorem q1723 : (Jvm.Cond.soleField "ColdBoxModel" "airs") ∈ lw_all := lw_g (lw_at lw_m7 201 rfl) rfl
theorem q1724 : (Jvm.Cond.laysFinal "ColdBoxModel" "ColdBoxModel" "rules" "[I") ∈ lw_all := lw_g (lw_at lw_m7 202 rfl) rfl
theorem q1725 : (Jvm.Cond.soleField "ColdBoxModel" "rules") ∈ lw_all := lw_g (lw_at lw_m7 203 rfl) rfl
theorem q1726 : (Jvm.Cond.laysFinal "ColdBoxModel" "ColdBoxModel" "leastRule" "[I") ∈ lw_all := lw_g (lw_at lw_m7 204 rfl) rfl
theorem q1727 : (Jvm.Cond.soleField "ColdBoxModel" "leastRule") ∈ lw_all := lw_g (lw_at lw_m7 205 rfl) rfl
theorem q1728 : (Jvm.Cond.laysFinal "ColdBoxModel" "ColdBoxModel" "mostRule" "[I") ∈ lw_all := lw_g (lw_at lw_m7 206 rfl) rfl
theorem q1729 : (Jvm.Cond.soleField "ColdBoxModel" "mostRule") ∈ lw_all := lw_g (lw_at lw_m7 207 rfl) rfl
theorem q1730 : (Jvm.Cond.lays "ColdBoxModel" "ColdBoxModel" "others" "I") ∈ lw_all := lw_g (lw_at lw_m7 208 rfl) rfl
theorem q1731 : (Jvm.Cond.soleField "ColdBoxModel" "others") ∈ lw_all := lw_g (lw_at lw_m7 209 rfl) rfl
theorem q1732 : (Jvm.Cond.laysFinal "ColdBoxModel" "ColdBoxModel" "other" "[I") ∈ lw_all := lw_g (lw_at lw_m7 210 rfl) rfl
theorem q1733 : (Jvm.Cond.soleField "ColdBoxModel" "other") ∈ lw_all := lw_g (lw_at lw_m7 211 rfl) rfl
theorem q1734 : (Jvm.Cond.lays "ColdBoxModel" "ColdBoxModel" "clauses" "I") ∈ lw_all := lw_g (lw_at lw_m7 212 rfl) rfl
theorem q1735 : (Jvm.Cond.soleField "ColdBoxModel" "clauses") ∈ lw_all := lw_g (lw_at lw_m7 213 rfl) rfl
theorem q1736 : (Jvm.Cond.laysFinal "ColdBoxModel" "ColdBoxModel" "clause" "[I") ∈ lw_all := lw_g (lw_at lw_m7 214 rfl) rfl
theorem q1737 : (Jvm.Cond.soleField "ColdBoxModel" "clause") ∈ lw_all := lw_g (lw_at lw_m7 215 rfl) rfl
theorem q1738 : (Jvm.Cond.laysFinal "ColdBoxModel" "ColdBoxModel" "signs" "[I") ∈ lw_all := lw_g (lw_at lw_m7 216 rfl) rfl
theorem q1739 : (Jvm.Cond.soleField "ColdBoxModel" "signs") ∈ lw_all := lw_g (lw_at lw_m7 217 rfl) rfl
theorem q1740 : (Jvm.Cond.lays "ColdBoxModel" "ColdBoxModel" "z" "I") ∈ lw_all := lw_g (lw_at lw_m7 218 rfl) rfl
theorem q1741 : (Jvm.Cond.soleField "ColdBoxModel" "z") ∈ lw_all := lw_g (lw_at lw_m7 219 rfl) rfl
theorem q1742 : (Jvm.Cond.laysFinal "ColdBoxModel" "ColdBoxModel" "tape" "[I") ∈ lw_all := lw_g (lw_at lw_m7 220 rfl) rfl
theorem q1743 : (Jvm.Cond.soleField "ColdBoxModel" "tape") ∈ lw_all := lw_g (lw_at lw_m7 221 rfl) rfl
theorem q1744 : (Jvm.Cond.lays "ColdBoxModel" "ColdBoxModel" "tapeMany" "I") ∈ lw_all := lw_g (lw_at lw_m7 222 rfl) rfl
theorem q1745 : (Jvm.Cond.soleField "ColdBoxModel" "tapeMany") ∈ lw_all := lw_g (lw_at lw_m7 223 rfl) rfl
theorem q1746 : (Jvm.Cond.lays "ColdBoxModel" "ColdBoxModel" "sort" "I") ∈ lw_all := lw_g (lw_at lw_m7 224 rfl) rfl
theorem q1747 : (Jvm.Cond.soleField "ColdBoxModel" "sort") ∈ lw_all := lw_g (lw_at lw_m7 225 rfl) rfl
theorem q1748 : (Jvm.Cond.lays "ColdBoxModel" "ColdBoxModel" "begins" "I") ∈ lw_all := lw_g (lw_at lw_m7 226 rfl) rfl
theorem q1749 : (Jvm.Cond.soleField "ColdBoxModel" "begins") ∈ lw_all := lw_g (lw_at lw_m7 227 rfl) rfl
theorem q1750 : (Jvm.Cond.lays "ColdBoxModel" "ColdBoxModel" "tokenEnds" "I") ∈ lw_all := lw_g (lw_at lw_m7 228 rfl) rfl
theorem q1751 : (Jvm.Cond.soleField "ColdBoxModel" "tokenEnds") ∈ lw_all := lw_g (lw_at lw_m7 229 rfl) rfl
theorem q1752 : (Jvm.Cond.lays "ColdBoxModel" "ColdBoxModel" "word" "J") ∈ lw_all := lw_g (lw_at lw_m7 230 rfl) rfl
theorem q1753 : (Jvm.Cond.soleField "ColdBoxModel" "word") ∈ lw_all := lw_g (lw_at lw_m7 231 rfl) rfl
theorem q1754 : (Jvm.Cond.lays "ColdBoxModel" "ColdBoxModel" "value" "I") ∈ lw_all := lw_g (lw_at lw_m7 232 rfl) rfl
theorem q1755 : (Jvm.Cond.soleField "ColdBoxModel" "value") ∈ lw_all := lw_g (lw_at lw_m7 233 rfl) rfl
theorem q1756 : (Jvm.Cond.lays "ColdBoxModel" "ColdBoxModel" "good" "Z") ∈ lw_all := lw_g (lw_at lw_m7 234 rfl) rfl
theorem q1757 : (Jvm.Cond.soleField "ColdBoxModel" "good") ∈ lw_all := lw_g (lw_at lw_m7 235 rfl) rfl
theorem q1758 : (Jvm.Cond.laysFinal "ColdBoxModel" "ColdBoxModel" "facts" "[I") ∈ lw_all := lw_g (lw_at lw_m7 236 rfl) rfl
theorem q1759 : (Jvm.Cond.soleField "ColdBoxModel" "facts") ∈ lw_all := lw_g (lw_at lw_m7 237 rfl) rfl
theorem q1760 : (Jvm.Cond.laysFinal "ColdBoxModel" "ColdBoxModel" "fresh" "[I") ∈ lw_all := lw_g (lw_at lw_m7 238 rfl) rfl
theorem q1761 : (Jvm.Cond.soleField "ColdBoxModel" "fresh") ∈ lw_all := lw_g (lw_at lw_m7 239 rfl) rfl
theorem q1762 : (Jvm.Cond.laysFinal "ColdBoxModel" "ColdBoxModel" "pending" "[I") ∈ lw_all := lw_g (lw_at lw_m8 0 rfl) rfl
theorem q1763 : (Jvm.Cond.soleField "ColdBoxModel" "pending") ∈ lw_all := lw_g (lw_at lw_m8 1 rfl) rfl
theorem q1764 : (Jvm.Cond.lays "ColdBoxModel" "ColdBoxModel" "freshMany" "I") ∈ lw_all := lw_g (lw_at lw_m8 2 rfl) rfl
theorem q1765 : (Jvm.Cond.soleField "ColdBoxModel" "freshMany") ∈ lw_all := lw_g (lw_at lw_m8 3 rfl) rfl
theorem q1766 : (Jvm.Cond.lays "ColdBoxModel" "ColdBoxModel" "pendingMany" "I") ∈ lw_all := lw_g (lw_at lw_m8 4 rfl) rfl
theorem q1767 : (Jvm.Cond.soleField "ColdBoxModel" "pendingMany") ∈ lw_all := lw_g (lw_at lw_m8 5 rfl) rfl
theorem q1768 : (Jvm.Cond.lays "ColdBoxModel" "ColdBoxModel" "open" "I") ∈ lw_all := lw_g (lw_at lw_m8 6 rfl) rfl
theorem q1769 : (Jvm.Cond.soleField "ColdBoxModel" "open") ∈ lw_all := lw_g (lw_at lw_m8 7 rfl) rfl
theorem q1770 : (Jvm.Cond.laysFinal "ColdBoxModel" "ColdBoxModel" "pile" "[Z") ∈ lw_all := lw_g (lw_at lw_m8 8 rfl) rfl
theorem q1771 : (Jvm.Cond.soleField "ColdBoxModel" "pile") ∈ lw_all := lw_g (lw_at lw_m8 9 rfl) rfl
theorem q1772 : (Jvm.Cond.laysFinal "ColdBoxModel" "ColdBoxModel" "freshClause" "[I") ∈ lw_all := lw_g (lw_at lw_m8 10 rfl) rfl
theorem q1773 : (Jvm.Cond.soleField "ColdBoxModel" "freshClause") ∈ lw_all := lw_g (lw_at lw_m8 11 rfl) rfl
theorem q1774 : (Jvm.Cond.laysFinal "ColdBoxModel" "ColdBoxModel" "must" "[I") ∈ lw_all := lw_g (lw_at lw_m8 12 rfl) rfl
theorem q1775 : (Jvm.Cond.soleField "ColdBoxModel" "must") ∈ lw_all := lw_g (lw_at lw_m8 13 rfl) rfl
theorem q1776 : (Jvm.Cond.lays "ColdBoxModel" "ColdBoxModel" "mustMany" "I") ∈ lw_all := lw_g (lw_at lw_m8 14 rfl) rfl
theorem q1777 : (Jvm.Cond.soleField "ColdBoxModel" "mustMany") ∈ lw_all := lw_g (lw_at lw_m8 15 rfl) rfl
theorem q1778 : (Jvm.Cond.lays "ColdBoxModel" "ColdBoxModel" "bestEyes" "I") ∈ lw_all := lw_g (lw_at lw_m8 16 rfl) rfl
theorem q1779 : (Jvm.Cond.soleField "ColdBoxModel" "bestEyes") ∈ lw_all := lw_g (lw_at lw_m8 17 rfl) rfl
theorem q1780 : (Jvm.Cond.lays "ColdBoxModel" "ColdBoxModel" "bestLeft" "I") ∈ lw_all := lw_g (lw_at lw_m8 18 rfl) rfl
theorem q1781 : (Jvm.Cond.soleField "ColdBoxModel" "bestLeft") ∈ lw_all := lw_g (lw_at lw_m8 19 rfl) rfl
theorem q1782 : (Jvm.Cond.lays "ColdBoxModel" "ColdBoxModel" "bestDigits" "I") ∈ lw_all := lw_g (lw_at lw_m8 20 rfl) rfl
theorem q1783 : (Jvm.Cond.soleField "ColdBoxModel" "bestDigits") ∈ lw_all := lw_g (lw_at lw_m8 21 rfl) rfl
theorem q1784 : (Jvm.Cond.laysFinal "ColdBoxModel" "ColdBoxModel" "rows" "[I") ∈ lw_all := lw_g (lw_at lw_m8 22 rfl) rfl
theorem q1785 : (Jvm.Cond.soleField "ColdBoxModel" "rows") ∈ lw_all := lw_g (lw_at lw_m8 23 rfl) rfl
theorem q1786 : (Jvm.Cond.lays "ColdBoxModel" "ColdBoxModel" "rowMany" "I") ∈ lw_all := lw_g (lw_at lw_m8 24 rfl) rfl
theorem q1787 : (Jvm.Cond.soleField "ColdBoxModel" "rowMany") ∈ lw_all := lw_g (lw_at lw_m8 25 rfl) rfl
theorem q1788 : (Jvm.Cond.laysFinal "ColdBoxModel" "ColdBoxModel" "sorts" "[I") ∈ lw_all := lw_g (lw_at lw_m8 26 rfl) rfl
theorem q1789 : (Jvm.Cond.soleField "ColdBoxModel" "sorts") ∈ lw_all := lw_g (lw_at lw_m8 27 rfl) rfl
theorem q1790 : (Jvm.Cond.laysFinal "ColdBoxModel" "ColdBoxModel" "sizes" "[I") ∈ lw_all := lw_g (lw_at lw_m8 28 rfl) rfl
theorem q1791 : (Jvm.Cond.soleField "ColdBoxModel" "sizes") ∈ lw_all := lw_g (lw_at lw_m8 29 rfl) rfl
theorem q1792 : (Jvm.Cond.laysFinal "ColdBoxModel" "ColdBoxModel" "sheets" "[J") ∈ lw_all := lw_g (lw_at lw_m8 30 rfl) rfl
theorem q1793 : (Jvm.Cond.soleField "ColdBoxModel" "sheets") ∈ lw_all := lw_g (lw_at lw_m8 31 rfl) rfl
theorem q1794 : (Jvm.Cond.laysFinal "ColdBoxModel" "ColdBoxModel" "held" "[I") ∈ lw_all := lw_g (lw_at lw_m8 32 rfl) rfl
theorem q1795 : (Jvm.Cond.soleField "ColdBoxModel" "held") ∈ lw_all := lw_g (lw_at lw_m8 33 rfl) rfl
theorem q1796 : (Jvm.Cond.laysFinal "ColdBoxModel" "ColdBoxModel" "heldNumber" "[I") ∈ lw_all := lw_g (lw_at lw_m8 34 rfl) rfl
theorem q1797 : (Jvm.Cond.soleField "ColdBoxModel" "heldNumber") ∈ lw_all := lw_g (lw_at lw_m8 35 rfl) rfl
theorem q1798 : (Jvm.Cond.laysFinal "ColdBoxModel" "ColdBoxModel" "heldSize" "[I") ∈ lw_all := lw_g (lw_at lw_m8 36 rfl) rfl
theorem q1799 : (Jvm.Cond.soleField "ColdBoxModel" "heldSize") ∈ lw_all := lw_g (lw_at lw_m8 37 rfl) rfl
theorem q1800 : (Jvm.Cond.lays "ColdBoxModel" "ColdBoxModel" "kind" "I") ∈ lw_all := lw_g (lw_at lw_m8 38 rfl) rfl
theorem q1801 : (Jvm.Cond.soleField "ColdBoxModel" "kind") ∈ lw_all := lw_g (lw_at lw_m8 39 rfl) rfl
theorem q1802 : (Jvm.Cond.lays "ColdBoxModel" "ColdBoxModel" "number" "I") ∈ lw_all := lw_g (lw_at lw_m8 40 rfl) rfl
theorem q1803 : (Jvm.Cond.soleField "ColdBoxModel" "number") ∈ lw_all := lw_g (lw_at lw_m8 41 rfl) rfl
theorem q1804 : (Jvm.Cond.lays "ColdBoxModel" "ColdBoxModel" "own" "I") ∈ lw_all := lw_g (lw_at lw_m8 42 rfl) rfl
theorem q1805 : (Jvm.Cond.soleField "ColdBoxModel" "own") ∈ lw_all := lw_g (lw_at lw_m8 43 rfl) rfl
theorem q1806 : (Jvm.Cond.laysFinal "ColdBoxModel" "ColdBoxModel" "traced" "[I") ∈ lw_all := lw_g (lw_at lw_m8 44 rfl) rfl
theorem q1807 : (Jvm.Cond.soleField "ColdBoxModel" "traced") ∈ lw_all := lw_g (lw_at lw_m8 45 rfl) rfl
theorem q1808 : (Jvm.Cond.lays "ColdBoxModel" "ColdBoxModel" "bodies" "I") ∈ lw_all := lw_g (lw_at lw_m8 46 rfl) rfl
theorem q1809 : (Jvm.Cond.soleField "ColdBoxModel" "bodies") ∈ lw_all := lw_g (lw_at lw_m8 47 rfl) rfl
theorem q1810 : (Jvm.Cond.lays "ColdBoxModel" "ColdBoxModel" "isParted" "Z") ∈ lw_all := lw_g (lw_at lw_m8 48 rfl) rfl
theorem q1811 : (Jvm.Cond.soleField "ColdBoxModel" "isParted") ∈ lw_all := lw_g (lw_at lw_m8 49 rfl) rfl
theorem q1812 : (Jvm.Cond.lays "ColdBoxModel" "ColdBoxModel" "isKept" "Z") ∈ lw_all := lw_g (lw_at lw_m8 50 rfl) rfl
theorem q1813 : (Jvm.Cond.soleField "ColdBoxModel" "isKept") ∈ lw_all := lw_g (lw_at lw_m8 51 rfl) rfl
theorem q1814 : (Jvm.Cond.laysFinal "ColdBoxModel" "ColdBoxModel" "keptRow" "[I") ∈ lw_all := lw_g (lw_at lw_m8 52 rfl) rfl
theorem q1815 : (Jvm.Cond.soleField "ColdBoxModel" "keptRow") ∈ lw_all := lw_g (lw_at lw_m8 53 rfl) rfl
theorem q1816 : (Jvm.Cond.lays "ColdBoxModel" "ColdBoxModel" "movedTo" "I") ∈ lw_all := lw_g (lw_at lw_m8 54 rfl) rfl
theorem q1817 : (Jvm.Cond.soleField "ColdBoxModel" "movedTo") ∈ lw_all := lw_g (lw_at lw_m8 55 rfl) rfl
theorem q1818 : (Jvm.Cond.laysFinal "ColdBoxModel" "ColdBoxModel" "single" "[I") ∈ lw_all := lw_g (lw_at lw_m8 56 rfl) rfl
theorem q1819 : (Jvm.Cond.soleField "ColdBoxModel" "single") ∈ lw_all := lw_g (lw_at lw_m8 57 rfl) rfl
theorem q1820 : (Jvm.Cond.superclass "ColdBoxModel" "java/lang/Object") ∈ lw_all := lw_g (lw_at lw_m8 58 rfl) rfl
theorem q1823 : (Jvm.Cond.instanceMethod ({ cls := "ColdBoxModel", name := "feed", desc := "(JI)I" } : Jvm.MethodName)) ∈ lw_all := lw_g (lw_at lw_m8 61 rfl) rfl
theorem q1824 : (Jvm.Cond.selects "ColdBoxModel" ({ cls := "ColdBoxModel", name := "feed", desc := "(JI)I" } : Jvm.MethodName) ({ cls := "ColdBoxModel", name := "feed", desc := "(JI)I" } : Jvm.MethodName)) ∈ lw_all := lw_g (lw_at lw_m8 62 rfl) rfl
theorem q1825 : (Jvm.Cond.code ({ cls := "ColdBoxModel", name := "feed", desc := "(JI)I" } : Jvm.MethodName) prog_38_method_6_code (5 : Nat) (Option.some Jvm.ClassFile.FieldType.int)) ∈ lw_all := lw_g (lw_at lw_m8 63 rfl) rfl
theorem q1826 : (Jvm.Cond.methodLink "ColdBoxModel" (100 : Nat) ({ cls := "ColdBoxModel", name := "in", desc := "(III)Z" } : Jvm.MethodName)) ∈ lw_all := lw_g (lw_at lw_m8 64 rfl) rfl
theorem q1827 : (Jvm.Cond.static ({ cls := "ColdBoxModel", name := "in", desc := "(III)Z" } : Jvm.MethodName)) ∈ lw_all := lw_g (lw_at lw_m8 65 rfl) rfl
theorem q1828 : (Jvm.Cond.code ({ cls := "ColdBoxModel", name := "in", desc := "(III)Z" } : Jvm.MethodName) prog_38_method_2_code (3 : Nat) (Option.some Jvm.ClassFile.FieldType.boolean)) ∈ lw_all := lw_g (lw_at lw_m8 66 rfl) rfl
theorem q1829 : (Jvm.Cond.constantLong "ColdBoxModel" (110 : Nat) (255 : Int64)) ∈ lw_all := lw_g (lw_at lw_m8 67 rfl) rfl
theorem q1831 : (Jvm.Cond.instanceMethod ({ cls := "ColdBoxModel", name := "plan", desc := "()I" } : Jvm.MethodName)) ∈ lw_all := lw_g (lw_at lw_m8 69 rfl) rfl
theorem q1832 : (Jvm.Cond.selects "ColdBoxModel" ({ cls := "ColdBoxModel", name := "plan", desc := "()I" } : Jvm.MethodName) ({ cls := "ColdBoxModel", name := "plan", desc := "()I" } : Jvm.MethodName)) ∈ lw_all := lw_g (lw_at lw_m8 70 rfl) rfl
theorem q1833 : (Jvm.Cond.code ({ cls := "ColdBoxModel", name := "plan", desc := "()I" } : Jvm.MethodName) prog_38_method_24_code (3 : Nat) (Option.some Jvm.ClassFile.FieldType.int)) ∈ lw_all := lw_g (lw_at lw_m8 71 rfl) rfl
theorem q1834 : (Jvm.Cond.methodLink "ColdBoxModel" (182 : Nat) ({ cls := "ColdBoxModel", name := "advance", desc := "()V" } : Jvm.MethodName)) ∈ lw_all := lw_g (lw_at lw_m8 72 rfl) rfl
theorem q1835 : (Jvm.Cond.privateMethod ({ cls := "ColdBoxModel", name := "advance", desc := "()V" } : Jvm.MethodName)) ∈ lw_tbl := lw_at lw_m8 73 rfl
theorem q1836 : (Jvm.Cond.instanceMethod ({ cls := "ColdBoxModel", name := "advance", desc := "()V" } : Jvm.MethodName)) ∈ lw_all := lw_g (lw_at lw_m8 74 rfl) rfl
theorem q1837 : (Jvm.Cond.code ({ cls := "ColdBoxModel", name := "advance", desc := "()V" } : Jvm.MethodName) prog_38_method_10_code (2 : Nat) (Option.none : Option Jvm.ClassFile.FieldType)) ∈ lw_all := lw_g (lw_at lw_m8 75 rfl) rfl
theorem q1838 : (Jvm.Cond.methodLink "ColdBoxModel" (118 : Nat) ({ cls := "ColdBoxModel", name := "byteAt", desc := "(I)I" } : Jvm.MethodName)) ∈ lw_all := lw_g (lw_at lw_m8 76 rfl) rfl
theorem q1839 : (Jvm.Cond.privateMethod ({ cls := "ColdBoxModel", name := "byteAt", desc := "(I)I" } : Jvm.MethodName)) ∈ lw_tbl := lw_at lw_m8 77 rfl
theorem q1840 : (Jvm.Cond.instanceMethod ({ cls := "ColdBoxModel", name := "byteAt", desc := "(I)I" } : Jvm.MethodName)) ∈ lw_all := lw_g (lw_at lw_m8 78 rfl) rfl
theorem q1841 : (Jvm.Cond.code ({ cls := "ColdBoxModel", name := "byteAt", desc := "(I)I" } : Jvm.MethodName) prog_38_method_7_code (2 : Nat) (Option.some Jvm.ClassFile.FieldType.int)) ∈ lw_all := lw_g (lw_at lw_m8 79 rfl) rfl
theorem q1842 : (Jvm.Cond.methodLink "ColdBoxModel" (122 : Nat) ({ cls := "ColdBoxModel", name := "isLetter", desc := "(I)Z" } : Jvm.MethodName)) ∈ lw_all := lw_g (lw_at lw_m8 80 rfl) rfl
theorem q1843 : (Jvm.Cond.static ({ cls := "ColdBoxModel", name := "isLetter", desc := "(I)Z" } : Jvm.MethodName)) ∈ lw_all := lw_g (lw_at lw_m8 81 rfl) rfl
theorem q1844 : (Jvm.Cond.code ({ cls := "ColdBoxModel", name := "isLetter", desc := "(I)Z" } : Jvm.MethodName) prog_38_method_8_code (1 : Nat) (Option.some Jvm.ClassFile.FieldType.boolean)) ∈ lw_all := lw_g (lw_at lw_m8 82 rfl) rfl
theorem q1845 : (Jvm.Cond.methodLink "ColdBoxModel" (126 : Nat) ({ cls := "ColdBoxModel", name := "isDigit", desc := "(I)Z" } : Jvm.MethodName)) ∈ lw_all := lw_g (lw_at lw_m8 83 rfl) rfl
theorem q1846 : (Jvm.Cond.static ({ cls := "ColdBoxModel", name := "isDigit", desc := "(I)Z" } : Jvm.MethodName)) ∈ lw_all := lw_g (lw_at lw_m8 84 rfl) rfl
theorem q1847 : (Jvm.Cond.code ({ cls := "ColdBoxModel", name := "isDigit", desc := "(I)Z" } : Jvm.MethodName) prog_38_method_9_code (1 : Nat) (Option.some Jvm.ClassFile.FieldType.boolean)) ∈ lw_all := lw_g (lw_at lw_m8 85 rfl) rfl
theorem q1848 : (Jvm.Cond.constantLong "ColdBoxModel" (139 : Nat) (27 : Int64)) ∈ lw_all := lw_g (lw_at lw_m8 86 rfl) rfl
theorem q1849 : (Jvm.Cond.constantLong "ColdBoxModel" (141 : Nat) (96 : Int64)) ∈ lw_all := lw_g (lw_at lw_m8 87 rfl) rfl
theorem q1850 : (Jvm.Cond.constantLong "ColdBoxModel" (143 : Nat) (-1 : Int64)) ∈ lw_all := lw_g (lw_at lw_m8 88 rfl) rfl
theorem q1851 : (Jvm.Cond.methodLink "ColdBoxModel" (232 : Nat) ({ cls := "ColdBoxModel", name := "wantClause", desc := "(I)V" } : Jvm.MethodName)) ∈ lw_all := lw_g (lw_at lw_m8 89 rfl) rfl
theorem q1852 : (Jvm.Cond.privateMethod ({ cls := "ColdBoxModel", name := "wantClause", desc := "(I)V" } : Jvm.MethodName)) ∈ lw_tbl := lw_at lw_m8 90 rfl
theorem q1853 : (Jvm.Cond.instanceMethod ({ cls := "ColdBoxModel", name := "wantClause", desc := "(I)V" } : Jvm.MethodName)) ∈ lw_all := lw_g (lw_at lw_m8 91 rfl) rfl
theorem q1854 : (Jvm.Cond.code ({ cls := "ColdBoxModel", name := "wantClause", desc := "(I)V" } : Jvm.MethodName) prog_38_method_23_code (4 : Nat) (Option.none : Option Jvm.ClassFile.FieldType)) ∈ lw_all := lw_g (lw_at lw_m8 92 rfl) rfl
theorem q1855 : (Jvm.Cond.methodLink "ColdBoxModel" (217 : Nat) ({ cls := "ColdBoxModel", name := "doingHere", desc := "()I" } : Jvm.MethodName)) ∈ lw_all := lw_g (lw_at lw_m8 93 rfl) rfl
theorem q1856 : (Jvm.Cond.privateMethod ({ cls := "ColdBoxModel", name := "doingHere", desc := "()I" } : Jvm.MethodName)) ∈ lw_tbl := lw_at lw_m8 94 rfl
theorem q1857 : (Jvm.Cond.instanceMethod ({ cls := "ColdBoxModel", name := "doingHere", desc := "()I" } : Jvm.MethodName)) ∈ lw_all := lw_g (lw_at lw_m8 95 rfl) rfl
theorem q1858 : (Jvm.Cond.code ({ cls := "ColdBoxModel", name := "doingHere", desc := "()I" } : Jvm.MethodName) prog_38_method_22_code (1 : Nat) (Option.some Jvm.ClassFile.FieldType.int)) ∈ lw_all := lw_g (lw_at lw_m8 96 rfl) rfl
theorem q1859 : (Jvm.Cond.constantLong "ColdBoxModel" (207 : Nat) (453740 : Int64)) ∈ lw_all := lw_g (lw_at lw_m8 97 rfl) rfl
theorem q1860 : (Jvm.Cond.methodLink "ColdBoxModel" (147 : Nat) ({ cls := "ColdBoxModel", name := "isWord", desc := "(J)Z" } : Jvm.MethodName)) ∈ lw_all := lw_g (lw_at lw_m8 98 rfl) rfl
theorem q1861 : (Jvm.Cond.privateMethod ({ cls := "ColdBoxModel", name := "isWord", desc := "(J)Z" } : Jvm.MethodName)) ∈ lw_tbl := lw_at lw_m8 99 rfl
theorem q1862 : (Jvm.Cond.instanceMethod ({ cls := "ColdBoxModel", name := "isWord", desc := "(J)Z" } : Jvm.MethodName)) ∈ lw_all := lw_g (lw_at lw_m8 100 rfl) rfl
theorem q1863 : (Jvm.Cond.code ({ cls := "ColdBoxModel", name := "isWord", desc := "(J)Z" } : Jvm.MethodName) prog_38_method_11_code (3 : Nat) (Option.some Jvm.ClassFile.FieldType.boolean)) ∈ lw_all := lw_g (lw_at lw_m8 101 rfl) rfl
theorem q1864 : (Jvm.Cond.constantLong "ColdBoxModel" (209 : Nat) (379948 : Int64)) ∈ lw_all := lw_g (lw_at lw_m8 102 rfl) rfl
theorem q1865 : (Jvm.Cond.constantLong "ColdBoxModel" (211 : Nat) (1887 : Int64)) ∈ lw_all := lw_g (lw_at lw_m8 103 rfl) rfl
theorem q1866 : (Jvm.Cond.constantLong "ColdBoxModel" (213 : Nat) (95839637 : Int64)) ∈ lw_all := lw_g (lw_at lw_m8 104 rfl) rfl
theorem q1867 : (Jvm.Cond.constantLong "ColdBoxModel" (215 : Nat) (110319223 : Int64)) ∈ lw_all := lw_g (lw_at lw_m8 105 rfl) rfl
theorem q1868 : (Jvm.Cond.constantLong "ColdBoxModel" (220 : Nat) (249 : Int64)) ∈ lw_all := lw_g (lw_at lw_m8 106 rfl) rfl
theorem q1869 : (Jvm.Cond.constantLong "ColdBoxModel" (222 : Nat) (10631 : Int64)) ∈ lw_all := lw_g (lw_at lw_m8 107 rfl) rfl
theorem q1870 : (Jvm.Cond.constantLong "ColdBoxModel" (224 : Nat) (1111 : Int64)) ∈ lw_all := lw_g (lw_at lw_m8 108 rfl) rfl
theorem q1871 : (Jvm.Cond.constantLong "ColdBoxModel" (226 : Nat) (423 : Int64)) ∈ lw_all := lw_g (lw_at lw_m8 109 rfl) rfl
theorem q1872 : (Jvm.Cond.methodLink "ColdBoxModel" (228 : Nat) ({ cls := "ColdBoxModel", name := "wantCond", desc := "(JJJ)V" } : Jvm.MethodName)) ∈ lw_all := lw_g (lw_at lw_m8 110 rfl) rfl
theorem q1873 : (Jvm.Cond.privateMethod ({ cls := "ColdBoxModel", name := "wantCond", desc := "(JJJ)V" } : Jvm.MethodName)) ∈ lw_tbl := lw_at lw_m8 111 rfl
theorem q1874 : (Jvm.Cond.instanceMethod ({ cls := "ColdBoxModel", name := "wantCond", desc := "(JJJ)V" } : Jvm.MethodName)) ∈ lw_all := lw_g (lw_at lw_m8 112 rfl) rfl
theorem q1875 : (Jvm.Cond.code ({ cls := "ColdBoxModel", name := "wantCond", desc := "(JJJ)V" } : Jvm.MethodName) prog_38_method_20_code (10 : Nat) (Option.none : Option Jvm.ClassFile.FieldType)) ∈ lw_all := lw_g (lw_at lw_m8 113 rfl) rfl
theorem q1876 : (Jvm.Cond.constant "ColdBoxModel" (191 : Nat) (40002 : Int32)) ∈ lw_all := lw_g (lw_at lw_m8 114 rfl) rfl
theorem q1877 : (Jvm.Cond.methodLink "ColdBoxModel" (198 : Nat) ({ cls := "ColdBoxModel", name := "pend", desc := "(I)V" } : Jvm.MethodName)) ∈ lw_all := lw_g (lw_at lw_m8 115 rfl) rfl
theorem q1878 : (Jvm.Cond.privateMethod ({ cls := "ColdBoxModel", name := "pend", desc := "(I)V" } : Jvm.MethodName)) ∈ lw_tbl := lw_at lw_m8 116 rfl
theorem q1879 : (Jvm.Cond.instanceMethod ({ cls := "ColdBoxModel", name := "pend", desc := "(I)V" } : Jvm.MethodName)) ∈ lw_all := lw_g (lw_at lw_m8 117 rfl) rfl
theorem q1880 : (Jvm.Cond.code ({ cls := "ColdBoxModel", name := "pend", desc := "(I)V" } : Jvm.MethodName) prog_38_method_15_code (2 : Nat) (Option.none : Option Jvm.ClassFile.FieldType)) ∈ lw_all := lw_g (lw_at lw_m8 118 rfl) rfl
theorem q1881 : (Jvm.Cond.methodLink "ColdBoxModel" (188 : Nat) ({ cls := "ColdBoxModel", name := "isMark", desc := "(I)Z" } : Jvm.MethodName)) ∈ lw_all := lw_g (lw_at lw_m8 119 rfl) rfl
theorem q1882 : (Jvm.Cond.privateMethod ({ cls := "ColdBoxModel", name := "isMark", desc := "(I)Z" } : Jvm.MethodName)) ∈ lw_tbl := lw_at lw_m8 120 rfl
theorem q1883 : (Jvm.Cond.instanceMethod ({ cls := "ColdBoxModel", name := "isMark", desc := "(I)Z" } : Jvm.MethodName)) ∈ lw_all := lw_g (lw_at lw_m8 121 rfl) rfl
theorem q1884 : (Jvm.Cond.code ({ cls := "ColdBoxModel", name := "isMark", desc := "(I)Z" } : Jvm.MethodName) prog_38_method_12_code (2 : Nat) (Option.some Jvm.ClassFile.FieldType.boolean)) ∈ lw_all := lw_g (lw_at lw_m8 122 rfl) rfl
theorem q1885 : (Jvm.Cond.constant "ColdBoxModel" (201 : Nat) (40003 : Int32)) ∈ lw_all := lw_g (lw_at lw_m8 123 rfl) rfl
theorem q1886 : (Jvm.Cond.methodLink "ColdBoxModel" (202 : Nat) ({ cls := "ColdBoxModel", name := "wantCompared", desc := "()V" } : Jvm.MethodName)) ∈ lw_all := lw_g (lw_at lw_m8 124 rfl) rfl
theorem q1887 : (Jvm.Cond.privateMethod ({ cls := "ColdBoxModel", name := "wantCompared", desc := "()V" } : Jvm.MethodName)) ∈ lw_tbl := lw_at lw_m8 125 rfl
theorem q1888 : (Jvm.Cond.instanceMethod ({ cls := "ColdBoxModel", name := "wantCompared", desc := "()V" } : Jvm.MethodName)) ∈ lw_all := lw_g (lw_at lw_m8 126 rfl) rfl
theorem q1889 : (Jvm.Cond.code ({ cls := "ColdBoxModel", name := "wantCompared", desc := "()V" } : Jvm.MethodName) prog_38_method_19_code (2 : Nat) (Option.none : Option Jvm.ClassFile.FieldType)) ∈ lw_all := lw_g (lw_at lw_m8 127 rfl) rfl
theorem q1890 : (Jvm.Cond.methodLink "ColdBoxModel" (185 : Nat) ({ cls := "ColdBoxModel", name := "wantValue", desc := "()V" } : Jvm.MethodName)) ∈ lw_all := lw_g (lw_at lw_m8 128 rfl) rfl
theorem q1891 : (Jvm.Cond.privateMethod ({ cls := "ColdBoxModel", name := "wantValue", desc := "()V" } : Jvm.MethodName)) ∈ lw_tbl := lw_at lw_m8 129 rfl
theorem q1892 : (Jvm.Cond.instanceMethod ({ cls := "ColdBoxModel", name := "wantValue", desc := "()V" } : Jvm.MethodName)) ∈ lw_all := lw_g (lw_at lw_m8 130 rfl) rfl
theorem q1893 : (Jvm.Cond.code ({ cls := "ColdBoxModel", name := "wantValue", desc := "()V" } : Jvm.MethodName) prog_38_method_18_code (2 : Nat) (Option.none : Option Jvm.ClassFile.FieldType)) ∈ lw_all := lw_g (lw_at lw_m8 131 rfl) rfl
theorem q1894 : (Jvm.Cond.methodLink "ColdBoxModel" (174 : Nat) ({ cls := "ColdBoxModel", name := "factHere", desc := "()I" } : Jvm.MethodName)) ∈ lw_all := lw_g (lw_at lw_m8 132 rfl) rfl
theorem q1895 : (Jvm.Cond.privateMethod ({ cls := "ColdBoxModel", name := "factHere", desc := "()I" } : Jvm.MethodName)) ∈ lw_tbl := lw_at lw_m8 133 rfl
theorem q1896 : (Jvm.Cond.instanceMethod ({ cls := "ColdBoxModel", name := "factHere", desc := "()I" } : Jvm.MethodName)) ∈ lw_all := lw_g (lw_at lw_m8 134 rfl) rfl
theorem q1897 : (Jvm.Cond.code ({ cls := "ColdBoxModel", name := "factHere", desc := "()I" } : Jvm.MethodName) prog_38_method_13_code (1 : Nat) (Option.some Jvm.ClassFile.FieldType.int)) ∈ lw_all := lw_g (lw_at lw_m8 135 rfl) rfl
theorem q1898 : (Jvm.Cond.constantLong "ColdBoxModel" (145 : Nat) (456500 : Int64)) ∈ lw_all := lw_g (lw_at lw_m8 136 rfl) rfl
theorem q1899 : (Jvm.Cond.constantLong "ColdBoxModel" (151 : Nat) (247663 : Int64)) ∈ lw_all := lw_g (lw_at lw_m8 137 rfl) rfl
theorem q1900 : (Jvm.Cond.constantLong "ColdBoxModel" (153 : Nat) (4421 : Int64)) ∈ lw_all := lw_g (lw_at lw_m8 138 rfl) rfl
theorem q1901 : (Jvm.Cond.constantLong "ColdBoxModel" (155 : Nat) (12257559 : Int64)) ∈ lw_all := lw_g (lw_at lw_m8 139 rfl) rfl
theorem q1902 : (Jvm.Cond.constantLong "ColdBoxModel" (157 : Nat) (116794 : Int64)) ∈ lw_all := lw_g (lw_at lw_m8 140 rfl) rfl
theorem q1903 : (Jvm.Cond.constantLong "ColdBoxModel" (159 : Nat) (11522 : Int64)) ∈ lw_all := lw_g (lw_at lw_m8 141 rfl) rfl
theorem q1904 : (Jvm.Cond.methodLink "ColdBoxModel" (170 : Nat) ({ cls := "ColdBoxModel", name := "emit", desc := "(I)V" } : Jvm.MethodName)) ∈ lw_all := lw_g (lw_at lw_m8 142 rfl) rfl
theorem q1905 : (Jvm.Cond.privateMethod ({ cls := "ColdBoxModel", name := "emit", desc := "(I)V" } : Jvm.MethodName)) ∈ lw_tbl := lw_at lw_m8 143 rfl
theorem q1906 : (Jvm.Cond.instanceMethod ({ cls := "ColdBoxModel", name := "emit", desc := "(I)V" } : Jvm.MethodName)) ∈ lw_all := lw_g (lw_at lw_m8 144 rfl) rfl
theorem q1907 : (Jvm.Cond.code ({ cls := "ColdBoxModel", name := "emit", desc := "(I)V" } : Jvm.MethodName) prog_38_method_14_code (2 : Nat) (Option.none : Option Jvm.ClassFile.FieldType)) ∈ lw_all := lw_g (lw_at lw_m8 145 rfl) rfl
theorem q1908 : (Jvm.Cond.methodLink "ColdBoxModel" (192 : Nat) ({ cls := "ColdBoxModel", name := "settle", desc := "(I)V" } : Jvm.MethodName)) ∈ lw_all := lw_g (lw_at lw_m8 146 rfl) rfl
theorem q1909 : (Jvm.Cond.privateMethod ({ cls := "ColdBoxModel", name := "settle", desc := "(I)V" } : Jvm.MethodName)) ∈ lw_tbl := lw_at lw_m8 147 rfl
theorem q1910 : (Jvm.Cond.instanceMethod ({ cls := "ColdBoxModel", name := "settle", desc := "(I)V" } : Jvm.MethodName)) ∈ lw_all := lw_g (lw_at lw_m8 148 rfl) rfl
theorem q1911 : (Jvm.Cond.code ({ cls := "ColdBoxModel", name := "settle", desc := "(I)V" } : Jvm.MethodName) prog_38_method_17_code (2 : Nat) (Option.none : Option Jvm.ClassFile.FieldType)) ∈ lw_all := lw_g (lw_at lw_m8 149 rfl) rfl
theorem q1912 : (Jvm.Cond.methodLink "ColdBoxModel" (167 : Nat) ({ cls := "ColdBoxModel", name := "isTop", desc := "(I)Z" } : Jvm.MethodName)) ∈ lw_all := lw_g (lw_at lw_m8 150 rfl) rfl
theorem q1913 : (Jvm.Cond.privateMethod ({ cls := "ColdBoxModel", name := "isTop", desc := "(I)Z" } : Jvm.MethodName)) ∈ lw_tbl := lw_at lw_m8 151 rfl
theorem q1914 : (Jvm.Cond.instanceMethod ({ cls := "ColdBoxModel", name := "isTop", desc := "(I)Z" } : Jvm.MethodName)) ∈ lw_all := lw_g (lw_at lw_m8 152 rfl) rfl
theorem q1915 : (Jvm.Cond.code ({ cls := "ColdBoxModel", name := "isTop", desc := "(I)Z" } : Jvm.MethodName) prog_38_method_16_code (2 : Nat) (Option.some Jvm.ClassFile.FieldType.boolean)) ∈ lw_all := lw_g (lw_at lw_m8 153 rfl) rfl
theorem q1916 : (Jvm.Cond.constant "ColdBoxModel" (205 : Nat) (40000 : Int32)) ∈ lw_all := lw_g (lw_at lw_m8 154 rfl) rfl
theorem q1917 : (Jvm.Cond.constant "ColdBoxModel" (206 : Nat) (40001 : Int32)) ∈ lw_all := lw_g (lw_at lw_m8 155 rfl) rfl
theorem q1919 : (Jvm.Cond.instanceMethod ({ cls := "ColdBoxModel", name := "out", desc := "(II)I" } : Jvm.MethodName)) ∈ lw_all := lw_g (lw_at lw_m8 157 rfl) rfl
theorem q1920 : (Jvm.Cond.selects "ColdBoxModel" ({ cls := "ColdBoxModel", name := "out", desc := "(II)I" } : Jvm.MethodName) ({ cls := "ColdBoxModel", name := "out", desc := "(II)I" } : Jvm.MethodName)) ∈ lw_all := lw_g (lw_at lw_m8 158 rfl) rfl
theorem q1921 : (Jvm.Cond.code ({ cls := "ColdBoxModel", name := "out", desc := "(II)I" } : Jvm.MethodName) prog_38_method_25_code (4 : Nat) (Option.some Jvm.ClassFile.FieldType.int)) ∈ lw_all := lw_g (lw_at lw_m8 159 rfl) rfl
theorem q1922 : (Jvm.Cond.methodLink "ColdBoxModel" (238 : Nat) ({ cls := "ColdBoxModel", name := "isWeek", desc := "(I)Z" } : Jvm.MethodName)) ∈ lw_all := lw_g (lw_at lw_m8 160 rfl) rfl
theorem q1923 : (Jvm.Cond.static ({ cls := "ColdBoxModel", name := "isWeek", desc := "(I)Z" } : Jvm.MethodName)) ∈ lw_all := lw_g (lw_at lw_m8 161 rfl) rfl
theorem q1924 : (Jvm.Cond.code ({ cls := "ColdBoxModel", name := "isWeek", desc := "(I)Z" } : Jvm.MethodName) prog_38_method_3_code (1 : Nat) (Option.some Jvm.ClassFile.FieldType.boolean)) ∈ lw_all := lw_g (lw_at lw_m8 162 rfl) rfl
theorem q1925 : (Jvm.Cond.constant "ColdBoxModel" (241 : Nat) (-2147483648 : Int32)) ∈ lw_all := lw_g (lw_at lw_m8 163 rfl) rfl
theorem q1927 : (Jvm.Cond.instanceMethod ({ cls := "ColdBoxModel", name := "air", desc := "(II)I" } : Jvm.MethodName)) ∈ lw_all := lw_g (lw_at lw_m8 165 rfl) rfl
theorem q1928 : (Jvm.Cond.selects "ColdBoxModel" ({ cls := "ColdBoxModel", name := "air", desc := "(II)I" } : Jvm.MethodName) ({ cls := "ColdBoxModel", name := "air", desc := "(II)I" } : Jvm.MethodName)) ∈ lw_all := lw_g (lw_at lw_m8 166 rfl) rfl
theorem q1929 : (Jvm.Cond.code ({ cls := "ColdBoxModel", name := "air", desc := "(II)I" } : Jvm.MethodName) prog_38_method_26_code (4 : Nat) (Option.some Jvm.ClassFile.FieldType.int)) ∈ lw_all := lw_g (lw_at lw_m8 167 rfl) rfl
theorem q1931 : (Jvm.Cond.instanceMethod ({ cls := "ColdBoxModel", name := "weekOf", desc := "(III)I" } : Jvm.MethodName)) ∈ lw_all := lw_g (lw_at lw_m8 169 rfl) rfl
theorem q1932 : (Jvm.Cond.selects "ColdBoxModel" ({ cls := "ColdBoxModel", name := "weekOf", desc := "(III)I" } : Jvm.MethodName) ({ cls := "ColdBoxModel", name := "weekOf", desc := "(III)I" } : Jvm.MethodName)) ∈ lw_all := lw_g (lw_at lw_m8 170 rfl) rfl
theorem q1933 : (Jvm.Cond.code ({ cls := "ColdBoxModel", name := "weekOf", desc := "(III)I" } : Jvm.MethodName) prog_38_method_29_code (4 : Nat) (Option.some Jvm.ClassFile.FieldType.int)) ∈ lw_all := lw_g (lw_at lw_m8 171 rfl) rfl
theorem q1934 : (Jvm.Cond.methodLink "ColdBoxModel" (246 : Nat) ({ cls := "ColdBoxModel", name := "isPlace", desc := "(I)Z" } : Jvm.MethodName)) ∈ lw_all := lw_g (lw_at lw_m8 172 rfl) rfl
theorem q1935 : (Jvm.Cond.static ({ cls := "ColdBoxModel", name := "isPlace", desc := "(I)Z" } : Jvm.MethodName)) ∈ lw_all := lw_g (lw_at lw_m8 173 rfl) rfl
theorem q1936 : (Jvm.Cond.code ({ cls := "ColdBoxModel", name := "isPlace", desc := "(I)Z" } : Jvm.MethodName) prog_38_method_4_code (1 : Nat) (Option.some Jvm.ClassFile.FieldType.boolean)) ∈ lw_all := lw_g (lw_at lw_m8 174 rfl) rfl
theorem q1937 : (Jvm.Cond.methodLink "ColdBoxModel" (242 : Nat) ({ cls := "ColdBoxModel", name := "warmthOf", desc := "(II)I" } : Jvm.MethodName)) ∈ lw_all := lw_g (lw_at lw_m8 175 rfl) rfl
theorem q1938 : (Jvm.Cond.privateMethod ({ cls := "ColdBoxModel", name := "warmthOf", desc := "(II)I" } : Jvm.MethodName)) ∈ lw_tbl := lw_at lw_m8 176 rfl
theorem q1939 : (Jvm.Cond.instanceMethod ({ cls := "ColdBoxModel", name := "warmthOf", desc := "(II)I" } : Jvm.MethodName)) ∈ lw_all := lw_g (lw_at lw_m8 177 rfl) rfl
theorem q1940 : (Jvm.Cond.code ({ cls := "ColdBoxModel", name := "warmthOf", desc := "(II)I" } : Jvm.MethodName) prog_38_method_27_code (4 : Nat) (Option.some Jvm.ClassFile.FieldType.int)) ∈ lw_all := lw_g (lw_at lw_m8 178 rfl) rfl
theorem q1941 : (Jvm.Cond.methodLink "ColdBoxModel" (249 : Nat) ({ cls := "ColdBoxModel", name := "kindOf", desc := "(II)I" } : Jvm.MethodName)) ∈ lw_all := lw_g (lw_at lw_m8 179 rfl) rfl
theorem q1942 : (Jvm.Cond.privateMethod ({ cls := "ColdBoxModel", name := "kindOf", desc := "(II)I" } : Jvm.MethodName)) ∈ lw_tbl := lw_at lw_m8 180 rfl
theorem q1943 : (Jvm.Cond.instanceMethod ({ cls := "ColdBoxModel", name := "kindOf", desc := "(II)I" } : Jvm.MethodName)) ∈ lw_all := lw_g (lw_at lw_m8 181 rfl) rfl
theorem q1944 : (Jvm.Cond.code ({ cls := "ColdBoxModel", name := "kindOf", desc := "(II)I" } : Jvm.MethodName) prog_38_method_28_code (4 : Nat) (Option.some Jvm.ClassFile.FieldType.int)) ∈ lw_all := lw_g (lw_at lw_m8 182 rfl) rfl
theorem q1946 : (Jvm.Cond.instanceMethod ({ cls := "ColdBoxModel", name := "rule", desc := "(II)I" } : Jvm.MethodName)) ∈ lw_all := lw_g (lw_at lw_m8 184 rfl) rfl
theorem q1947 : (Jvm.Cond.selects "ColdBoxModel" ({ cls := "ColdBoxModel", name := "rule", desc := "(II)I" } : Jvm.MethodName) ({ cls := "ColdBoxModel", name := "rule", desc := "(II)I" } : Jvm.MethodName)) ∈ lw_all := lw_g (lw_at lw_m8 185 rfl) rfl
theorem q1948 : (Jvm.Cond.code ({ cls := "ColdBoxModel", name := "rule", desc := "(II)I" } : Jvm.MethodName) prog_38_method_30_code (5 : Nat) (Option.some Jvm.ClassFile.FieldType.int)) ∈ lw_all := lw_g (lw_at lw_m8 186 rfl) rfl
theorem q1950 : (Jvm.Cond.instanceMethod ({ cls := "ColdBoxModel", name := "rate", desc := "(I)I" } : Jvm.MethodName)) ∈ lw_all := lw_g (lw_at lw_m8 188 rfl) rfl
theorem q1951 : (Jvm.Cond.selects "ColdBoxModel" ({ cls := "ColdBoxModel", name := "rate", desc := "(I)I" } : Jvm.MethodName) ({ cls := "ColdBoxModel", name := "rate", desc := "(I)I" } : Jvm.MethodName)) ∈ lw_all := lw_g (lw_at lw_m8 189 rfl) rfl
theorem q1952 : (Jvm.Cond.code ({ cls := "ColdBoxModel", name := "rate", desc := "(I)I" } : Jvm.MethodName) prog_38_method_32_code (2 : Nat) (Option.some Jvm.ClassFile.FieldType.int)) ∈ lw_all := lw_g (lw_at lw_m8 190 rfl) rfl
theorem q1953 : (Jvm.Cond.methodLink "ColdBoxModel" (252 : Nat) ({ cls := "ColdBoxModel", name := "rateAt", desc := "(I)I" } : Jvm.MethodName)) ∈ lw_all := lw_g (lw_at lw_m8 191 rfl) rfl
theorem q1954 : (Jvm.Cond.privateMethod ({ cls := "ColdBoxModel", name := "rateAt", desc := "(I)I" } : Jvm.MethodName)) ∈ lw_tbl := lw_at lw_m8 192 rfl
theorem q1955 : (Jvm.Cond.instanceMethod ({ cls := "ColdBoxModel", name := "rateAt", desc := "(I)I" } : Jvm.MethodName)) ∈ lw_all := lw_g (lw_at lw_m8 193 rfl) rfl
theorem q1956 : (Jvm.Cond.code ({ cls := "ColdBoxModel", name := "rateAt", desc := "(I)I" } : Jvm.MethodName) prog_38_method_31_code (2 : Nat) (Option.some Jvm.ClassFile.FieldType.int)) ∈ lw_all := lw_g (lw_at lw_m8 194 rfl) rfl
theorem q1958 : (Jvm.Cond.instanceMethod ({ cls := "ColdBoxModel", name := "body", desc := "(II)I" } : Jvm.MethodName)) ∈ lw_all := lw_g (lw_at lw_m8 196 rfl) rfl
theorem q1959 : (Jvm.Cond.selects "ColdBoxModel" ({ cls := "ColdBoxModel", name := "body", desc := "(II)I" } : Jvm.MethodName) ({ cls := "ColdBoxModel", name := "body", desc := "(II)I" } : Jvm.MethodName)) ∈ lw_all := lw_g (lw_at lw_m8 197 rfl) rfl
theorem q1960 : (Jvm.Cond.code ({ cls := "ColdBoxModel", name := "body", desc := "(II)I" } : Jvm.MethodName) prog_38_method_33_code (5 : Nat) (Option.some Jvm.ClassFile.FieldType.int)) ∈ lw_all := lw_g (lw_at lw_m8 198 rfl) rfl
theorem q1962 : (Jvm.Cond.instanceMethod ({ cls := "ColdBoxModel", name := "bodyOf", desc := "(I)I" } : Jvm.MethodName)) ∈ lw_all := lw_g (lw_at lw_m8 200 rfl) rfl
theorem q1963 : (Jvm.Cond.selects "ColdBoxModel" ({ cls := "ColdBoxModel", name := "bodyOf", desc := "(I)I" } : Jvm.MethodName) ({ cls := "ColdBoxModel", name := "bodyOf", desc := "(I)I" } : Jvm.MethodName)) ∈ lw_all := lw_g (lw_at lw_m8 201 rfl) rfl
theorem q1964 : (Jvm.Cond.code ({ cls := "ColdBoxModel", name := "bodyOf", desc := "(I)I" } : Jvm.MethodName) prog_38_method_37_code (2 : Nat) (Option.some Jvm.ClassFile.FieldType.int)) ∈ lw_all := lw_g (lw_at lw_m8 202 rfl) rfl
theorem q1965 : (Jvm.Cond.methodLink "ColdBoxModel" (260 : Nat) ({ cls := "ColdBoxModel", name := "weight", desc := "()I" } : Jvm.MethodName)) ∈ lw_all := lw_g (lw_at lw_m8 203 rfl) rfl
theorem q1966 : (Jvm.Cond.privateMethod ({ cls := "ColdBoxModel", name := "weight", desc := "()I" } : Jvm.MethodName)) ∈ lw_tbl := lw_at lw_m8 204 rfl
theorem q1967 : (Jvm.Cond.instanceMethod ({ cls := "ColdBoxModel", name := "weight", desc := "()I" } : Jvm.MethodName)) ∈ lw_all := lw_g (lw_at lw_m8 205 rfl) rfl
theorem q1968 : (Jvm.Cond.code ({ cls := "ColdBoxModel", name := "weight", desc := "()I" } : Jvm.MethodName) prog_38_method_34_code (1 : Nat) (Option.some Jvm.ClassFile.FieldType.int)) ∈ lw_all := lw_g (lw_at lw_m8 206 rfl) rfl
theorem q1969 : (Jvm.Cond.methodLink "ColdBoxModel" (255 : Nat) ({ cls := "ColdBoxModel", name := "its", desc := "(I)I" } : Jvm.MethodName)) ∈ lw_all := lw_g (lw_at lw_m8 207 rfl) rfl
theorem q1970 : (Jvm.Cond.privateMethod ({ cls := "ColdBoxModel", name := "its", desc := "(I)I" } : Jvm.MethodName)) ∈ lw_tbl := lw_at lw_m8 208 rfl
theorem q1971 : (Jvm.Cond.instanceMethod ({ cls := "ColdBoxModel", name := "its", desc := "(I)I" } : Jvm.MethodName)) ∈ lw_all := lw_g (lw_at lw_m8 209 rfl) rfl
theorem q1972 : (Jvm.Cond.code ({ cls := "ColdBoxModel", name := "its", desc := "(I)I" } : Jvm.MethodName) prog_38_method_5_code (2 : Nat) (Option.some Jvm.ClassFile.FieldType.int)) ∈ lw_all := lw_g (lw_at lw_m8 210 rfl) rfl
theorem q1973 : (Jvm.Cond.methodLink "ColdBoxModel" (263 : Nat) ({ cls := "ColdBoxModel", name := "isAlive", desc := "()Z" } : Jvm.MethodName)) ∈ lw_all := lw_g (lw_at lw_m8 211 rfl) rfl
theorem q1974 : (Jvm.Cond.privateMethod ({ cls := "ColdBoxModel", name := "isAlive", desc := "()Z" } : Jvm.MethodName)) ∈ lw_tbl := lw_at lw_m8 212 rfl
theorem q1975 : (Jvm.Cond.instanceMethod ({ cls := "ColdBoxModel", name := "isAlive", desc := "()Z" } : Jvm.MethodName)) ∈ lw_all := lw_g (lw_at lw_m8 213 rfl) rfl
theorem q1976 : (Jvm.Cond.code ({ cls := "ColdBoxModel", name := "isAlive", desc := "()Z" } : Jvm.MethodName) prog_38_method_35_code (1 : Nat) (Option.some Jvm.ClassFile.FieldType.boolean)) ∈ lw_all := lw_g (lw_at lw_m8 214 rfl) rfl
theorem q1977 : (Jvm.Cond.methodLink "ColdBoxModel" (267 : Nat) ({ cls := "ColdBoxModel", name := "ratioOf", desc := "(II)I" } : Jvm.MethodName)) ∈ lw_all := lw_g (lw_at lw_m8 215 rfl) rfl
theorem q1978 : (Jvm.Cond.static ({ cls := "ColdBoxModel", name := "ratioOf", desc := "(II)I" } : Jvm.MethodName)) ∈ lw_all := lw_g (lw_at lw_m8 216 rfl) rfl
theorem q1979 : (Jvm.Cond.code ({ cls := "ColdBoxModel", name := "ratioOf", desc := "(II)I" } : Jvm.MethodName) prog_38_method_36_code (4 : Nat) (Option.some Jvm.ClassFile.FieldType.int)) ∈ lw_all := lw_g (lw_at lw_m8 217 rfl) rfl
theorem q1980 : (Jvm.Cond.constantLong "ColdBoxModel" (258 : Nat) (1000000 : Int64)) ∈ lw_all := lw_g (lw_at lw_m8 218 rfl) rfl
theorem q1982 : (Jvm.Cond.instanceMethod ({ cls := "ColdBoxModel", name := "uses", desc := "(II)I" } : Jvm.MethodName)) ∈ lw_all := lw_g (lw_at lw_m8 220 rfl) rfl
theorem q1983 : (Jvm.Cond.selects "ColdBoxModel" ({ cls := "ColdBoxModel", name := "uses", desc := "(II)I" } : Jvm.MethodName) ({ cls := "ColdBoxModel", name := "uses", desc := "(II)I" } : Jvm.MethodName)) ∈ lw_all := lw_g (lw_at lw_m8 221 rfl) rfl
theorem q1984 : (Jvm.Cond.code ({ cls := "ColdBoxModel", name := "uses", desc := "(II)I" } : Jvm.MethodName) prog_38_method_40_code (3 : Nat) (Option.some Jvm.ClassFile.FieldType.int)) ∈ lw_all := lw_g (lw_at lw_m8 222 rfl) rfl
theorem q1985 : (Jvm.Cond.methodLink "ColdBoxModel" (270 : Nat) ({ cls := "ColdBoxModel", name := "usesOf", desc := "(II)I" } : Jvm.MethodName)) ∈ lw_all := lw_g (lw_at lw_m8 223 rfl) rfl
theorem q1986 : (Jvm.Cond.privateMethod ({ cls := "ColdBoxModel", name := "usesOf", desc := "(II)I" } : Jvm.MethodName)) ∈ lw_tbl := lw_at lw_m8 224 rfl
theorem q1987 : (Jvm.Cond.instanceMethod ({ cls := "ColdBoxModel", name := "usesOf", desc := "(II)I" } : Jvm.MethodName)) ∈ lw_all := lw_g (lw_at lw_m8 225 rfl) rfl
theorem q1988 : (Jvm.Cond.code ({ cls := "ColdBoxModel", name := "usesOf", desc := "(II)I" } : Jvm.MethodName) prog_38_method_38_code (4 : Nat) (Option.some Jvm.ClassFile.FieldType.int)) ∈ lw_all := lw_g (lw_at lw_m8 226 rfl) rfl
theorem q1990 : (Jvm.Cond.instanceMethod ({ cls := "ColdBoxModel", name := "dries", desc := "(II)I" } : Jvm.MethodName)) ∈ lw_all := lw_g (lw_at lw_m8 228 rfl) rfl
theorem q1991 : (Jvm.Cond.selects "ColdBoxModel" ({ cls := "ColdBoxModel", name := "dries", desc := "(II)I" } : Jvm.MethodName) ({ cls := "ColdBoxModel", name := "dries", desc := "(II)I" } : Jvm.MethodName)) ∈ lw_all := lw_g (lw_at lw_m8 229 rfl) rfl
theorem q1992 : (Jvm.Cond.code ({ cls := "ColdBoxModel", name := "dries", desc := "(II)I" } : Jvm.MethodName) prog_38_method_41_code (3 : Nat) (Option.some Jvm.ClassFile.FieldType.int)) ∈ lw_all := lw_g (lw_at lw_m8 230 rfl) rfl
theorem q1993 : (Jvm.Cond.methodLink "ColdBoxModel" (273 : Nat) ({ cls := "ColdBoxModel", name := "driesOf", desc := "(II)I" } : Jvm.MethodName)) ∈ lw_all := lw_g (lw_at lw_m8 231 rfl) rfl
theorem q1994 : (Jvm.Cond.privateMethod ({ cls := "ColdBoxModel", name := "driesOf", desc := "(II)I" } : Jvm.MethodName)) ∈ lw_tbl := lw_at lw_m8 232 rfl
theorem q1995 : (Jvm.Cond.instanceMethod ({ cls := "ColdBoxModel", name := "driesOf", desc := "(II)I" } : Jvm.MethodName)) ∈ lw_all := lw_g (lw_at lw_m8 233 rfl) rfl
theorem q1996 : (Jvm.Cond.code ({ cls := "ColdBoxModel", name := "driesOf", desc := "(II)I" } : Jvm.MethodName) prog_38_method_39_code (4 : Nat) (Option.some Jvm.ClassFile.FieldType.int)) ∈ lw_all := lw_g (lw_at lw_m8 234 rfl) rfl
theorem q1998 : (Jvm.Cond.instanceMethod ({ cls := "ColdBoxModel", name := "goes", desc := "(I)I" } : Jvm.MethodName)) ∈ lw_all := lw_g (lw_at lw_m8 236 rfl) rfl
theorem q1999 : (Jvm.Cond.selects "ColdBoxModel" ({ cls := "ColdBoxModel", name := "goes", desc := "(I)I" } : Jvm.MethodName) ({ cls := "ColdBoxModel", name := "goes", desc := "(I)I" } : Jvm.MethodName)) ∈ lw_all := lw_g (lw_at lw_m8 237 rfl) rfl
theorem q2000 : (Jvm.Cond.code ({ cls := "ColdBoxModel", name := "goes", desc := "(I)I" } : Jvm.MethodName) prog_38_method_43_code (3 : Nat) (Option.some Jvm.ClassFile.FieldType.int)) ∈ lw_all := lw_g (lw_at lw_m8 238 rfl) rfl
theorem q2001 : (Jvm.Cond.methodLink "ColdBoxModel" (276 : Nat) ({ cls := "ColdBoxModel", name := "weekGoes", desc := "()V" } : Jvm.MethodName)) ∈ lw_all := lw_g (lw_at lw_m8 239 rfl) rfl
theorem q2002 : (Jvm.Cond.privateMethod ({ cls := "ColdBoxModel", name := "weekGoes", desc := "()V" } : Jvm.MethodName)) ∈ lw_tbl := lw_at lw_m9 0 rfl
theorem q2003 : (Jvm.Cond.instanceMethod ({ cls := "ColdBoxModel", name := "weekGoes", desc := "()V" } : Jvm.MethodName)) ∈ lw_all := lw_g (lw_at lw_m9 1 rfl) rfl
theorem q2004 : (Jvm.Cond.code ({ cls := "ColdBoxModel", name := "weekGoes", desc := "()V" } : Jvm.MethodName) prog_38_method_42_code (4 : Nat) (Option.none : Option Jvm.ClassFile.FieldType)) ∈ lw_all := lw_g (lw_at lw_m9 2 rfl) rfl
theorem q2006 : (Jvm.Cond.instanceMethod ({ cls := "ColdBoxModel", name := "begin", desc := "(I)I" } : Jvm.MethodName)) ∈ lw_all := lw_g (lw_at lw_m9 4 rfl) rfl
theorem q2007 : (Jvm.Cond.selects "ColdBoxModel" ({ cls := "ColdBoxModel", name := "begin", desc := "(I)I" } : Jvm.MethodName) ({ cls := "ColdBoxModel", name := "begin", desc := "(I)I" } : Jvm.MethodName)) ∈ lw_all := lw_g (lw_at lw_m9 5 rfl) rfl
theorem q2008 : (Jvm.Cond.code ({ cls := "ColdBoxModel", name := "begin", desc := "(I)I" } : Jvm.MethodName) prog_38_method_44_code (3 : Nat) (Option.some Jvm.ClassFile.FieldType.int)) ∈ lw_all := lw_g (lw_at lw_m9 6 rfl) rfl
theorem q2010 : (Jvm.Cond.instanceMethod ({ cls := "ColdBoxModel", name := "says", desc := "()I" } : Jvm.MethodName)) ∈ lw_all := lw_g (lw_at lw_m9 8 rfl) rfl
theorem q2011 : (Jvm.Cond.selects "ColdBoxModel" ({ cls := "ColdBoxModel", name := "says", desc := "()I" } : Jvm.MethodName) ({ cls := "ColdBoxModel", name := "says", desc := "()I" } : Jvm.MethodName)) ∈ lw_all := lw_g (lw_at lw_m9 9 rfl) rfl
theorem q2012 : (Jvm.Cond.code ({ cls := "ColdBoxModel", name := "says", desc := "()I" } : Jvm.MethodName) prog_38_method_47_code (1 : Nat) (Option.some Jvm.ClassFile.FieldType.int)) ∈ lw_all := lw_g (lw_at lw_m9 10 rfl) rfl
theorem q2013 : (Jvm.Cond.methodLink "ColdBoxModel" (286 : Nat) ({ cls := "ColdBoxModel", name := "clauseBy", desc := "(I)I" } : Jvm.MethodName)) ∈ lw_all := lw_g (lw_at lw_m9 11 rfl) rfl
theorem q2014 : (Jvm.Cond.privateMethod ({ cls := "ColdBoxModel", name := "clauseBy", desc := "(I)I" } : Jvm.MethodName)) ∈ lw_tbl := lw_at lw_m9 12 rfl
theorem q2015 : (Jvm.Cond.instanceMethod ({ cls := "ColdBoxModel", name := "clauseBy", desc := "(I)I" } : Jvm.MethodName)) ∈ lw_all := lw_g (lw_at lw_m9 13 rfl) rfl
theorem q2016 : (Jvm.Cond.code ({ cls := "ColdBoxModel", name := "clauseBy", desc := "(I)I" } : Jvm.MethodName) prog_38_method_46_code (4 : Nat) (Option.some Jvm.ClassFile.FieldType.int)) ∈ lw_all := lw_g (lw_at lw_m9 14 rfl) rfl
theorem q2017 : (Jvm.Cond.methodLink "ColdBoxModel" (279 : Nat) ({ cls := "ColdBoxModel", name := "lossOf", desc := "(II)I" } : Jvm.MethodName)) ∈ lw_all := lw_g (lw_at lw_m9 15 rfl) rfl
theorem q2018 : (Jvm.Cond.static ({ cls := "ColdBoxModel", name := "lossOf", desc := "(II)I" } : Jvm.MethodName)) ∈ lw_all := lw_g (lw_at lw_m9 16 rfl) rfl
theorem q2019 : (Jvm.Cond.code ({ cls := "ColdBoxModel", name := "lossOf", desc := "(II)I" } : Jvm.MethodName) prog_38_method_45_code (2 : Nat) (Option.some Jvm.ClassFile.FieldType.int)) ∈ lw_all := lw_g (lw_at lw_m9 17 rfl) rfl
theorem q2020 : (Jvm.Cond.methodLink "ColdBoxModel" (282 : Nat) ({ cls := "ColdBoxModel", name := "isSo", desc := "([III)Z" } : Jvm.MethodName)) ∈ lw_all := lw_g (lw_at lw_m9 18 rfl) rfl
theorem q2021 : (Jvm.Cond.privateMethod ({ cls := "ColdBoxModel", name := "isSo", desc := "([III)Z" } : Jvm.MethodName)) ∈ lw_tbl := lw_at lw_m9 19 rfl
theorem q2022 : (Jvm.Cond.instanceMethod ({ cls := "ColdBoxModel", name := "isSo", desc := "([III)Z" } : Jvm.MethodName)) ∈ lw_all := lw_g (lw_at lw_m9 20 rfl) rfl
theorem q2023 : (Jvm.Cond.code ({ cls := "ColdBoxModel", name := "isSo", desc := "([III)Z" } : Jvm.MethodName) prog_38_method_21_code (9 : Nat) (Option.some Jvm.ClassFile.FieldType.boolean)) ∈ lw_all := lw_g (lw_at lw_m9 21 rfl) rfl
theorem q2025 : (Jvm.Cond.instanceMethod ({ cls := "ColdBoxModel", name := "lie", desc := "()I" } : Jvm.MethodName)) ∈ lw_all := lw_g (lw_at lw_m9 23 rfl) rfl
theorem q2026 : (Jvm.Cond.selects "ColdBoxModel" ({ cls := "ColdBoxModel", name := "lie", desc := "()I" } : Jvm.MethodName) ({ cls := "ColdBoxModel", name := "lie", desc := "()I" } : Jvm.MethodName)) ∈ lw_all := lw_g (lw_at lw_m9 24 rfl) rfl
theorem q2027 : (Jvm.Cond.code ({ cls := "ColdBoxModel", name := "lie", desc := "()I" } : Jvm.MethodName) prog_38_method_49_code (1 : Nat) (Option.some Jvm.ClassFile.FieldType.int)) ∈ lw_all := lw_g (lw_at lw_m9 25 rfl) rfl
theorem q2028 : (Jvm.Cond.methodLink "ColdBoxModel" (292 : Nat) ({ cls := "ColdBoxModel", name := "lies", desc := "()V" } : Jvm.MethodName)) ∈ lw_all := lw_g (lw_at lw_m9 26 rfl) rfl
theorem q2029 : (Jvm.Cond.privateMethod ({ cls := "ColdBoxModel", name := "lies", desc := "()V" } : Jvm.MethodName)) ∈ lw_tbl := lw_at lw_m9 27 rfl
theorem q2030 : (Jvm.Cond.instanceMethod ({ cls := "ColdBoxModel", name := "lies", desc := "()V" } : Jvm.MethodName)) ∈ lw_all := lw_g (lw_at lw_m9 28 rfl) rfl
theorem q2031 : (Jvm.Cond.code ({ cls := "ColdBoxModel", name := "lies", desc := "()V" } : Jvm.MethodName) prog_38_method_48_code (5 : Nat) (Option.none : Option Jvm.ClassFile.FieldType)) ∈ lw_all := lw_g (lw_at lw_m9 29 rfl) rfl
theorem q2033 : (Jvm.Cond.instanceMethod ({ cls := "ColdBoxModel", name := "would", desc := "(I)I" } : Jvm.MethodName)) ∈ lw_all := lw_g (lw_at lw_m9 31 rfl) rfl
theorem q2034 : (Jvm.Cond.selects "ColdBoxModel" ({ cls := "ColdBoxModel", name := "would", desc := "(I)I" } : Jvm.MethodName) ({ cls := "ColdBoxModel", name := "would", desc := "(I)I" } : Jvm.MethodName)) ∈ lw_all := lw_g (lw_at lw_m9 32 rfl) rfl
theorem q2035 : (Jvm.Cond.code ({ cls := "ColdBoxModel", name := "would", desc := "(I)I" } : Jvm.MethodName) prog_38_method_51_code (4 : Nat) (Option.some Jvm.ClassFile.FieldType.int)) ∈ lw_all := lw_g (lw_at lw_m9 33 rfl) rfl
theorem q2036 : (Jvm.Cond.methodLink "ColdBoxModel" (295 : Nat) ({ cls := "ColdBoxModel", name := "lends", desc := "(II)V" } : Jvm.MethodName)) ∈ lw_all := lw_g (lw_at lw_m9 34 rfl) rfl
theorem q2037 : (Jvm.Cond.privateMethod ({ cls := "ColdBoxModel", name := "lends", desc := "(II)V" } : Jvm.MethodName)) ∈ lw_tbl := lw_at lw_m9 35 rfl
theorem q2038 : (Jvm.Cond.instanceMethod ({ cls := "ColdBoxModel", name := "lends", desc := "(II)V" } : Jvm.MethodName)) ∈ lw_all := lw_g (lw_at lw_m9 36 rfl) rfl
theorem q2039 : (Jvm.Cond.code ({ cls := "ColdBoxModel", name := "lends", desc := "(II)V" } : Jvm.MethodName) prog_38_method_50_code (4 : Nat) (Option.none : Option Jvm.ClassFile.FieldType)) ∈ lw_all := lw_g (lw_at lw_m9 37 rfl) rfl
theorem q2041 : (Jvm.Cond.instanceMethod ({ cls := "ColdBoxModel", name := "lasts", desc := "(I)I" } : Jvm.MethodName)) ∈ lw_all := lw_g (lw_at lw_m9 39 rfl) rfl
theorem q2042 : (Jvm.Cond.selects "ColdBoxModel" ({ cls := "ColdBoxModel", name := "lasts", desc := "(I)I" } : Jvm.MethodName) ({ cls := "ColdBoxModel", name := "lasts", desc := "(I)I" } : Jvm.MethodName)) ∈ lw_all := lw_g (lw_at lw_m9 40 rfl) rfl
theorem q2043 : (Jvm.Cond.code ({ cls := "ColdBoxModel", name := "lasts", desc := "(I)I" } : Jvm.MethodName) prog_38_method_52_code (4 : Nat) (Option.some Jvm.ClassFile.FieldType.int)) ∈ lw_all := lw_g (lw_at lw_m9 41 rfl) rfl
theorem q2045 : (Jvm.Cond.instanceMethod ({ cls := "ColdBoxModel", name := "best", desc := "(II)I" } : Jvm.MethodName)) ∈ lw_all := lw_g (lw_at lw_m9 43 rfl) rfl
theorem q2046 : (Jvm.Cond.selects "ColdBoxModel" ({ cls := "ColdBoxModel", name := "best", desc := "(II)I" } : Jvm.MethodName) ({ cls := "ColdBoxModel", name := "best", desc := "(II)I" } : Jvm.MethodName)) ∈ lw_all := lw_g (lw_at lw_m9 44 rfl) rfl
theorem q2047 : (Jvm.Cond.code ({ cls := "ColdBoxModel", name := "best", desc := "(II)I" } : Jvm.MethodName) prog_38_method_55_code (3 : Nat) (Option.some Jvm.ClassFile.FieldType.int)) ∈ lw_all := lw_g (lw_at lw_m9 45 rfl) rfl
theorem q2048 : (Jvm.Cond.methodLink "ColdBoxModel" (311 : Nat) ({ cls := "ColdBoxModel", name := "findBest", desc := "(I)Z" } : Jvm.MethodName)) ∈ lw_all := lw_g (lw_at lw_m9 46 rfl) rfl
theorem q2049 : (Jvm.Cond.privateMethod ({ cls := "ColdBoxModel", name := "findBest", desc := "(I)Z" } : Jvm.MethodName)) ∈ lw_tbl := lw_at lw_m9 47 rfl
theorem q2050 : (Jvm.Cond.instanceMethod ({ cls := "ColdBoxModel", name := "findBest", desc := "(I)Z" } : Jvm.MethodName)) ∈ lw_all := lw_g (lw_at lw_m9 48 rfl) rfl
theorem q2051 : (Jvm.Cond.code ({ cls := "ColdBoxModel", name := "findBest", desc := "(I)Z" } : Jvm.MethodName) prog_38_method_54_code (7 : Nat) (Option.some Jvm.ClassFile.FieldType.boolean)) ∈ lw_all := lw_g (lw_at lw_m9 49 rfl) rfl
theorem q2052 : (Jvm.Cond.methodLink "ColdBoxModel" (299 : Nat) ({ cls := "ColdBoxModel", name := "goesBy", desc := "(II)I" } : Jvm.MethodName)) ∈ lw_all := lw_g (lw_at lw_m9 50 rfl) rfl
theorem q2053 : (Jvm.Cond.privateMethod ({ cls := "ColdBoxModel", name := "goesBy", desc := "(II)I" } : Jvm.MethodName)) ∈ lw_tbl := lw_at lw_m9 51 rfl
theorem q2054 : (Jvm.Cond.instanceMethod ({ cls := "ColdBoxModel", name := "goesBy", desc := "(II)I" } : Jvm.MethodName)) ∈ lw_all := lw_g (lw_at lw_m9 52 rfl) rfl
theorem q2055 : (Jvm.Cond.code ({ cls := "ColdBoxModel", name := "goesBy", desc := "(II)I" } : Jvm.MethodName) prog_38_method_53_code (6 : Nat) (Option.some Jvm.ClassFile.FieldType.int)) ∈ lw_all := lw_g (lw_at lw_m9 53 rfl) rfl
theorem q2057 : (Jvm.Cond.instanceMethod ({ cls := "ColdBoxModel", name := "later", desc := "(II)I" } : Jvm.MethodName)) ∈ lw_all := lw_g (lw_at lw_m9 55 rfl) rfl
theorem q2058 : (Jvm.Cond.selects "ColdBoxModel" ({ cls := "ColdBoxModel", name := "later", desc := "(II)I" } : Jvm.MethodName) ({ cls := "ColdBoxModel", name := "later", desc := "(II)I" } : Jvm.MethodName)) ∈ lw_all := lw_g (lw_at lw_m9 56 rfl) rfl
theorem q2059 : (Jvm.Cond.code ({ cls := "ColdBoxModel", name := "later", desc := "(II)I" } : Jvm.MethodName) prog_38_method_56_code (6 : Nat) (Option.some Jvm.ClassFile.FieldType.int)) ∈ lw_all := lw_g (lw_at lw_m9 57 rfl) rfl
theorem q2061 : (Jvm.Cond.instanceMethod ({ cls := "ColdBoxModel", name := "scale", desc := "(I)I" } : Jvm.MethodName)) ∈ lw_all := lw_g (lw_at lw_m9 59 rfl) rfl
theorem q2062 : (Jvm.Cond.selects "ColdBoxModel" ({ cls := "ColdBoxModel", name := "scale", desc := "(I)I" } : Jvm.MethodName) ({ cls := "ColdBoxModel", name := "scale", desc := "(I)I" } : Jvm.MethodName)) ∈ lw_all := lw_g (lw_at lw_m9 60 rfl) rfl
theorem q2063 : (Jvm.Cond.code ({ cls := "ColdBoxModel", name := "scale", desc := "(I)I" } : Jvm.MethodName) prog_38_method_57_code (2 : Nat) (Option.some Jvm.ClassFile.FieldType.int)) ∈ lw_all := lw_g (lw_at lw_m9 61 rfl) rfl
theorem q2064 : (Jvm.Cond.constant "ColdBoxModel" (314 : Nat) (1103515245 : Int32)) ∈ lw_all := lw_g (lw_at lw_m9 62 rfl) rfl
theorem q2066 : (Jvm.Cond.instanceMethod ({ cls := "ColdBoxModel", name := "seed", desc := "(I)I" } : Jvm.MethodName)) ∈ lw_all := lw_g (lw_at lw_m9 64 rfl) rfl
theorem q2067 : (Jvm.Cond.selects "ColdBoxModel" ({ cls := "ColdBoxModel", name := "seed", desc := "(I)I" } : Jvm.MethodName) ({ cls := "ColdBoxModel", name := "seed", desc := "(I)I" } : Jvm.MethodName)) ∈ lw_all := lw_g (lw_at lw_m9 65 rfl) rfl
theorem q2068 : (Jvm.Cond.code ({ cls := "ColdBoxModel", name := "seed", desc := "(I)I" } : Jvm.MethodName) prog_38_method_58_code (3 : Nat) (Option.some Jvm.ClassFile.FieldType.int)) ∈ lw_all := lw_g (lw_at lw_m9 66 rfl) rfl
theorem q2070 : (Jvm.Cond.instanceMethod ({ cls := "ColdBoxModel", name := "other", desc := "(II)I" } : Jvm.MethodName)) ∈ lw_all := lw_g (lw_at lw_m9 68 rfl) rfl
theorem q2071 : (Jvm.Cond.selects "ColdBoxModel" ({ cls := "ColdBoxModel", name := "other", desc := "(II)I" } : Jvm.MethodName) ({ cls := "ColdBoxModel", name := "other", desc := "(II)I" } : Jvm.MethodName)) ∈ lw_all := lw_g (lw_at lw_m9 69 rfl) rfl
theorem q2072 : (Jvm.Cond.code ({ cls := "ColdBoxModel", name := "other", desc := "(II)I" } : Jvm.MethodName) prog_38_method_59_code (3 : Nat) (Option.some Jvm.ClassFile.FieldType.int)) ∈ lw_all := lw_g (lw_at lw_m9 70 rfl) rfl
theorem q2074 : (Jvm.Cond.instanceMethod ({ cls := "ColdBoxModel", name := "lighter", desc := "()I" } : Jvm.MethodName)) ∈ lw_all := lw_g (lw_at lw_m9 72 rfl) rfl
theorem q2075 : (Jvm.Cond.selects "ColdBoxModel" ({ cls := "ColdBoxModel", name := "lighter", desc := "()I" } : Jvm.MethodName) ({ cls := "ColdBoxModel", name := "lighter", desc := "()I" } : Jvm.MethodName)) ∈ lw_all := lw_g (lw_at lw_m9 73 rfl) rfl
theorem q2076 : (Jvm.Cond.code ({ cls := "ColdBoxModel", name := "lighter", desc := "()I" } : Jvm.MethodName) prog_38_method_61_code (1 : Nat) (Option.some Jvm.ClassFile.FieldType.int)) ∈ lw_all := lw_g (lw_at lw_m9 74 rfl) rfl
theorem q2077 : (Jvm.Cond.methodLink "ColdBoxModel" (318 : Nat) ({ cls := "ColdBoxModel", name := "lighterThan", desc := "(I)I" } : Jvm.MethodName)) ∈ lw_all := lw_g (lw_at lw_m9 75 rfl) rfl
theorem q2078 : (Jvm.Cond.privateMethod ({ cls := "ColdBoxModel", name := "lighterThan", desc := "(I)I" } : Jvm.MethodName)) ∈ lw_tbl := lw_at lw_m9 76 rfl
theorem q2079 : (Jvm.Cond.instanceMethod ({ cls := "ColdBoxModel", name := "lighterThan", desc := "(I)I" } : Jvm.MethodName)) ∈ lw_all := lw_g (lw_at lw_m9 77 rfl) rfl
theorem q2080 : (Jvm.Cond.code ({ cls := "ColdBoxModel", name := "lighterThan", desc := "(I)I" } : Jvm.MethodName) prog_38_method_60_code (5 : Nat) (Option.some Jvm.ClassFile.FieldType.int)) ∈ lw_all := lw_g (lw_at lw_m9 78 rfl) rfl
theorem q2082 : (Jvm.Cond.instanceMethod ({ cls := "ColdBoxModel", name := "least", desc := "(I)I" } : Jvm.MethodName)) ∈ lw_all := lw_g (lw_at lw_m9 80 rfl) rfl
theorem q2083 : (Jvm.Cond.selects "ColdBoxModel" ({ cls := "ColdBoxModel", name := "least", desc := "(I)I" } : Jvm.MethodName) ({ cls := "ColdBoxModel", name := "least", desc := "(I)I" } : Jvm.MethodName)) ∈ lw_all := lw_g (lw_at lw_m9 81 rfl) rfl
theorem q2084 : (Jvm.Cond.code ({ cls := "ColdBoxModel", name := "least", desc := "(I)I" } : Jvm.MethodName) prog_38_method_62_code (3 : Nat) (Option.some Jvm.ClassFile.FieldType.int)) ∈ lw_all := lw_g (lw_at lw_m9 82 rfl) rfl
theorem q2086 : (Jvm.Cond.instanceMethod ({ cls := "ColdBoxModel", name := "prove", desc := "()I" } : Jvm.MethodName)) ∈ lw_all := lw_g (lw_at lw_m9 84 rfl) rfl
theorem q2087 : (Jvm.Cond.selects "ColdBoxModel" ({ cls := "ColdBoxModel", name := "prove", desc := "()I" } : Jvm.MethodName) ({ cls := "ColdBoxModel", name := "prove", desc := "()I" } : Jvm.MethodName)) ∈ lw_all := lw_g (lw_at lw_m9 85 rfl) rfl
theorem q2088 : (Jvm.Cond.code ({ cls := "ColdBoxModel", name := "prove", desc := "()I" } : Jvm.MethodName) prog_38_method_64_code (2 : Nat) (Option.some Jvm.ClassFile.FieldType.int)) ∈ lw_all := lw_g (lw_at lw_m9 86 rfl) rfl
theorem q2089 : (Jvm.Cond.methodLink "ColdBoxModel" (321 : Nat) ({ cls := "ColdBoxModel", name := "findRows", desc := "()V" } : Jvm.MethodName)) ∈ lw_all := lw_g (lw_at lw_m9 87 rfl) rfl
theorem q2090 : (Jvm.Cond.privateMethod ({ cls := "ColdBoxModel", name := "findRows", desc := "()V" } : Jvm.MethodName)) ∈ lw_tbl := lw_at lw_m9 88 rfl
theorem q2091 : (Jvm.Cond.instanceMethod ({ cls := "ColdBoxModel", name := "findRows", desc := "()V" } : Jvm.MethodName)) ∈ lw_all := lw_g (lw_at lw_m9 89 rfl) rfl
theorem q2092 : (Jvm.Cond.code ({ cls := "ColdBoxModel", name := "findRows", desc := "()V" } : Jvm.MethodName) prog_38_method_63_code (1 : Nat) (Option.none : Option Jvm.ClassFile.FieldType)) ∈ lw_all := lw_g (lw_at lw_m9 90 rfl) rfl
theorem q2094 : (Jvm.Cond.instanceMethod ({ cls := "ColdBoxModel", name := "row", desc := "(II)I" } : Jvm.MethodName)) ∈ lw_all := lw_g (lw_at lw_m9 92 rfl) rfl
theorem q2095 : (Jvm.Cond.selects "ColdBoxModel" ({ cls := "ColdBoxModel", name := "row", desc := "(II)I" } : Jvm.MethodName) ({ cls := "ColdBoxModel", name := "row", desc := "(II)I" } : Jvm.MethodName)) ∈ lw_all := lw_g (lw_at lw_m9 93 rfl) rfl
theorem q2096 : (Jvm.Cond.code ({ cls := "ColdBoxModel", name := "row", desc := "(II)I" } : Jvm.MethodName) prog_38_method_66_code (3 : Nat) (Option.some Jvm.ClassFile.FieldType.int)) ∈ lw_all := lw_g (lw_at lw_m9 94 rfl) rfl
theorem q2097 : (Jvm.Cond.methodLink "ColdBoxModel" (327 : Nat) ({ cls := "ColdBoxModel", name := "isRow", desc := "(II)Z" } : Jvm.MethodName)) ∈ lw_all := lw_g (lw_at lw_m9 95 rfl) rfl
theorem q2098 : (Jvm.Cond.privateMethod ({ cls := "ColdBoxModel", name := "isRow", desc := "(II)Z" } : Jvm.MethodName)) ∈ lw_tbl := lw_at lw_m9 96 rfl
theorem q2099 : (Jvm.Cond.instanceMethod ({ cls := "ColdBoxModel", name := "isRow", desc := "(II)Z" } : Jvm.MethodName)) ∈ lw_all := lw_g (lw_at lw_m9 97 rfl) rfl
theorem q2100 : (Jvm.Cond.code ({ cls := "ColdBoxModel", name := "isRow", desc := "(II)Z" } : Jvm.MethodName) prog_38_method_65_code (3 : Nat) (Option.some Jvm.ClassFile.FieldType.boolean)) ∈ lw_all := lw_g (lw_at lw_m9 98 rfl) rfl
theorem q2102 : (Jvm.Cond.instanceMethod ({ cls := "ColdBoxModel", name := "alterRow", desc := "(III)I" } : Jvm.MethodName)) ∈ lw_all := lw_g (lw_at lw_m9 100 rfl) rfl
theorem q2103 : (Jvm.Cond.selects "ColdBoxModel" ({ cls := "ColdBoxModel", name := "alterRow", desc := "(III)I" } : Jvm.MethodName) ({ cls := "ColdBoxModel", name := "alterRow", desc := "(III)I" } : Jvm.MethodName)) ∈ lw_all := lw_g (lw_at lw_m9 101 rfl) rfl
theorem q2104 : (Jvm.Cond.code ({ cls := "ColdBoxModel", name := "alterRow", desc := "(III)I" } : Jvm.MethodName) prog_38_method_67_code (5 : Nat) (Option.some Jvm.ClassFile.FieldType.int)) ∈ lw_all := lw_g (lw_at lw_m9 102 rfl) rfl
theorem q2106 : (Jvm.Cond.instanceMethod ({ cls := "ColdBoxModel", name := "judge", desc := "()I" } : Jvm.MethodName)) ∈ lw_all := lw_g (lw_at lw_m9 104 rfl) rfl
theorem q2107 : (Jvm.Cond.selects "ColdBoxModel" ({ cls := "ColdBoxModel", name := "judge", desc := "()I" } : Jvm.MethodName) ({ cls := "ColdBoxModel", name := "judge", desc := "()I" } : Jvm.MethodName)) ∈ lw_all := lw_g (lw_at lw_m9 105 rfl) rfl
theorem q2108 : (Jvm.Cond.code ({ cls := "ColdBoxModel", name := "judge", desc := "()I" } : Jvm.MethodName) prog_38_method_68_code (4 : Nat) (Option.some Jvm.ClassFile.FieldType.int)) ∈ lw_all := lw_g (lw_at lw_m9 106 rfl) rfl
theorem q2110 : (Jvm.Cond.instanceMethod ({ cls := "ColdBoxModel", name := "outs", desc := "(IIII)I" } : Jvm.MethodName)) ∈ lw_all := lw_g (lw_at lw_m9 108 rfl) rfl
theorem q2111 : (Jvm.Cond.selects "ColdBoxModel" ({ cls := "ColdBoxModel", name := "outs", desc := "(IIII)I" } : Jvm.MethodName) ({ cls := "ColdBoxModel", name := "outs", desc := "(IIII)I" } : Jvm.MethodName)) ∈ lw_all := lw_g (lw_at lw_m9 109 rfl) rfl
theorem q2112 : (Jvm.Cond.code ({ cls := "ColdBoxModel", name := "outs", desc := "(IIII)I" } : Jvm.MethodName) prog_38_method_69_code (9 : Nat) (Option.some Jvm.ClassFile.FieldType.int)) ∈ lw_all := lw_g (lw_at lw_m9 110 rfl) rfl
theorem q2113 : (Jvm.Cond.methodLink "ColdBoxModel" (331 : Nat) ({ cls := "ColdBoxModel", name := "isShelf", desc := "(I)Z" } : Jvm.MethodName)) ∈ lw_all := lw_g (lw_at lw_m9 111 rfl) rfl
theorem q2114 : (Jvm.Cond.static ({ cls := "ColdBoxModel", name := "isShelf", desc := "(I)Z" } : Jvm.MethodName)) ∈ lw_all := lw_g (lw_at lw_m9 112 rfl) rfl
theorem q2115 : (Jvm.Cond.code ({ cls := "ColdBoxModel", name := "isShelf", desc := "(I)Z" } : Jvm.MethodName) prog_38_method_70_code (1 : Nat) (Option.some Jvm.ClassFile.FieldType.boolean)) ∈ lw_all := lw_g (lw_at lw_m9 113 rfl) rfl
theorem q2116 : (Jvm.Cond.methodLink "ColdBoxModel" (334 : Nat) ({ cls := "ColdBoxModel", name := "lacksSort", desc := "(II)I" } : Jvm.MethodName)) ∈ lw_all := lw_g (lw_at lw_m9 114 rfl) rfl
theorem q2117 : (Jvm.Cond.privateMethod ({ cls := "ColdBoxModel", name := "lacksSort", desc := "(II)I" } : Jvm.MethodName)) ∈ lw_tbl := lw_at lw_m9 115 rfl
theorem q2118 : (Jvm.Cond.instanceMethod ({ cls := "ColdBoxModel", name := "lacksSort", desc := "(II)I" } : Jvm.MethodName)) ∈ lw_all := lw_g (lw_at lw_m9 116 rfl) rfl
theorem q2119 : (Jvm.Cond.code ({ cls := "ColdBoxModel", name := "lacksSort", desc := "(II)I" } : Jvm.MethodName) prog_38_method_73_code (3 : Nat) (Option.some Jvm.ClassFile.FieldType.int)) ∈ lw_all := lw_g (lw_at lw_m9 117 rfl) rfl
theorem q2120 : (Jvm.Cond.constantLong "ColdBoxModel" (337 : Nat) (-20 : Int64)) ∈ lw_all := lw_g (lw_at lw_m9 118 rfl) rfl
theorem q2121 : (Jvm.Cond.constantLong "ColdBoxModel" (339 : Nat) (30 : Int64)) ∈ lw_all := lw_g (lw_at lw_m9 119 rfl) rfl
theorem q2123 : (Jvm.Cond.instanceMethod ({ cls := "ColdBoxModel", name := "sheet", desc := "(III)I" } : Jvm.MethodName)) ∈ lw_all := lw_g (lw_at lw_m9 121 rfl) rfl
theorem q2124 : (Jvm.Cond.selects "ColdBoxModel" ({ cls := "ColdBoxModel", name := "sheet", desc := "(III)I" } : Jvm.MethodName) ({ cls := "ColdBoxModel", name := "sheet", desc := "(III)I" } : Jvm.MethodName)) ∈ lw_all := lw_g (lw_at lw_m9 122 rfl) rfl
theorem q2125 : (Jvm.Cond.code ({ cls := "ColdBoxModel", name := "sheet", desc := "(III)I" } : Jvm.MethodName) prog_38_method_71_code (5 : Nat) (Option.some Jvm.ClassFile.FieldType.int)) ∈ lw_all := lw_g (lw_at lw_m9 123 rfl) rfl
theorem q2127 : (Jvm.Cond.instanceMethod ({ cls := "ColdBoxModel", name := "put", desc := "(III)I" } : Jvm.MethodName)) ∈ lw_all := lw_g (lw_at lw_m9 125 rfl) rfl
theorem q2128 : (Jvm.Cond.selects "ColdBoxModel" ({ cls := "ColdBoxModel", name := "put", desc := "(III)I" } : Jvm.MethodName) ({ cls := "ColdBoxModel", name := "put", desc := "(III)I" } : Jvm.MethodName)) ∈ lw_all := lw_g (lw_at lw_m9 126 rfl) rfl
theorem q2129 : (Jvm.Cond.code ({ cls := "ColdBoxModel", name := "put", desc := "(III)I" } : Jvm.MethodName) prog_38_method_72_code (4 : Nat) (Option.some Jvm.ClassFile.FieldType.int)) ∈ lw_all := lw_g (lw_at lw_m9 127 rfl) rfl
theorem q2131 : (Jvm.Cond.instanceMethod ({ cls := "ColdBoxModel", name := "item", desc := "(III)I" } : Jvm.MethodName)) ∈ lw_all := lw_g (lw_at lw_m9 129 rfl) rfl
theorem q2132 : (Jvm.Cond.selects "ColdBoxModel" ({ cls := "ColdBoxModel", name := "item", desc := "(III)I" } : Jvm.MethodName) ({ cls := "ColdBoxModel", name := "item", desc := "(III)I" } : Jvm.MethodName)) ∈ lw_all := lw_g (lw_at lw_m9 130 rfl) rfl
theorem q2133 : (Jvm.Cond.code ({ cls := "ColdBoxModel", name := "item", desc := "(III)I" } : Jvm.MethodName) prog_38_method_74_code (5 : Nat) (Option.some Jvm.ClassFile.FieldType.int)) ∈ lw_all := lw_g (lw_at lw_m9 131 rfl) rfl
theorem q2135 : (Jvm.Cond.instanceMethod ({ cls := "ColdBoxModel", name := "shelf", desc := "(III)I" } : Jvm.MethodName)) ∈ lw_all := lw_g (lw_at lw_m9 133 rfl) rfl
theorem q2136 : (Jvm.Cond.selects "ColdBoxModel" ({ cls := "ColdBoxModel", name := "shelf", desc := "(III)I" } : Jvm.MethodName) ({ cls := "ColdBoxModel", name := "shelf", desc := "(III)I" } : Jvm.MethodName)) ∈ lw_all := lw_g (lw_at lw_m9 134 rfl) rfl
theorem q2137 : (Jvm.Cond.code ({ cls := "ColdBoxModel", name := "shelf", desc := "(III)I" } : Jvm.MethodName) prog_38_method_76_code (4 : Nat) (Option.some Jvm.ClassFile.FieldType.int)) ∈ lw_all := lw_g (lw_at lw_m9 135 rfl) rfl
theorem q2138 : (Jvm.Cond.methodLink "ColdBoxModel" (341 : Nat) ({ cls := "ColdBoxModel", name := "isHeld", desc := "(II)Z" } : Jvm.MethodName)) ∈ lw_all := lw_g (lw_at lw_m9 136 rfl) rfl
theorem q2139 : (Jvm.Cond.privateMethod ({ cls := "ColdBoxModel", name := "isHeld", desc := "(II)Z" } : Jvm.MethodName)) ∈ lw_tbl := lw_at lw_m9 137 rfl
theorem q2140 : (Jvm.Cond.instanceMethod ({ cls := "ColdBoxModel", name := "isHeld", desc := "(II)Z" } : Jvm.MethodName)) ∈ lw_all := lw_g (lw_at lw_m9 138 rfl) rfl
theorem q2141 : (Jvm.Cond.code ({ cls := "ColdBoxModel", name := "isHeld", desc := "(II)Z" } : Jvm.MethodName) prog_38_method_75_code (3 : Nat) (Option.some Jvm.ClassFile.FieldType.boolean)) ∈ lw_all := lw_g (lw_at lw_m9 139 rfl) rfl
theorem q2143 : (Jvm.Cond.instanceMethod ({ cls := "ColdBoxModel", name := "taken", desc := "(II)I" } : Jvm.MethodName)) ∈ lw_all := lw_g (lw_at lw_m9 141 rfl) rfl
theorem q2144 : (Jvm.Cond.selects "ColdBoxModel" ({ cls := "ColdBoxModel", name := "taken", desc := "(II)I" } : Jvm.MethodName) ({ cls := "ColdBoxModel", name := "taken", desc := "(II)I" } : Jvm.MethodName)) ∈ lw_all := lw_g (lw_at lw_m9 142 rfl) rfl
theorem q2145 : (Jvm.Cond.code ({ cls := "ColdBoxModel", name := "taken", desc := "(II)I" } : Jvm.MethodName) prog_38_method_79_code (4 : Nat) (Option.some Jvm.ClassFile.FieldType.int)) ∈ lw_all := lw_g (lw_at lw_m9 143 rfl) rfl
theorem q2146 : (Jvm.Cond.methodLink "ColdBoxModel" (344 : Nat) ({ cls := "ColdBoxModel", name := "kindOn", desc := "(I)I" } : Jvm.MethodName)) ∈ lw_all := lw_g (lw_at lw_m9 144 rfl) rfl
theorem q2147 : (Jvm.Cond.privateMethod ({ cls := "ColdBoxModel", name := "kindOn", desc := "(I)I" } : Jvm.MethodName)) ∈ lw_tbl := lw_at lw_m9 145 rfl
theorem q2148 : (Jvm.Cond.instanceMethod ({ cls := "ColdBoxModel", name := "kindOn", desc := "(I)I" } : Jvm.MethodName)) ∈ lw_all := lw_g (lw_at lw_m9 146 rfl) rfl
theorem q2149 : (Jvm.Cond.code ({ cls := "ColdBoxModel", name := "kindOn", desc := "(I)I" } : Jvm.MethodName) prog_38_method_77_code (2 : Nat) (Option.some Jvm.ClassFile.FieldType.int)) ∈ lw_all := lw_g (lw_at lw_m9 147 rfl) rfl
theorem q2150 : (Jvm.Cond.methodLink "ColdBoxModel" (347 : Nat) ({ cls := "ColdBoxModel", name := "isUnder", desc := "(II)Z" } : Jvm.MethodName)) ∈ lw_all := lw_g (lw_at lw_m9 148 rfl) rfl
theorem q2151 : (Jvm.Cond.static ({ cls := "ColdBoxModel", name := "isUnder", desc := "(II)Z" } : Jvm.MethodName)) ∈ lw_all := lw_g (lw_at lw_m9 149 rfl) rfl
theorem q2152 : (Jvm.Cond.code ({ cls := "ColdBoxModel", name := "isUnder", desc := "(II)Z" } : Jvm.MethodName) prog_38_method_78_code (2 : Nat) (Option.some Jvm.ClassFile.FieldType.boolean)) ∈ lw_all := lw_g (lw_at lw_m9 150 rfl) rfl
theorem q2154 : (Jvm.Cond.instanceMethod ({ cls := "ColdBoxModel", name := "act", desc := "(III)I" } : Jvm.MethodName)) ∈ lw_all := lw_g (lw_at lw_m9 152 rfl) rfl
theorem q2155 : (Jvm.Cond.selects "ColdBoxModel" ({ cls := "ColdBoxModel", name := "act", desc := "(III)I" } : Jvm.MethodName) ({ cls := "ColdBoxModel", name := "act", desc := "(III)I" } : Jvm.MethodName)) ∈ lw_all := lw_g (lw_at lw_m9 153 rfl) rfl
theorem q2156 : (Jvm.Cond.code ({ cls := "ColdBoxModel", name := "act", desc := "(III)I" } : Jvm.MethodName) prog_38_method_90_code (6 : Nat) (Option.some Jvm.ClassFile.FieldType.int)) ∈ lw_all := lw_g (lw_at lw_m9 154 rfl) rfl
theorem q2157 : (Jvm.Cond.methodLink "ColdBoxModel" (368 : Nat) ({ cls := "ColdBoxModel", name := "spendsIt", desc := "(I)I" } : Jvm.MethodName)) ∈ lw_all := lw_g (lw_at lw_m9 155 rfl) rfl
theorem q2158 : (Jvm.Cond.privateMethod ({ cls := "ColdBoxModel", name := "spendsIt", desc := "(I)I" } : Jvm.MethodName)) ∈ lw_tbl := lw_at lw_m9 156 rfl
theorem q2159 : (Jvm.Cond.instanceMethod ({ cls := "ColdBoxModel", name := "spendsIt", desc := "(I)I" } : Jvm.MethodName)) ∈ lw_all := lw_g (lw_at lw_m9 157 rfl) rfl
theorem q2160 : (Jvm.Cond.code ({ cls := "ColdBoxModel", name := "spendsIt", desc := "(I)I" } : Jvm.MethodName) prog_38_method_83_code (2 : Nat) (Option.some Jvm.ClassFile.FieldType.int)) ∈ lw_all := lw_g (lw_at lw_m9 158 rfl) rfl
theorem q2161 : (Jvm.Cond.methodLink "ColdBoxModel" (365 : Nat) ({ cls := "ColdBoxModel", name := "mildSpends", desc := "(I)I" } : Jvm.MethodName)) ∈ lw_all := lw_g (lw_at lw_m9 159 rfl) rfl
theorem q2162 : (Jvm.Cond.privateMethod ({ cls := "ColdBoxModel", name := "mildSpends", desc := "(I)I" } : Jvm.MethodName)) ∈ lw_tbl := lw_at lw_m9 160 rfl
theorem q2163 : (Jvm.Cond.instanceMethod ({ cls := "ColdBoxModel", name := "mildSpends", desc := "(I)I" } : Jvm.MethodName)) ∈ lw_all := lw_g (lw_at lw_m9 161 rfl) rfl
theorem q2164 : (Jvm.Cond.code ({ cls := "ColdBoxModel", name := "mildSpends", desc := "(I)I" } : Jvm.MethodName) prog_38_method_82_code (2 : Nat) (Option.some Jvm.ClassFile.FieldType.int)) ∈ lw_all := lw_g (lw_at lw_m9 162 rfl) rfl
theorem q2165 : (Jvm.Cond.methodLink "ColdBoxModel" (353 : Nat) ({ cls := "ColdBoxModel", name := "ran", desc := "(I)V" } : Jvm.MethodName)) ∈ lw_all := lw_g (lw_at lw_m9 163 rfl) rfl
theorem q2166 : (Jvm.Cond.privateMethod ({ cls := "ColdBoxModel", name := "ran", desc := "(I)V" } : Jvm.MethodName)) ∈ lw_tbl := lw_at lw_m9 164 rfl
theorem q2167 : (Jvm.Cond.instanceMethod ({ cls := "ColdBoxModel", name := "ran", desc := "(I)V" } : Jvm.MethodName)) ∈ lw_all := lw_g (lw_at lw_m9 165 rfl) rfl
theorem q2168 : (Jvm.Cond.code ({ cls := "ColdBoxModel", name := "ran", desc := "(I)V" } : Jvm.MethodName) prog_38_method_80_code (2 : Nat) (Option.none : Option Jvm.ClassFile.FieldType)) ∈ lw_all := lw_g (lw_at lw_m9 166 rfl) rfl
theorem q2169 : (Jvm.Cond.methodLink "ColdBoxModel" (359 : Nat) ({ cls := "ColdBoxModel", name := "plainSpends", desc := "(I)I" } : Jvm.MethodName)) ∈ lw_all := lw_g (lw_at lw_m9 167 rfl) rfl
theorem q2170 : (Jvm.Cond.privateMethod ({ cls := "ColdBoxModel", name := "plainSpends", desc := "(I)I" } : Jvm.MethodName)) ∈ lw_tbl := lw_at lw_m9 168 rfl
theorem q2171 : (Jvm.Cond.instanceMethod ({ cls := "ColdBoxModel", name := "plainSpends", desc := "(I)I" } : Jvm.MethodName)) ∈ lw_all := lw_g (lw_at lw_m9 169 rfl) rfl
theorem q2172 : (Jvm.Cond.code ({ cls := "ColdBoxModel", name := "plainSpends", desc := "(I)I" } : Jvm.MethodName) prog_38_method_81_code (2 : Nat) (Option.some Jvm.ClassFile.FieldType.int)) ∈ lw_all := lw_g (lw_at lw_m9 170 rfl) rfl
theorem q2173 : (Jvm.Cond.methodLink "ColdBoxModel" (383 : Nat) ({ cls := "ColdBoxModel", name := "parchesIt", desc := "(I)I" } : Jvm.MethodName)) ∈ lw_all := lw_g (lw_at lw_m9 171 rfl) rfl
theorem q2174 : (Jvm.Cond.privateMethod ({ cls := "ColdBoxModel", name := "parchesIt", desc := "(I)I" } : Jvm.MethodName)) ∈ lw_tbl := lw_at lw_m9 172 rfl
theorem q2175 : (Jvm.Cond.instanceMethod ({ cls := "ColdBoxModel", name := "parchesIt", desc := "(I)I" } : Jvm.MethodName)) ∈ lw_all := lw_g (lw_at lw_m9 173 rfl) rfl
theorem q2176 : (Jvm.Cond.code ({ cls := "ColdBoxModel", name := "parchesIt", desc := "(I)I" } : Jvm.MethodName) prog_38_method_85_code (3 : Nat) (Option.some Jvm.ClassFile.FieldType.int)) ∈ lw_all := lw_g (lw_at lw_m9 174 rfl) rfl
theorem q2177 : (Jvm.Cond.methodLink "ColdBoxModel" (371 : Nat) ({ cls := "ColdBoxModel", name := "plainParches", desc := "(I)I" } : Jvm.MethodName)) ∈ lw_all := lw_g (lw_at lw_m9 175 rfl) rfl
theorem q2178 : (Jvm.Cond.privateMethod ({ cls := "ColdBoxModel", name := "plainParches", desc := "(I)I" } : Jvm.MethodName)) ∈ lw_tbl := lw_at lw_m9 176 rfl
theorem q2179 : (Jvm.Cond.instanceMethod ({ cls := "ColdBoxModel", name := "plainParches", desc := "(I)I" } : Jvm.MethodName)) ∈ lw_all := lw_g (lw_at lw_m9 177 rfl) rfl
theorem q2180 : (Jvm.Cond.code ({ cls := "ColdBoxModel", name := "plainParches", desc := "(I)I" } : Jvm.MethodName) prog_38_method_84_code (2 : Nat) (Option.some Jvm.ClassFile.FieldType.int)) ∈ lw_all := lw_g (lw_at lw_m9 178 rfl) rfl
theorem q2181 : (Jvm.Cond.methodLink "ColdBoxModel" (389 : Nat) ({ cls := "ColdBoxModel", name := "sharesIt", desc := "(I)I" } : Jvm.MethodName)) ∈ lw_all := lw_g (lw_at lw_m9 179 rfl) rfl
theorem q2182 : (Jvm.Cond.privateMethod ({ cls := "ColdBoxModel", name := "sharesIt", desc := "(I)I" } : Jvm.MethodName)) ∈ lw_tbl := lw_at lw_m9 180 rfl
theorem q2183 : (Jvm.Cond.instanceMethod ({ cls := "ColdBoxModel", name := "sharesIt", desc := "(I)I" } : Jvm.MethodName)) ∈ lw_all := lw_g (lw_at lw_m9 181 rfl) rfl
theorem q2184 : (Jvm.Cond.code ({ cls := "ColdBoxModel", name := "sharesIt", desc := "(I)I" } : Jvm.MethodName) prog_38_method_87_code (3 : Nat) (Option.some Jvm.ClassFile.FieldType.int)) ∈ lw_all := lw_g (lw_at lw_m9 182 rfl) rfl
theorem q2185 : (Jvm.Cond.methodLink "ColdBoxModel" (380 : Nat) ({ cls := "ColdBoxModel", name := "plainShares", desc := "(I)I" } : Jvm.MethodName)) ∈ lw_all := lw_g (lw_at lw_m9 183 rfl) rfl
theorem q2186 : (Jvm.Cond.privateMethod ({ cls := "ColdBoxModel", name := "plainShares", desc := "(I)I" } : Jvm.MethodName)) ∈ lw_tbl := lw_at lw_m9 184 rfl
theorem q2187 : (Jvm.Cond.instanceMethod ({ cls := "ColdBoxModel", name := "plainShares", desc := "(I)I" } : Jvm.MethodName)) ∈ lw_all := lw_g (lw_at lw_m9 185 rfl) rfl
theorem q2188 : (Jvm.Cond.code ({ cls := "ColdBoxModel", name := "plainShares", desc := "(I)I" } : Jvm.MethodName) prog_38_method_86_code (2 : Nat) (Option.some Jvm.ClassFile.FieldType.int)) ∈ lw_all := lw_g (lw_at lw_m9 186 rfl) rfl
theorem q2189 : (Jvm.Cond.methodLink "ColdBoxModel" (392 : Nat) ({ cls := "ColdBoxModel", name := "tellsIt", desc := "(I)I" } : Jvm.MethodName)) ∈ lw_all := lw_g (lw_at lw_m9 187 rfl) rfl
theorem q2190 : (Jvm.Cond.privateMethod ({ cls := "ColdBoxModel", name := "tellsIt", desc := "(I)I" } : Jvm.MethodName)) ∈ lw_tbl := lw_at lw_m9 188 rfl
theorem q2191 : (Jvm.Cond.instanceMethod ({ cls := "ColdBoxModel", name := "tellsIt", desc := "(I)I" } : Jvm.MethodName)) ∈ lw_all := lw_g (lw_at lw_m9 189 rfl) rfl
theorem q2192 : (Jvm.Cond.code ({ cls := "ColdBoxModel", name := "tellsIt", desc := "(I)I" } : Jvm.MethodName) prog_38_method_89_code (3 : Nat) (Option.some Jvm.ClassFile.FieldType.int)) ∈ lw_all := lw_g (lw_at lw_m9 190 rfl) rfl
theorem q2193 : (Jvm.Cond.methodLink "ColdBoxModel" (386 : Nat) ({ cls := "ColdBoxModel", name := "plainTells", desc := "(I)I" } : Jvm.MethodName)) ∈ lw_all := lw_g (lw_at lw_m9 191 rfl) rfl
theorem q2194 : (Jvm.Cond.privateMethod ({ cls := "ColdBoxModel", name := "plainTells", desc := "(I)I" } : Jvm.MethodName)) ∈ lw_tbl := lw_at lw_m9 192 rfl
theorem q2195 : (Jvm.Cond.instanceMethod ({ cls := "ColdBoxModel", name := "plainTells", desc := "(I)I" } : Jvm.MethodName)) ∈ lw_all := lw_g (lw_at lw_m9 193 rfl) rfl
theorem q2196 : (Jvm.Cond.code ({ cls := "ColdBoxModel", name := "plainTells", desc := "(I)I" } : Jvm.MethodName) prog_38_method_88_code (2 : Nat) (Option.some Jvm.ClassFile.FieldType.int)) ∈ lw_all := lw_g (lw_at lw_m9 194 rfl) rfl
theorem q2198 : (Jvm.Cond.instanceMethod ({ cls := "ColdBoxModel", name := "trace", desc := "(I)I" } : Jvm.MethodName)) ∈ lw_all := lw_g (lw_at lw_m9 196 rfl) rfl
theorem q2199 : (Jvm.Cond.selects "ColdBoxModel" ({ cls := "ColdBoxModel", name := "trace", desc := "(I)I" } : Jvm.MethodName) ({ cls := "ColdBoxModel", name := "trace", desc := "(I)I" } : Jvm.MethodName)) ∈ lw_all := lw_g (lw_at lw_m9 197 rfl) rfl
theorem q2200 : (Jvm.Cond.code ({ cls := "ColdBoxModel", name := "trace", desc := "(I)I" } : Jvm.MethodName) prog_38_method_91_code (2 : Nat) (Option.some Jvm.ClassFile.FieldType.int)) ∈ lw_all := lw_g (lw_at lw_m9 198 rfl) rfl
theorem q2202 : (Jvm.Cond.instanceMethod ({ cls := "ColdBoxModel", name := "many", desc := "(I)I" } : Jvm.MethodName)) ∈ lw_all := lw_g (lw_at lw_m9 200 rfl) rfl
theorem q2203 : (Jvm.Cond.selects "ColdBoxModel" ({ cls := "ColdBoxModel", name := "many", desc := "(I)I" } : Jvm.MethodName) ({ cls := "ColdBoxModel", name := "many", desc := "(I)I" } : Jvm.MethodName)) ∈ lw_all := lw_g (lw_at lw_m9 201 rfl) rfl
theorem q2204 : (Jvm.Cond.code ({ cls := "ColdBoxModel", name := "many", desc := "(I)I" } : Jvm.MethodName) prog_38_method_92_code (2 : Nat) (Option.some Jvm.ClassFile.FieldType.int)) ∈ lw_all := lw_g (lw_at lw_m9 202 rfl) rfl
theorem q2206 : (Jvm.Cond.instanceMethod ({ cls := "ColdBoxModel", name := "keep", desc := "()I" } : Jvm.MethodName)) ∈ lw_all := lw_g (lw_at lw_m9 204 rfl) rfl
theorem q2207 : (Jvm.Cond.selects "ColdBoxModel" ({ cls := "ColdBoxModel", name := "keep", desc := "()I" } : Jvm.MethodName) ({ cls := "ColdBoxModel", name := "keep", desc := "()I" } : Jvm.MethodName)) ∈ lw_all := lw_g (lw_at lw_m9 205 rfl) rfl
theorem q2208 : (Jvm.Cond.code ({ cls := "ColdBoxModel", name := "keep", desc := "()I" } : Jvm.MethodName) prog_38_method_95_code (1 : Nat) (Option.some Jvm.ClassFile.FieldType.int)) ∈ lw_all := lw_g (lw_at lw_m9 206 rfl) rfl
theorem q2209 : (Jvm.Cond.methodLink "ColdBoxModel" (402 : Nat) ({ cls := "ColdBoxModel", name := "moveAll", desc := "(Z)V" } : Jvm.MethodName)) ∈ lw_all := lw_g (lw_at lw_m9 207 rfl) rfl
theorem q2210 : (Jvm.Cond.privateMethod ({ cls := "ColdBoxModel", name := "moveAll", desc := "(Z)V" } : Jvm.MethodName)) ∈ lw_tbl := lw_at lw_m9 208 rfl
theorem q2211 : (Jvm.Cond.instanceMethod ({ cls := "ColdBoxModel", name := "moveAll", desc := "(Z)V" } : Jvm.MethodName)) ∈ lw_all := lw_g (lw_at lw_m9 209 rfl) rfl
theorem q2212 : (Jvm.Cond.code ({ cls := "ColdBoxModel", name := "moveAll", desc := "(Z)V" } : Jvm.MethodName) prog_38_method_94_code (2 : Nat) (Option.none : Option Jvm.ClassFile.FieldType)) ∈ lw_all := lw_g (lw_at lw_m9 210 rfl) rfl
theorem q2213 : (Jvm.Cond.methodLink "ColdBoxModel" (398 : Nat) ({ cls := "ColdBoxModel", name := "moveRow", desc := "([IIZ)V" } : Jvm.MethodName)) ∈ lw_all := lw_g (lw_at lw_m9 211 rfl) rfl
theorem q2214 : (Jvm.Cond.privateMethod ({ cls := "ColdBoxModel", name := "moveRow", desc := "([IIZ)V" } : Jvm.MethodName)) ∈ lw_tbl := lw_at lw_m9 212 rfl
theorem q2215 : (Jvm.Cond.instanceMethod ({ cls := "ColdBoxModel", name := "moveRow", desc := "([IIZ)V" } : Jvm.MethodName)) ∈ lw_all := lw_g (lw_at lw_m9 213 rfl) rfl
theorem q2216 : (Jvm.Cond.code ({ cls := "ColdBoxModel", name := "moveRow", desc := "([IIZ)V" } : Jvm.MethodName) prog_38_method_93_code (5 : Nat) (Option.none : Option Jvm.ClassFile.FieldType)) ∈ lw_all := lw_g (lw_at lw_m9 214 rfl) rfl
theorem q2218 : (Jvm.Cond.instanceMethod ({ cls := "ColdBoxModel", name := "again", desc := "()I" } : Jvm.MethodName)) ∈ lw_all := lw_g (lw_at lw_m9 216 rfl) rfl
theorem q2219 : (Jvm.Cond.selects "ColdBoxModel" ({ cls := "ColdBoxModel", name := "again", desc := "()I" } : Jvm.MethodName) ({ cls := "ColdBoxModel", name := "again", desc := "()I" } : Jvm.MethodName)) ∈ lw_all := lw_g (lw_at lw_m9 217 rfl) rfl
theorem q2220 : (Jvm.Cond.code ({ cls := "ColdBoxModel", name := "again", desc := "()I" } : Jvm.MethodName) prog_38_method_96_code (1 : Nat) (Option.some Jvm.ClassFile.FieldType.int)) ∈ lw_all := lw_g (lw_at lw_m9 218 rfl) rfl
theorem in_X20 : ∀ w ∈ wsX200, w ∈ lw_all := lw_in wsX200 [1712, 1714, 1716, 1718, 1720, 1722, 1724, 1726, 1728, 1730, 1732, 1734, 1736, 1738, 1740, 1742, 1744, 1746, 1748, 1750, 1752, 1754, 1756, 1758, 1760, 1762, 1764, 1766, 1768, 1770, 1772, 1774, 1776, 1778, 1780, 1782, 1784, 1786, 1788, 1790, 1792, 1794, 1796, 1798, 1800, 1802, 1804, 1806, 1808, 1810, 1812, 1814, 1816, 1818] (by decide +kernel) (by decide +kernel)
