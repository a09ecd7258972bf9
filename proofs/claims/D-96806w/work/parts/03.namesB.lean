/-! ColdBox -/
set_option maxRecDepth 100000
def RX0 : String := "ColdBox"
def TX0 : u_T := fun k => match k with
  | 0 => ("ColdBox", "d", "LColdBox$Winter;", true)
  | 1 => ("ColdBox", "kept", "LColdBox$Winter;", true)
  | 2 => ("ColdBox", "draft", "LColdBox$Winter;", true)
  | 3 => ("ColdBox", "tried", "LColdBox$Body;", true)
  | 4 => ("ColdBox", "other", "LColdBox$Body;", true)
  | 5 => ("ColdBox", "isKept", "Z", false)
  | 6 => ("ColdBox", "natures", "[LColdBox$Nature;", true)
  | 7 => ("ColdBox", "tape", "[B", true)
  | 8 => ("ColdBox", "taped", "I", false)
  | 9 => ("ColdBox", "reader", "LColdBox$Reader;", true)
  | 10 => ("ColdBox", "facts", "[I", true)
  | 11 => ("ColdBox", "plainly", "LColdBox$Plainly;", true)
  | 12 => ("ColdBox", "bestLeft", "I", false)
  | 13 => ("ColdBox", "bestEyes", "I", false)
  | 14 => ("ColdBox", "bestDigits", "I", false)
  | 15 => ("ColdBox", "rows", "[LColdBox$Row;", true)
  | 16 => ("ColdBox", "rowMany", "I", false)
  | 17 => ("ColdBox", "shows", "LColdBox$Shows;", true)
  | 18 => ("ColdBox", "judges", "LColdBox$Judges;", true)
  | 19 => ("ColdBox", "sheets", "[LColdBox$Sheet;", true)
  | 20 => ("ColdBox", "beyond", "LColdBox$Beyond;", true)
  | 21 => ("ColdBox", "nothing", "LColdBox$Nothing;", true)
  | 22 => ("ColdBox", "traced", "[I", true)
  | 23 => ("ColdBox", "bodies", "I", false)
  | _ => ("ColdBox", "shelves", "[LColdBox$Shelf;", true)
def tyX0 : Nat → FieldType := fun k => match k with
  | 0 => .object "ColdBox$Winter"
  | 1 => .object "ColdBox$Winter"
  | 2 => .object "ColdBox$Winter"
  | 3 => .object "ColdBox$Body"
  | 4 => .object "ColdBox$Body"
  | 5 => .boolean
  | 6 => .array (.object "ColdBox$Nature")
  | 7 => .array .byte
  | 8 => .int
  | 9 => .object "ColdBox$Reader"
  | 10 => .array .int
  | 11 => .object "ColdBox$Plainly"
  | 12 => .int
  | 13 => .int
  | 14 => .int
  | 15 => .array (.object "ColdBox$Row")
  | 16 => .int
  | 17 => .object "ColdBox$Shows"
  | 18 => .object "ColdBox$Judges"
  | 19 => .array (.object "ColdBox$Sheet")
  | 20 => .object "ColdBox$Beyond"
  | 21 => .object "ColdBox$Nothing"
  | 22 => .array .int
  | 23 => .int
  | _ => .array (.object "ColdBox$Shelf")
abbrev wsX00 : List Cond := u_ws RX0 TX0 25
set_option maxRecDepth 100000 in
theorem nmX0 : ∀ a, a < 25 → ∀ b, b < 25 → a ≠ b → (TX0 a).2.1 ≠ (TX0 b).2.1 := by decide +kernel
set_option maxRecDepth 100000 in
theorem tyX0_ok : ∀ k, k < 25 → parseFieldDescriptor (TX0 k).2.2.1 = some (tyX0 k) := by decide +kernel
abbrev cX0_init : ByteArray := prog_1_method_5_code
def yX0_init : MethodName := ⟨RX0, "<init>", "()V"⟩
def dkwX0_init_14 : List UInt8 := [83, 89, 6, 187, 0, 136, 89, 183, 0, 138, 83, 181, 0, 139, 177]
abbrev dktX0_init_14 : List UInt8 := dkwX0_init_14 ++ []
def dkwX0_init_13 : List UInt8 := [89, 183, 0, 138, 83, 89, 4, 187, 0, 136, 89, 183, 0, 138, 83, 89, 5, 187, 0, 136, 89, 183, 0, 138]
abbrev dktX0_init_13 : List UInt8 := dkwX0_init_13 ++ dktX0_init_14
def dkwX0_init_12 : List UInt8 := [183, 0, 128, 181, 0, 129, 42, 16, 30, 188, 10, 181, 0, 133, 42, 7, 189, 0, 136, 89, 3, 187, 0, 136]
abbrev dktX0_init_12 : List UInt8 := dkwX0_init_12 ++ dktX0_init_13
def dkwX0_init_11 : List UInt8 := [183, 0, 114, 83, 181, 0, 115, 42, 187, 0, 119, 89, 183, 0, 121, 181, 0, 122, 42, 187, 0, 126, 89]
abbrev dktX0_init_11 : List UInt8 := dkwX0_init_11 ++ dktX0_init_12
def dkwX0_init_10 : List UInt8 := [187, 0, 112, 89, 183, 0, 114, 83, 89, 5, 187, 0, 112, 89, 183, 0, 114, 83, 89, 6, 187, 0, 112, 89]
abbrev dktX0_init_10 : List UInt8 := dkwX0_init_10 ++ dktX0_init_11
def dkwX0_init_9 : List UInt8 := [183, 0, 107, 181, 0, 108, 42, 7, 189, 0, 112, 89, 3, 187, 0, 112, 89, 183, 0, 114, 83, 89, 4]
abbrev dktX0_init_9 : List UInt8 := dkwX0_init_9 ++ dktX0_init_10
def dkwX0_init_8 : List UInt8 := [189, 0, 92, 181, 0, 94, 42, 187, 0, 98, 89, 42, 183, 0, 100, 181, 0, 101, 42, 187, 0, 105, 89, 42]
abbrev dktX0_init_8 : List UInt8 := dkwX0_init_8 ++ dktX0_init_9
def dkwX0_init_7 : List UInt8 := [16, 6, 188, 10, 181, 0, 81, 42, 187, 0, 85, 89, 42, 183, 0, 87, 181, 0, 88, 42, 16, 24]
abbrev dktX0_init_7 : List UInt8 := dkwX0_init_7 ++ dktX0_init_8
def dkwX0_init_6 : List UInt8 := [17, 0, 200, 188, 8, 181, 0, 68, 42, 187, 0, 72, 89, 42, 180, 0, 29, 183, 0, 74, 181, 0, 77, 42]
abbrev dktX0_init_6 : List UInt8 := dkwX0_init_6 ++ dktX0_init_7
def dkwX0_init_5 : List UInt8 := [187, 0, 58, 89, 42, 183, 0, 60, 83, 89, 8, 187, 0, 61, 89, 42, 183, 0, 63, 83, 181, 0, 64, 42]
abbrev dktX0_init_5 : List UInt8 := dkwX0_init_5 ++ dktX0_init_6
def dkwX0_init_4 : List UInt8 := [187, 0, 52, 89, 42, 183, 0, 54, 83, 89, 6, 187, 0, 55, 89, 42, 183, 0, 57, 83, 89, 7]
abbrev dktX0_init_4 : List UInt8 := dkwX0_init_4 ++ dktX0_init_5
def dkwX0_init_3 : List UInt8 := [187, 0, 44, 89, 42, 183, 0, 46, 83, 89, 4, 187, 0, 49, 89, 42, 183, 0, 51, 83, 89, 5]
abbrev dktX0_init_3 : List UInt8 := dkwX0_init_3 ++ dktX0_init_4
def dkwX0_init_2 : List UInt8 := [181, 0, 35, 42, 187, 0, 32, 89, 183, 0, 34, 181, 0, 39, 42, 16, 6, 189, 0, 42, 89, 3]
abbrev dktX0_init_2 : List UInt8 := dkwX0_init_2 ++ dktX0_init_3
def dkwX0_init_1 : List UInt8 := [181, 0, 26, 42, 187, 0, 19, 89, 183, 0, 21, 181, 0, 29, 42, 187, 0, 32, 89, 183, 0, 34]
abbrev dktX0_init_1 : List UInt8 := dkwX0_init_1 ++ dktX0_init_2
def dkwX0_init_0 : List UInt8 := [42, 183, 0, 13, 42, 187, 0, 19, 89, 183, 0, 21, 181, 0, 22, 42, 187, 0, 19, 89, 183, 0, 21]
abbrev dktX0_init_0 : List UInt8 := dkwX0_init_0 ++ dktX0_init_1
theorem dksX0_init_0 : cX0_init.data.toList.drop 0 = dktX0_init_0 := by decide +kernel
theorem dksX0_init_1 : cX0_init.data.toList.drop 23 = dktX0_init_1 := dk_seg dksX0_init_0 23 rfl rfl
theorem dksX0_init_2 : cX0_init.data.toList.drop 45 = dktX0_init_2 := dk_seg dksX0_init_1 22 rfl rfl
theorem dksX0_init_3 : cX0_init.data.toList.drop 67 = dktX0_init_3 := dk_seg dksX0_init_2 22 rfl rfl
theorem dksX0_init_4 : cX0_init.data.toList.drop 89 = dktX0_init_4 := dk_seg dksX0_init_3 22 rfl rfl
theorem dksX0_init_5 : cX0_init.data.toList.drop 111 = dktX0_init_5 := dk_seg dksX0_init_4 22 rfl rfl
theorem dksX0_init_6 : cX0_init.data.toList.drop 135 = dktX0_init_6 := dk_seg dksX0_init_5 24 rfl rfl
theorem dksX0_init_7 : cX0_init.data.toList.drop 159 = dktX0_init_7 := dk_seg dksX0_init_6 24 rfl rfl
theorem dksX0_init_8 : cX0_init.data.toList.drop 181 = dktX0_init_8 := dk_seg dksX0_init_7 22 rfl rfl
theorem dksX0_init_9 : cX0_init.data.toList.drop 205 = dktX0_init_9 := dk_seg dksX0_init_8 24 rfl rfl
theorem dksX0_init_10 : cX0_init.data.toList.drop 228 = dktX0_init_10 := dk_seg dksX0_init_9 23 rfl rfl
theorem dksX0_init_11 : cX0_init.data.toList.drop 252 = dktX0_init_11 := dk_seg dksX0_init_10 24 rfl rfl
theorem dksX0_init_12 : cX0_init.data.toList.drop 275 = dktX0_init_12 := dk_seg dksX0_init_11 23 rfl rfl
theorem dksX0_init_13 : cX0_init.data.toList.drop 299 = dktX0_init_13 := dk_seg dksX0_init_12 24 rfl rfl
theorem dksX0_init_14 : cX0_init.data.toList.drop 323 = dktX0_init_14 := dk_seg dksX0_init_13 24 rfl rfl
theorem dX0_init_0 : decode cX0_init 0 = .ok (.aload_n 0, 1) := dk_42 (dk_at dksX0_init_0 0 rfl rfl)
theorem dX0_init_1 : decode cX0_init 1 = .ok (.invokespecial 13, 3) := dk_183 0 13 (dk_at dksX0_init_0 1 rfl rfl)
theorem dX0_init_4 : decode cX0_init 4 = .ok (.aload_n 0, 1) := dk_42 (dk_at dksX0_init_0 4 rfl rfl)
theorem dX0_init_5 : decode cX0_init 5 = .ok (.new 19, 3) := dk_187 0 19 (dk_at dksX0_init_0 5 rfl rfl)
theorem dX0_init_8 : decode cX0_init 8 = .ok (.dup, 1) := dk_89 (dk_at dksX0_init_0 8 rfl rfl)
theorem dX0_init_9 : decode cX0_init 9 = .ok (.invokespecial 21, 3) := dk_183 0 21 (dk_at dksX0_init_0 9 rfl rfl)
theorem dX0_init_12 : decode cX0_init 12 = .ok (.putfield 22, 3) := dk_181 0 22 (dk_at dksX0_init_0 12 rfl rfl)
theorem dX0_init_15 : decode cX0_init 15 = .ok (.aload_n 0, 1) := dk_42 (dk_at dksX0_init_0 15 rfl rfl)
theorem dX0_init_16 : decode cX0_init 16 = .ok (.new 19, 3) := dk_187 0 19 (dk_at dksX0_init_0 16 rfl rfl)
theorem dX0_init_19 : decode cX0_init 19 = .ok (.dup, 1) := dk_89 (dk_at dksX0_init_0 19 rfl rfl)
theorem dX0_init_20 : decode cX0_init 20 = .ok (.invokespecial 21, 3) := dk_183 0 21 (dk_at dksX0_init_0 20 rfl rfl)
theorem dX0_init_23 : decode cX0_init 23 = .ok (.putfield 26, 3) := dk_181 0 26 (dk_at dksX0_init_1 0 rfl rfl)
theorem dX0_init_26 : decode cX0_init 26 = .ok (.aload_n 0, 1) := dk_42 (dk_at dksX0_init_1 3 rfl rfl)
theorem dX0_init_27 : decode cX0_init 27 = .ok (.new 19, 3) := dk_187 0 19 (dk_at dksX0_init_1 4 rfl rfl)
theorem dX0_init_30 : decode cX0_init 30 = .ok (.dup, 1) := dk_89 (dk_at dksX0_init_1 7 rfl rfl)
theorem dX0_init_31 : decode cX0_init 31 = .ok (.invokespecial 21, 3) := dk_183 0 21 (dk_at dksX0_init_1 8 rfl rfl)
theorem dX0_init_34 : decode cX0_init 34 = .ok (.putfield 29, 3) := dk_181 0 29 (dk_at dksX0_init_1 11 rfl rfl)
theorem dX0_init_37 : decode cX0_init 37 = .ok (.aload_n 0, 1) := dk_42 (dk_at dksX0_init_1 14 rfl rfl)
theorem dX0_init_38 : decode cX0_init 38 = .ok (.new 32, 3) := dk_187 0 32 (dk_at dksX0_init_1 15 rfl rfl)
theorem dX0_init_41 : decode cX0_init 41 = .ok (.dup, 1) := dk_89 (dk_at dksX0_init_1 18 rfl rfl)
theorem dX0_init_42 : decode cX0_init 42 = .ok (.invokespecial 34, 3) := dk_183 0 34 (dk_at dksX0_init_1 19 rfl rfl)
theorem dX0_init_45 : decode cX0_init 45 = .ok (.putfield 35, 3) := dk_181 0 35 (dk_at dksX0_init_2 0 rfl rfl)
theorem dX0_init_48 : decode cX0_init 48 = .ok (.aload_n 0, 1) := dk_42 (dk_at dksX0_init_2 3 rfl rfl)
theorem dX0_init_49 : decode cX0_init 49 = .ok (.new 32, 3) := dk_187 0 32 (dk_at dksX0_init_2 4 rfl rfl)
theorem dX0_init_52 : decode cX0_init 52 = .ok (.dup, 1) := dk_89 (dk_at dksX0_init_2 7 rfl rfl)
theorem dX0_init_53 : decode cX0_init 53 = .ok (.invokespecial 34, 3) := dk_183 0 34 (dk_at dksX0_init_2 8 rfl rfl)
theorem dX0_init_56 : decode cX0_init 56 = .ok (.putfield 39, 3) := dk_181 0 39 (dk_at dksX0_init_2 11 rfl rfl)
theorem dX0_init_59 : decode cX0_init 59 = .ok (.aload_n 0, 1) := dk_42 (dk_at dksX0_init_2 14 rfl rfl)
theorem dX0_init_60 : decode cX0_init 60 = .ok (.bipush 6, 2) := dk_16 6 (dk_at dksX0_init_2 15 rfl rfl)
theorem dX0_init_62 : decode cX0_init 62 = .ok (.anewarray 42, 3) := dk_189 0 42 (dk_at dksX0_init_2 17 rfl rfl)
theorem dX0_init_65 : decode cX0_init 65 = .ok (.dup, 1) := dk_89 (dk_at dksX0_init_2 20 rfl rfl)
theorem dX0_init_66 : decode cX0_init 66 = .ok (.iconst 0, 1) := dk_3 (dk_at dksX0_init_2 21 rfl rfl)
theorem dX0_init_67 : decode cX0_init 67 = .ok (.new 44, 3) := dk_187 0 44 (dk_at dksX0_init_3 0 rfl rfl)
theorem dX0_init_70 : decode cX0_init 70 = .ok (.dup, 1) := dk_89 (dk_at dksX0_init_3 3 rfl rfl)
theorem dX0_init_71 : decode cX0_init 71 = .ok (.aload_n 0, 1) := dk_42 (dk_at dksX0_init_3 4 rfl rfl)
theorem dX0_init_72 : decode cX0_init 72 = .ok (.invokespecial 46, 3) := dk_183 0 46 (dk_at dksX0_init_3 5 rfl rfl)
theorem dX0_init_75 : decode cX0_init 75 = .ok (.aastore, 1) := dk_83 (dk_at dksX0_init_3 8 rfl rfl)
theorem dX0_init_76 : decode cX0_init 76 = .ok (.dup, 1) := dk_89 (dk_at dksX0_init_3 9 rfl rfl)
theorem dX0_init_77 : decode cX0_init 77 = .ok (.iconst 1, 1) := dk_4 (dk_at dksX0_init_3 10 rfl rfl)
theorem dX0_init_78 : decode cX0_init 78 = .ok (.new 49, 3) := dk_187 0 49 (dk_at dksX0_init_3 11 rfl rfl)
theorem dX0_init_81 : decode cX0_init 81 = .ok (.dup, 1) := dk_89 (dk_at dksX0_init_3 14 rfl rfl)
theorem dX0_init_82 : decode cX0_init 82 = .ok (.aload_n 0, 1) := dk_42 (dk_at dksX0_init_3 15 rfl rfl)
theorem dX0_init_83 : decode cX0_init 83 = .ok (.invokespecial 51, 3) := dk_183 0 51 (dk_at dksX0_init_3 16 rfl rfl)
theorem dX0_init_86 : decode cX0_init 86 = .ok (.aastore, 1) := dk_83 (dk_at dksX0_init_3 19 rfl rfl)
theorem dX0_init_87 : decode cX0_init 87 = .ok (.dup, 1) := dk_89 (dk_at dksX0_init_3 20 rfl rfl)
theorem dX0_init_88 : decode cX0_init 88 = .ok (.iconst 2, 1) := dk_5 (dk_at dksX0_init_3 21 rfl rfl)
theorem dX0_init_89 : decode cX0_init 89 = .ok (.new 52, 3) := dk_187 0 52 (dk_at dksX0_init_4 0 rfl rfl)
theorem dX0_init_92 : decode cX0_init 92 = .ok (.dup, 1) := dk_89 (dk_at dksX0_init_4 3 rfl rfl)
theorem dX0_init_93 : decode cX0_init 93 = .ok (.aload_n 0, 1) := dk_42 (dk_at dksX0_init_4 4 rfl rfl)
theorem dX0_init_94 : decode cX0_init 94 = .ok (.invokespecial 54, 3) := dk_183 0 54 (dk_at dksX0_init_4 5 rfl rfl)
theorem dX0_init_97 : decode cX0_init 97 = .ok (.aastore, 1) := dk_83 (dk_at dksX0_init_4 8 rfl rfl)
theorem dX0_init_98 : decode cX0_init 98 = .ok (.dup, 1) := dk_89 (dk_at dksX0_init_4 9 rfl rfl)
theorem dX0_init_99 : decode cX0_init 99 = .ok (.iconst 3, 1) := dk_6 (dk_at dksX0_init_4 10 rfl rfl)
theorem dX0_init_100 : decode cX0_init 100 = .ok (.new 55, 3) := dk_187 0 55 (dk_at dksX0_init_4 11 rfl rfl)
theorem dX0_init_103 : decode cX0_init 103 = .ok (.dup, 1) := dk_89 (dk_at dksX0_init_4 14 rfl rfl)
theorem dX0_init_104 : decode cX0_init 104 = .ok (.aload_n 0, 1) := dk_42 (dk_at dksX0_init_4 15 rfl rfl)
theorem dX0_init_105 : decode cX0_init 105 = .ok (.invokespecial 57, 3) := dk_183 0 57 (dk_at dksX0_init_4 16 rfl rfl)
theorem dX0_init_108 : decode cX0_init 108 = .ok (.aastore, 1) := dk_83 (dk_at dksX0_init_4 19 rfl rfl)
theorem dX0_init_109 : decode cX0_init 109 = .ok (.dup, 1) := dk_89 (dk_at dksX0_init_4 20 rfl rfl)
theorem dX0_init_110 : decode cX0_init 110 = .ok (.iconst 4, 1) := dk_7 (dk_at dksX0_init_4 21 rfl rfl)
theorem dX0_init_111 : decode cX0_init 111 = .ok (.new 58, 3) := dk_187 0 58 (dk_at dksX0_init_5 0 rfl rfl)
theorem dX0_init_114 : decode cX0_init 114 = .ok (.dup, 1) := dk_89 (dk_at dksX0_init_5 3 rfl rfl)
theorem dX0_init_115 : decode cX0_init 115 = .ok (.aload_n 0, 1) := dk_42 (dk_at dksX0_init_5 4 rfl rfl)
theorem dX0_init_116 : decode cX0_init 116 = .ok (.invokespecial 60, 3) := dk_183 0 60 (dk_at dksX0_init_5 5 rfl rfl)
theorem dX0_init_119 : decode cX0_init 119 = .ok (.aastore, 1) := dk_83 (dk_at dksX0_init_5 8 rfl rfl)
theorem dX0_init_120 : decode cX0_init 120 = .ok (.dup, 1) := dk_89 (dk_at dksX0_init_5 9 rfl rfl)
theorem dX0_init_121 : decode cX0_init 121 = .ok (.iconst 5, 1) := dk_8 (dk_at dksX0_init_5 10 rfl rfl)
theorem dX0_init_122 : decode cX0_init 122 = .ok (.new 61, 3) := dk_187 0 61 (dk_at dksX0_init_5 11 rfl rfl)
theorem dX0_init_125 : decode cX0_init 125 = .ok (.dup, 1) := dk_89 (dk_at dksX0_init_5 14 rfl rfl)
theorem dX0_init_126 : decode cX0_init 126 = .ok (.aload_n 0, 1) := dk_42 (dk_at dksX0_init_5 15 rfl rfl)
theorem dX0_init_127 : decode cX0_init 127 = .ok (.invokespecial 63, 3) := dk_183 0 63 (dk_at dksX0_init_5 16 rfl rfl)
theorem dX0_init_130 : decode cX0_init 130 = .ok (.aastore, 1) := dk_83 (dk_at dksX0_init_5 19 rfl rfl)
theorem dX0_init_131 : decode cX0_init 131 = .ok (.putfield 64, 3) := dk_181 0 64 (dk_at dksX0_init_5 20 rfl rfl)
theorem dX0_init_134 : decode cX0_init 134 = .ok (.aload_n 0, 1) := dk_42 (dk_at dksX0_init_5 23 rfl rfl)
theorem dX0_init_135 : decode cX0_init 135 = .ok (.sipush 200, 3) := dk_17 0 200 (dk_at dksX0_init_6 0 rfl rfl)
theorem dX0_init_138 : decode cX0_init 138 = .ok (.newarray .byte, 2) := dk_188_8 (dk_at dksX0_init_6 3 rfl rfl)
theorem dX0_init_140 : decode cX0_init 140 = .ok (.putfield 68, 3) := dk_181 0 68 (dk_at dksX0_init_6 5 rfl rfl)
theorem dX0_init_143 : decode cX0_init 143 = .ok (.aload_n 0, 1) := dk_42 (dk_at dksX0_init_6 8 rfl rfl)
theorem dX0_init_144 : decode cX0_init 144 = .ok (.new 72, 3) := dk_187 0 72 (dk_at dksX0_init_6 9 rfl rfl)
theorem dX0_init_147 : decode cX0_init 147 = .ok (.dup, 1) := dk_89 (dk_at dksX0_init_6 12 rfl rfl)
theorem dX0_init_148 : decode cX0_init 148 = .ok (.aload_n 0, 1) := dk_42 (dk_at dksX0_init_6 13 rfl rfl)
theorem dX0_init_149 : decode cX0_init 149 = .ok (.getfield 29, 3) := dk_180 0 29 (dk_at dksX0_init_6 14 rfl rfl)
theorem dX0_init_152 : decode cX0_init 152 = .ok (.invokespecial 74, 3) := dk_183 0 74 (dk_at dksX0_init_6 17 rfl rfl)
theorem dX0_init_155 : decode cX0_init 155 = .ok (.putfield 77, 3) := dk_181 0 77 (dk_at dksX0_init_6 20 rfl rfl)
theorem dX0_init_158 : decode cX0_init 158 = .ok (.aload_n 0, 1) := dk_42 (dk_at dksX0_init_6 23 rfl rfl)
theorem dX0_init_159 : decode cX0_init 159 = .ok (.bipush 6, 2) := dk_16 6 (dk_at dksX0_init_7 0 rfl rfl)
theorem dX0_init_161 : decode cX0_init 161 = .ok (.newarray .int, 2) := dk_188_10 (dk_at dksX0_init_7 2 rfl rfl)
theorem dX0_init_163 : decode cX0_init 163 = .ok (.putfield 81, 3) := dk_181 0 81 (dk_at dksX0_init_7 4 rfl rfl)
theorem dX0_init_166 : decode cX0_init 166 = .ok (.aload_n 0, 1) := dk_42 (dk_at dksX0_init_7 7 rfl rfl)
theorem dX0_init_167 : decode cX0_init 167 = .ok (.new 85, 3) := dk_187 0 85 (dk_at dksX0_init_7 8 rfl rfl)
theorem dX0_init_170 : decode cX0_init 170 = .ok (.dup, 1) := dk_89 (dk_at dksX0_init_7 11 rfl rfl)
theorem dX0_init_171 : decode cX0_init 171 = .ok (.aload_n 0, 1) := dk_42 (dk_at dksX0_init_7 12 rfl rfl)
theorem dX0_init_172 : decode cX0_init 172 = .ok (.invokespecial 87, 3) := dk_183 0 87 (dk_at dksX0_init_7 13 rfl rfl)
theorem dX0_init_175 : decode cX0_init 175 = .ok (.putfield 88, 3) := dk_181 0 88 (dk_at dksX0_init_7 16 rfl rfl)
theorem dX0_init_178 : decode cX0_init 178 = .ok (.aload_n 0, 1) := dk_42 (dk_at dksX0_init_7 19 rfl rfl)
theorem dX0_init_179 : decode cX0_init 179 = .ok (.bipush 24, 2) := dk_16 24 (dk_at dksX0_init_7 20 rfl rfl)
theorem dX0_init_181 : decode cX0_init 181 = .ok (.anewarray 92, 3) := dk_189 0 92 (dk_at dksX0_init_8 0 rfl rfl)
theorem dX0_init_184 : decode cX0_init 184 = .ok (.putfield 94, 3) := dk_181 0 94 (dk_at dksX0_init_8 3 rfl rfl)
theorem dX0_init_187 : decode cX0_init 187 = .ok (.aload_n 0, 1) := dk_42 (dk_at dksX0_init_8 6 rfl rfl)
theorem dX0_init_188 : decode cX0_init 188 = .ok (.new 98, 3) := dk_187 0 98 (dk_at dksX0_init_8 7 rfl rfl)
theorem dX0_init_191 : decode cX0_init 191 = .ok (.dup, 1) := dk_89 (dk_at dksX0_init_8 10 rfl rfl)
theorem dX0_init_192 : decode cX0_init 192 = .ok (.aload_n 0, 1) := dk_42 (dk_at dksX0_init_8 11 rfl rfl)
theorem dX0_init_193 : decode cX0_init 193 = .ok (.invokespecial 100, 3) := dk_183 0 100 (dk_at dksX0_init_8 12 rfl rfl)
theorem dX0_init_196 : decode cX0_init 196 = .ok (.putfield 101, 3) := dk_181 0 101 (dk_at dksX0_init_8 15 rfl rfl)
theorem dX0_init_199 : decode cX0_init 199 = .ok (.aload_n 0, 1) := dk_42 (dk_at dksX0_init_8 18 rfl rfl)
theorem dX0_init_200 : decode cX0_init 200 = .ok (.new 105, 3) := dk_187 0 105 (dk_at dksX0_init_8 19 rfl rfl)
theorem dX0_init_203 : decode cX0_init 203 = .ok (.dup, 1) := dk_89 (dk_at dksX0_init_8 22 rfl rfl)
theorem dX0_init_204 : decode cX0_init 204 = .ok (.aload_n 0, 1) := dk_42 (dk_at dksX0_init_8 23 rfl rfl)
theorem dX0_init_205 : decode cX0_init 205 = .ok (.invokespecial 107, 3) := dk_183 0 107 (dk_at dksX0_init_9 0 rfl rfl)
theorem dX0_init_208 : decode cX0_init 208 = .ok (.putfield 108, 3) := dk_181 0 108 (dk_at dksX0_init_9 3 rfl rfl)
theorem dX0_init_211 : decode cX0_init 211 = .ok (.aload_n 0, 1) := dk_42 (dk_at dksX0_init_9 6 rfl rfl)
theorem dX0_init_212 : decode cX0_init 212 = .ok (.iconst 4, 1) := dk_7 (dk_at dksX0_init_9 7 rfl rfl)
theorem dX0_init_213 : decode cX0_init 213 = .ok (.anewarray 112, 3) := dk_189 0 112 (dk_at dksX0_init_9 8 rfl rfl)
theorem dX0_init_216 : decode cX0_init 216 = .ok (.dup, 1) := dk_89 (dk_at dksX0_init_9 11 rfl rfl)
theorem dX0_init_217 : decode cX0_init 217 = .ok (.iconst 0, 1) := dk_3 (dk_at dksX0_init_9 12 rfl rfl)
theorem dX0_init_218 : decode cX0_init 218 = .ok (.new 112, 3) := dk_187 0 112 (dk_at dksX0_init_9 13 rfl rfl)
theorem dX0_init_221 : decode cX0_init 221 = .ok (.dup, 1) := dk_89 (dk_at dksX0_init_9 16 rfl rfl)
theorem dX0_init_222 : decode cX0_init 222 = .ok (.invokespecial 114, 3) := dk_183 0 114 (dk_at dksX0_init_9 17 rfl rfl)
theorem dX0_init_225 : decode cX0_init 225 = .ok (.aastore, 1) := dk_83 (dk_at dksX0_init_9 20 rfl rfl)
theorem dX0_init_226 : decode cX0_init 226 = .ok (.dup, 1) := dk_89 (dk_at dksX0_init_9 21 rfl rfl)
theorem dX0_init_227 : decode cX0_init 227 = .ok (.iconst 1, 1) := dk_4 (dk_at dksX0_init_9 22 rfl rfl)
theorem dX0_init_228 : decode cX0_init 228 = .ok (.new 112, 3) := dk_187 0 112 (dk_at dksX0_init_10 0 rfl rfl)
theorem dX0_init_231 : decode cX0_init 231 = .ok (.dup, 1) := dk_89 (dk_at dksX0_init_10 3 rfl rfl)
theorem dX0_init_232 : decode cX0_init 232 = .ok (.invokespecial 114, 3) := dk_183 0 114 (dk_at dksX0_init_10 4 rfl rfl)
theorem dX0_init_235 : decode cX0_init 235 = .ok (.aastore, 1) := dk_83 (dk_at dksX0_init_10 7 rfl rfl)
theorem dX0_init_236 : decode cX0_init 236 = .ok (.dup, 1) := dk_89 (dk_at dksX0_init_10 8 rfl rfl)
theorem dX0_init_237 : decode cX0_init 237 = .ok (.iconst 2, 1) := dk_5 (dk_at dksX0_init_10 9 rfl rfl)
theorem dX0_init_238 : decode cX0_init 238 = .ok (.new 112, 3) := dk_187 0 112 (dk_at dksX0_init_10 10 rfl rfl)
theorem dX0_init_241 : decode cX0_init 241 = .ok (.dup, 1) := dk_89 (dk_at dksX0_init_10 13 rfl rfl)
theorem dX0_init_242 : decode cX0_init 242 = .ok (.invokespecial 114, 3) := dk_183 0 114 (dk_at dksX0_init_10 14 rfl rfl)
theorem dX0_init_245 : decode cX0_init 245 = .ok (.aastore, 1) := dk_83 (dk_at dksX0_init_10 17 rfl rfl)
theorem dX0_init_246 : decode cX0_init 246 = .ok (.dup, 1) := dk_89 (dk_at dksX0_init_10 18 rfl rfl)
theorem dX0_init_247 : decode cX0_init 247 = .ok (.iconst 3, 1) := dk_6 (dk_at dksX0_init_10 19 rfl rfl)
theorem dX0_init_248 : decode cX0_init 248 = .ok (.new 112, 3) := dk_187 0 112 (dk_at dksX0_init_10 20 rfl rfl)
theorem dX0_init_251 : decode cX0_init 251 = .ok (.dup, 1) := dk_89 (dk_at dksX0_init_10 23 rfl rfl)
theorem dX0_init_252 : decode cX0_init 252 = .ok (.invokespecial 114, 3) := dk_183 0 114 (dk_at dksX0_init_11 0 rfl rfl)
theorem dX0_init_255 : decode cX0_init 255 = .ok (.aastore, 1) := dk_83 (dk_at dksX0_init_11 3 rfl rfl)
theorem dX0_init_256 : decode cX0_init 256 = .ok (.putfield 115, 3) := dk_181 0 115 (dk_at dksX0_init_11 4 rfl rfl)
theorem dX0_init_259 : decode cX0_init 259 = .ok (.aload_n 0, 1) := dk_42 (dk_at dksX0_init_11 7 rfl rfl)
theorem dX0_init_260 : decode cX0_init 260 = .ok (.new 119, 3) := dk_187 0 119 (dk_at dksX0_init_11 8 rfl rfl)
theorem dX0_init_263 : decode cX0_init 263 = .ok (.dup, 1) := dk_89 (dk_at dksX0_init_11 11 rfl rfl)
theorem dX0_init_264 : decode cX0_init 264 = .ok (.invokespecial 121, 3) := dk_183 0 121 (dk_at dksX0_init_11 12 rfl rfl)
theorem dX0_init_267 : decode cX0_init 267 = .ok (.putfield 122, 3) := dk_181 0 122 (dk_at dksX0_init_11 15 rfl rfl)
theorem dX0_init_270 : decode cX0_init 270 = .ok (.aload_n 0, 1) := dk_42 (dk_at dksX0_init_11 18 rfl rfl)
theorem dX0_init_271 : decode cX0_init 271 = .ok (.new 126, 3) := dk_187 0 126 (dk_at dksX0_init_11 19 rfl rfl)
theorem dX0_init_274 : decode cX0_init 274 = .ok (.dup, 1) := dk_89 (dk_at dksX0_init_11 22 rfl rfl)
theorem dX0_init_275 : decode cX0_init 275 = .ok (.invokespecial 128, 3) := dk_183 0 128 (dk_at dksX0_init_12 0 rfl rfl)
theorem dX0_init_278 : decode cX0_init 278 = .ok (.putfield 129, 3) := dk_181 0 129 (dk_at dksX0_init_12 3 rfl rfl)
theorem dX0_init_281 : decode cX0_init 281 = .ok (.aload_n 0, 1) := dk_42 (dk_at dksX0_init_12 6 rfl rfl)
theorem dX0_init_282 : decode cX0_init 282 = .ok (.bipush 30, 2) := dk_16 30 (dk_at dksX0_init_12 7 rfl rfl)
theorem dX0_init_284 : decode cX0_init 284 = .ok (.newarray .int, 2) := dk_188_10 (dk_at dksX0_init_12 9 rfl rfl)
theorem dX0_init_286 : decode cX0_init 286 = .ok (.putfield 133, 3) := dk_181 0 133 (dk_at dksX0_init_12 11 rfl rfl)
theorem dX0_init_289 : decode cX0_init 289 = .ok (.aload_n 0, 1) := dk_42 (dk_at dksX0_init_12 14 rfl rfl)
theorem dX0_init_290 : decode cX0_init 290 = .ok (.iconst 4, 1) := dk_7 (dk_at dksX0_init_12 15 rfl rfl)
theorem dX0_init_291 : decode cX0_init 291 = .ok (.anewarray 136, 3) := dk_189 0 136 (dk_at dksX0_init_12 16 rfl rfl)
theorem dX0_init_294 : decode cX0_init 294 = .ok (.dup, 1) := dk_89 (dk_at dksX0_init_12 19 rfl rfl)
theorem dX0_init_295 : decode cX0_init 295 = .ok (.iconst 0, 1) := dk_3 (dk_at dksX0_init_12 20 rfl rfl)
theorem dX0_init_296 : decode cX0_init 296 = .ok (.new 136, 3) := dk_187 0 136 (dk_at dksX0_init_12 21 rfl rfl)
theorem dX0_init_299 : decode cX0_init 299 = .ok (.dup, 1) := dk_89 (dk_at dksX0_init_13 0 rfl rfl)
theorem dX0_init_300 : decode cX0_init 300 = .ok (.invokespecial 138, 3) := dk_183 0 138 (dk_at dksX0_init_13 1 rfl rfl)
theorem dX0_init_303 : decode cX0_init 303 = .ok (.aastore, 1) := dk_83 (dk_at dksX0_init_13 4 rfl rfl)
theorem dX0_init_304 : decode cX0_init 304 = .ok (.dup, 1) := dk_89 (dk_at dksX0_init_13 5 rfl rfl)
theorem dX0_init_305 : decode cX0_init 305 = .ok (.iconst 1, 1) := dk_4 (dk_at dksX0_init_13 6 rfl rfl)
theorem dX0_init_306 : decode cX0_init 306 = .ok (.new 136, 3) := dk_187 0 136 (dk_at dksX0_init_13 7 rfl rfl)
theorem dX0_init_309 : decode cX0_init 309 = .ok (.dup, 1) := dk_89 (dk_at dksX0_init_13 10 rfl rfl)
theorem dX0_init_310 : decode cX0_init 310 = .ok (.invokespecial 138, 3) := dk_183 0 138 (dk_at dksX0_init_13 11 rfl rfl)
theorem dX0_init_313 : decode cX0_init 313 = .ok (.aastore, 1) := dk_83 (dk_at dksX0_init_13 14 rfl rfl)
theorem dX0_init_314 : decode cX0_init 314 = .ok (.dup, 1) := dk_89 (dk_at dksX0_init_13 15 rfl rfl)
theorem dX0_init_315 : decode cX0_init 315 = .ok (.iconst 2, 1) := dk_5 (dk_at dksX0_init_13 16 rfl rfl)
theorem dX0_init_316 : decode cX0_init 316 = .ok (.new 136, 3) := dk_187 0 136 (dk_at dksX0_init_13 17 rfl rfl)
theorem dX0_init_319 : decode cX0_init 319 = .ok (.dup, 1) := dk_89 (dk_at dksX0_init_13 20 rfl rfl)
theorem dX0_init_320 : decode cX0_init 320 = .ok (.invokespecial 138, 3) := dk_183 0 138 (dk_at dksX0_init_13 21 rfl rfl)
theorem dX0_init_323 : decode cX0_init 323 = .ok (.aastore, 1) := dk_83 (dk_at dksX0_init_14 0 rfl rfl)
theorem dX0_init_324 : decode cX0_init 324 = .ok (.dup, 1) := dk_89 (dk_at dksX0_init_14 1 rfl rfl)
theorem dX0_init_325 : decode cX0_init 325 = .ok (.iconst 3, 1) := dk_6 (dk_at dksX0_init_14 2 rfl rfl)
theorem dX0_init_326 : decode cX0_init 326 = .ok (.new 136, 3) := dk_187 0 136 (dk_at dksX0_init_14 3 rfl rfl)
theorem dX0_init_329 : decode cX0_init 329 = .ok (.dup, 1) := dk_89 (dk_at dksX0_init_14 6 rfl rfl)
theorem dX0_init_330 : decode cX0_init 330 = .ok (.invokespecial 138, 3) := dk_183 0 138 (dk_at dksX0_init_14 7 rfl rfl)
theorem dX0_init_333 : decode cX0_init 333 = .ok (.aastore, 1) := dk_83 (dk_at dksX0_init_14 10 rfl rfl)
theorem dX0_init_334 : decode cX0_init 334 = .ok (.putfield 139, 3) := dk_181 0 139 (dk_at dksX0_init_14 11 rfl rfl)
theorem dX0_init_337 : decode cX0_init 337 = .ok (.return_, 1) := dk_177 (dk_at dksX0_init_14 14 rfl rfl)
abbrev cX0_feed : ByteArray := prog_1_method_10_code
def yX0_feed : MethodName := ⟨RX0, "feed", "(JI)I"⟩
def dkwX0_feed_3 : List UInt8 := [180, 0, 199, 172]
abbrev dktX0_feed_3 : List UInt8 := dkwX0_feed_3 ++ []
def dkwX0_feed_2 : List UInt8 := [21, 4, 104, 123, 136, 145, 84, 42, 89, 180, 0, 199, 4, 96, 181, 0, 199, 132, 4, 1, 167, 255, 219, 42]
abbrev dktX0_feed_2 : List UInt8 := dkwX0_feed_2 ++ dktX0_feed_3
def dkwX0_feed_1 : List UInt8 := [16, 254, 172, 3, 54, 4, 21, 4, 29, 162, 0, 37, 42, 180, 0, 68, 42, 180, 0, 199, 31, 16, 8]
abbrev dktX0_feed_1 : List UInt8 := dkwX0_feed_1 ++ dktX0_feed_2
def dkwX0_feed_0 : List UInt8 := [29, 4, 16, 8, 184, 0, 143, 154, 0, 5, 2, 172, 42, 180, 0, 199, 29, 96, 17, 0, 200, 164, 0, 6]
abbrev dktX0_feed_0 : List UInt8 := dkwX0_feed_0 ++ dktX0_feed_1
theorem dksX0_feed_0 : cX0_feed.data.toList.drop 0 = dktX0_feed_0 := by decide +kernel
theorem dksX0_feed_1 : cX0_feed.data.toList.drop 24 = dktX0_feed_1 := dk_seg dksX0_feed_0 24 rfl rfl
theorem dksX0_feed_2 : cX0_feed.data.toList.drop 47 = dktX0_feed_2 := dk_seg dksX0_feed_1 23 rfl rfl
theorem dksX0_feed_3 : cX0_feed.data.toList.drop 71 = dktX0_feed_3 := dk_seg dksX0_feed_2 24 rfl rfl
theorem dX0_feed_0 : decode cX0_feed 0 = .ok (.iload_n 3, 1) := dk_29 (dk_at dksX0_feed_0 0 rfl rfl)
theorem dX0_feed_1 : decode cX0_feed 1 = .ok (.iconst 1, 1) := dk_4 (dk_at dksX0_feed_0 1 rfl rfl)
theorem dX0_feed_2 : decode cX0_feed 2 = .ok (.bipush 8, 2) := dk_16 8 (dk_at dksX0_feed_0 2 rfl rfl)
theorem dX0_feed_4 : decode cX0_feed 4 = .ok (.invokestatic 143, 3) := dk_184 0 143 (dk_at dksX0_feed_0 4 rfl rfl)
theorem dX0_feed_7 : decode cX0_feed 7 = .ok (.ifCond .ne 5, 3) := dk_154 0 5 (dk_at dksX0_feed_0 7 rfl rfl)
theorem dX0_feed_10 : decode cX0_feed 10 = .ok (.iconst (-1), 1) := dk_2 (dk_at dksX0_feed_0 10 rfl rfl)
theorem dX0_feed_11 : decode cX0_feed 11 = .ok (.ireturn, 1) := dk_172 (dk_at dksX0_feed_0 11 rfl rfl)
theorem dX0_feed_12 : decode cX0_feed 12 = .ok (.aload_n 0, 1) := dk_42 (dk_at dksX0_feed_0 12 rfl rfl)
theorem dX0_feed_13 : decode cX0_feed 13 = .ok (.getfield 199, 3) := dk_180 0 199 (dk_at dksX0_feed_0 13 rfl rfl)
theorem dX0_feed_16 : decode cX0_feed 16 = .ok (.iload_n 3, 1) := dk_29 (dk_at dksX0_feed_0 16 rfl rfl)
theorem dX0_feed_17 : decode cX0_feed 17 = .ok (.iadd, 1) := dk_96 (dk_at dksX0_feed_0 17 rfl rfl)
theorem dX0_feed_18 : decode cX0_feed 18 = .ok (.sipush 200, 3) := dk_17 0 200 (dk_at dksX0_feed_0 18 rfl rfl)
theorem dX0_feed_21 : decode cX0_feed 21 = .ok (.if_icmp .le 6, 3) := dk_164 0 6 (dk_at dksX0_feed_0 21 rfl rfl)
theorem dX0_feed_24 : decode cX0_feed 24 = .ok (.bipush (-2), 2) := dk_16 254 (dk_at dksX0_feed_1 0 rfl rfl)
theorem dX0_feed_26 : decode cX0_feed 26 = .ok (.ireturn, 1) := dk_172 (dk_at dksX0_feed_1 2 rfl rfl)
theorem dX0_feed_27 : decode cX0_feed 27 = .ok (.iconst 0, 1) := dk_3 (dk_at dksX0_feed_1 3 rfl rfl)
theorem dX0_feed_28 : decode cX0_feed 28 = .ok (.istore 4, 2) := dk_54 4 (dk_at dksX0_feed_1 4 rfl rfl)
theorem dX0_feed_30 : decode cX0_feed 30 = .ok (.iload 4, 2) := dk_21 4 (dk_at dksX0_feed_1 6 rfl rfl)
theorem dX0_feed_32 : decode cX0_feed 32 = .ok (.iload_n 3, 1) := dk_29 (dk_at dksX0_feed_1 8 rfl rfl)
theorem dX0_feed_33 : decode cX0_feed 33 = .ok (.if_icmp .ge 37, 3) := dk_162 0 37 (dk_at dksX0_feed_1 9 rfl rfl)
theorem dX0_feed_36 : decode cX0_feed 36 = .ok (.aload_n 0, 1) := dk_42 (dk_at dksX0_feed_1 12 rfl rfl)
theorem dX0_feed_37 : decode cX0_feed 37 = .ok (.getfield 68, 3) := dk_180 0 68 (dk_at dksX0_feed_1 13 rfl rfl)
theorem dX0_feed_40 : decode cX0_feed 40 = .ok (.aload_n 0, 1) := dk_42 (dk_at dksX0_feed_1 16 rfl rfl)
theorem dX0_feed_41 : decode cX0_feed 41 = .ok (.getfield 199, 3) := dk_180 0 199 (dk_at dksX0_feed_1 17 rfl rfl)
theorem dX0_feed_44 : decode cX0_feed 44 = .ok (.lload_n 1, 1) := dk_31 (dk_at dksX0_feed_1 20 rfl rfl)
theorem dX0_feed_45 : decode cX0_feed 45 = .ok (.bipush 8, 2) := dk_16 8 (dk_at dksX0_feed_1 21 rfl rfl)
theorem dX0_feed_47 : decode cX0_feed 47 = .ok (.iload 4, 2) := dk_21 4 (dk_at dksX0_feed_2 0 rfl rfl)
theorem dX0_feed_49 : decode cX0_feed 49 = .ok (.imul, 1) := dk_104 (dk_at dksX0_feed_2 2 rfl rfl)
theorem dX0_feed_50 : decode cX0_feed 50 = .ok (.lshr, 1) := dk_123 (dk_at dksX0_feed_2 3 rfl rfl)
theorem dX0_feed_51 : decode cX0_feed 51 = .ok (.l2i, 1) := dk_136 (dk_at dksX0_feed_2 4 rfl rfl)
theorem dX0_feed_52 : decode cX0_feed 52 = .ok (.i2b, 1) := dk_145 (dk_at dksX0_feed_2 5 rfl rfl)
theorem dX0_feed_53 : decode cX0_feed 53 = .ok (.bastore, 1) := dk_84 (dk_at dksX0_feed_2 6 rfl rfl)
theorem dX0_feed_54 : decode cX0_feed 54 = .ok (.aload_n 0, 1) := dk_42 (dk_at dksX0_feed_2 7 rfl rfl)
theorem dX0_feed_55 : decode cX0_feed 55 = .ok (.dup, 1) := dk_89 (dk_at dksX0_feed_2 8 rfl rfl)
theorem dX0_feed_56 : decode cX0_feed 56 = .ok (.getfield 199, 3) := dk_180 0 199 (dk_at dksX0_feed_2 9 rfl rfl)
theorem dX0_feed_59 : decode cX0_feed 59 = .ok (.iconst 1, 1) := dk_4 (dk_at dksX0_feed_2 12 rfl rfl)
theorem dX0_feed_60 : decode cX0_feed 60 = .ok (.iadd, 1) := dk_96 (dk_at dksX0_feed_2 13 rfl rfl)
theorem dX0_feed_61 : decode cX0_feed 61 = .ok (.putfield 199, 3) := dk_181 0 199 (dk_at dksX0_feed_2 14 rfl rfl)
theorem dX0_feed_64 : decode cX0_feed 64 = .ok (.iinc 4 1, 3) := dk_132 4 1 (dk_at dksX0_feed_2 17 rfl rfl)
theorem dX0_feed_67 : decode cX0_feed 67 = .ok (.goto (-37), 3) := dk_167 255 219 (dk_at dksX0_feed_2 20 rfl rfl)
theorem dX0_feed_70 : decode cX0_feed 70 = .ok (.aload_n 0, 1) := dk_42 (dk_at dksX0_feed_2 23 rfl rfl)
theorem dX0_feed_71 : decode cX0_feed 71 = .ok (.getfield 199, 3) := dk_180 0 199 (dk_at dksX0_feed_3 0 rfl rfl)
theorem dX0_feed_74 : decode cX0_feed 74 = .ok (.ireturn, 1) := dk_172 (dk_at dksX0_feed_3 3 rfl rfl)
abbrev cX0_in : ByteArray := prog_1_method_1_code
def yX0_in : MethodName := ⟨RX0, "in", "(III)Z"⟩
def dkwX0_in_0 : List UInt8 := [26, 27, 161, 0, 12, 26, 28, 163, 0, 7, 4, 167, 0, 4, 3, 172]
abbrev dktX0_in_0 : List UInt8 := dkwX0_in_0 ++ []
theorem dksX0_in_0 : cX0_in.data.toList.drop 0 = dktX0_in_0 := by decide +kernel
theorem dX0_in_0 : decode cX0_in 0 = .ok (.iload_n 0, 1) := dk_26 (dk_at dksX0_in_0 0 rfl rfl)
theorem dX0_in_1 : decode cX0_in 1 = .ok (.iload_n 1, 1) := dk_27 (dk_at dksX0_in_0 1 rfl rfl)
theorem dX0_in_2 : decode cX0_in 2 = .ok (.if_icmp .lt 12, 3) := dk_161 0 12 (dk_at dksX0_in_0 2 rfl rfl)
theorem dX0_in_5 : decode cX0_in 5 = .ok (.iload_n 0, 1) := dk_26 (dk_at dksX0_in_0 5 rfl rfl)
theorem dX0_in_6 : decode cX0_in 6 = .ok (.iload_n 2, 1) := dk_28 (dk_at dksX0_in_0 6 rfl rfl)
theorem dX0_in_7 : decode cX0_in 7 = .ok (.if_icmp .gt 7, 3) := dk_163 0 7 (dk_at dksX0_in_0 7 rfl rfl)
theorem dX0_in_10 : decode cX0_in 10 = .ok (.iconst 1, 1) := dk_4 (dk_at dksX0_in_0 10 rfl rfl)
theorem dX0_in_11 : decode cX0_in 11 = .ok (.goto 4, 3) := dk_167 0 4 (dk_at dksX0_in_0 11 rfl rfl)
theorem dX0_in_14 : decode cX0_in 14 = .ok (.iconst 0, 1) := dk_3 (dk_at dksX0_in_0 14 rfl rfl)
theorem dX0_in_15 : decode cX0_in 15 = .ok (.ireturn, 1) := dk_172 (dk_at dksX0_in_0 15 rfl rfl)
abbrev cX0_plan : ByteArray := prog_1_method_11_code
def yX0_plan : MethodName := ⟨RX0, "plan", "()I"⟩
def dkwX0_plan_2 : List UInt8 := [180, 0, 22, 180, 0, 212, 172]
abbrev dktX0_plan_2 : List UInt8 := dkwX0_plan_2 ++ []
def dkwX0_plan_1 : List UInt8 := [167, 0, 12, 77, 16, 156, 44, 180, 0, 208, 100, 172, 42, 180, 0, 22, 42, 180, 0, 29, 182, 0, 209, 42]
abbrev dktX0_plan_1 : List UInt8 := dkwX0_plan_1 ++ dktX0_plan_2
def dkwX0_plan_0 : List UInt8 := [42, 180, 0, 199, 60, 42, 3, 181, 0, 199, 42, 180, 0, 77, 42, 180, 0, 68, 27, 182, 0, 202]
abbrev dktX0_plan_0 : List UInt8 := dkwX0_plan_0 ++ dktX0_plan_1
theorem dksX0_plan_0 : cX0_plan.data.toList.drop 0 = dktX0_plan_0 := by decide +kernel
theorem dksX0_plan_1 : cX0_plan.data.toList.drop 22 = dktX0_plan_1 := dk_seg dksX0_plan_0 22 rfl rfl
theorem dksX0_plan_2 : cX0_plan.data.toList.drop 46 = dktX0_plan_2 := dk_seg dksX0_plan_1 24 rfl rfl
theorem dX0_plan_0 : decode cX0_plan 0 = .ok (.aload_n 0, 1) := dk_42 (dk_at dksX0_plan_0 0 rfl rfl)
theorem dX0_plan_1 : decode cX0_plan 1 = .ok (.getfield 199, 3) := dk_180 0 199 (dk_at dksX0_plan_0 1 rfl rfl)
theorem dX0_plan_4 : decode cX0_plan 4 = .ok (.istore_n 1, 1) := dk_60 (dk_at dksX0_plan_0 4 rfl rfl)
theorem dX0_plan_5 : decode cX0_plan 5 = .ok (.aload_n 0, 1) := dk_42 (dk_at dksX0_plan_0 5 rfl rfl)
theorem dX0_plan_6 : decode cX0_plan 6 = .ok (.iconst 0, 1) := dk_3 (dk_at dksX0_plan_0 6 rfl rfl)
theorem dX0_plan_7 : decode cX0_plan 7 = .ok (.putfield 199, 3) := dk_181 0 199 (dk_at dksX0_plan_0 7 rfl rfl)
theorem dX0_plan_10 : decode cX0_plan 10 = .ok (.aload_n 0, 1) := dk_42 (dk_at dksX0_plan_0 10 rfl rfl)
theorem dX0_plan_11 : decode cX0_plan 11 = .ok (.getfield 77, 3) := dk_180 0 77 (dk_at dksX0_plan_0 11 rfl rfl)
theorem dX0_plan_14 : decode cX0_plan 14 = .ok (.aload_n 0, 1) := dk_42 (dk_at dksX0_plan_0 14 rfl rfl)
theorem dX0_plan_15 : decode cX0_plan 15 = .ok (.getfield 68, 3) := dk_180 0 68 (dk_at dksX0_plan_0 15 rfl rfl)
theorem dX0_plan_18 : decode cX0_plan 18 = .ok (.iload_n 1, 1) := dk_27 (dk_at dksX0_plan_0 18 rfl rfl)
theorem dX0_plan_19 : decode cX0_plan 19 = .ok (.invokevirtual 202, 3) := dk_182 0 202 (dk_at dksX0_plan_0 19 rfl rfl)
theorem dX0_plan_22 : decode cX0_plan 22 = .ok (.goto 12, 3) := dk_167 0 12 (dk_at dksX0_plan_1 0 rfl rfl)
theorem dX0_plan_25 : decode cX0_plan 25 = .ok (.astore_n 2, 1) := dk_77 (dk_at dksX0_plan_1 3 rfl rfl)
theorem dX0_plan_26 : decode cX0_plan 26 = .ok (.bipush (-100), 2) := dk_16 156 (dk_at dksX0_plan_1 4 rfl rfl)
theorem dX0_plan_28 : decode cX0_plan 28 = .ok (.aload_n 2, 1) := dk_44 (dk_at dksX0_plan_1 6 rfl rfl)
theorem dX0_plan_29 : decode cX0_plan 29 = .ok (.getfield 208, 3) := dk_180 0 208 (dk_at dksX0_plan_1 7 rfl rfl)
theorem dX0_plan_32 : decode cX0_plan 32 = .ok (.isub, 1) := dk_100 (dk_at dksX0_plan_1 10 rfl rfl)
theorem dX0_plan_33 : decode cX0_plan 33 = .ok (.ireturn, 1) := dk_172 (dk_at dksX0_plan_1 11 rfl rfl)
theorem dX0_plan_34 : decode cX0_plan 34 = .ok (.aload_n 0, 1) := dk_42 (dk_at dksX0_plan_1 12 rfl rfl)
theorem dX0_plan_35 : decode cX0_plan 35 = .ok (.getfield 22, 3) := dk_180 0 22 (dk_at dksX0_plan_1 13 rfl rfl)
theorem dX0_plan_38 : decode cX0_plan 38 = .ok (.aload_n 0, 1) := dk_42 (dk_at dksX0_plan_1 16 rfl rfl)
theorem dX0_plan_39 : decode cX0_plan 39 = .ok (.getfield 29, 3) := dk_180 0 29 (dk_at dksX0_plan_1 17 rfl rfl)
theorem dX0_plan_42 : decode cX0_plan 42 = .ok (.invokevirtual 209, 3) := dk_182 0 209 (dk_at dksX0_plan_1 20 rfl rfl)
theorem dX0_plan_45 : decode cX0_plan 45 = .ok (.aload_n 0, 1) := dk_42 (dk_at dksX0_plan_1 23 rfl rfl)
theorem dX0_plan_46 : decode cX0_plan 46 = .ok (.getfield 22, 3) := dk_180 0 22 (dk_at dksX0_plan_2 0 rfl rfl)
theorem dX0_plan_49 : decode cX0_plan 49 = .ok (.getfield 212, 3) := dk_180 0 212 (dk_at dksX0_plan_2 3 rfl rfl)
theorem dX0_plan_52 : decode cX0_plan 52 = .ok (.ireturn, 1) := dk_172 (dk_at dksX0_plan_2 6 rfl rfl)
abbrev cX0_out : ByteArray := prog_1_method_12_code
def yX0_out : MethodName := ⟨RX0, "out", "(II)I"⟩
def dkwX0_out_1 : List UInt8 := [180, 0, 22, 180, 0, 220, 27, 46, 62, 42, 180, 0, 22, 180, 0, 220, 27, 28, 79, 29, 172]
abbrev dktX0_out_1 : List UInt8 := dkwX0_out_1 ++ []
def dkwX0_out_0 : List UInt8 := [27, 184, 0, 215, 153, 0, 14, 28, 16, 236, 16, 30, 184, 0, 143, 154, 0, 6, 18, 219, 172, 42]
abbrev dktX0_out_0 : List UInt8 := dkwX0_out_0 ++ dktX0_out_1
theorem dksX0_out_0 : cX0_out.data.toList.drop 0 = dktX0_out_0 := by decide +kernel
theorem dksX0_out_1 : cX0_out.data.toList.drop 22 = dktX0_out_1 := dk_seg dksX0_out_0 22 rfl rfl
theorem dX0_out_0 : decode cX0_out 0 = .ok (.iload_n 1, 1) := dk_27 (dk_at dksX0_out_0 0 rfl rfl)
theorem dX0_out_1 : decode cX0_out 1 = .ok (.invokestatic 215, 3) := dk_184 0 215 (dk_at dksX0_out_0 1 rfl rfl)
theorem dX0_out_4 : decode cX0_out 4 = .ok (.ifCond .eq 14, 3) := dk_153 0 14 (dk_at dksX0_out_0 4 rfl rfl)
theorem dX0_out_7 : decode cX0_out 7 = .ok (.iload_n 2, 1) := dk_28 (dk_at dksX0_out_0 7 rfl rfl)
theorem dX0_out_8 : decode cX0_out 8 = .ok (.bipush (-20), 2) := dk_16 236 (dk_at dksX0_out_0 8 rfl rfl)
theorem dX0_out_10 : decode cX0_out 10 = .ok (.bipush 30, 2) := dk_16 30 (dk_at dksX0_out_0 10 rfl rfl)
theorem dX0_out_12 : decode cX0_out 12 = .ok (.invokestatic 143, 3) := dk_184 0 143 (dk_at dksX0_out_0 12 rfl rfl)
theorem dX0_out_15 : decode cX0_out 15 = .ok (.ifCond .ne 6, 3) := dk_154 0 6 (dk_at dksX0_out_0 15 rfl rfl)
theorem dX0_out_18 : decode cX0_out 18 = .ok (.ldc 219, 2) := dk_18 219 (dk_at dksX0_out_0 18 rfl rfl)
theorem dX0_out_20 : decode cX0_out 20 = .ok (.ireturn, 1) := dk_172 (dk_at dksX0_out_0 20 rfl rfl)
theorem dX0_out_21 : decode cX0_out 21 = .ok (.aload_n 0, 1) := dk_42 (dk_at dksX0_out_0 21 rfl rfl)
theorem dX0_out_22 : decode cX0_out 22 = .ok (.getfield 22, 3) := dk_180 0 22 (dk_at dksX0_out_1 0 rfl rfl)
theorem dX0_out_25 : decode cX0_out 25 = .ok (.getfield 220, 3) := dk_180 0 220 (dk_at dksX0_out_1 3 rfl rfl)
theorem dX0_out_28 : decode cX0_out 28 = .ok (.iload_n 1, 1) := dk_27 (dk_at dksX0_out_1 6 rfl rfl)
theorem dX0_out_29 : decode cX0_out 29 = .ok (.iaload, 1) := dk_46 (dk_at dksX0_out_1 7 rfl rfl)
theorem dX0_out_30 : decode cX0_out 30 = .ok (.istore_n 3, 1) := dk_62 (dk_at dksX0_out_1 8 rfl rfl)
theorem dX0_out_31 : decode cX0_out 31 = .ok (.aload_n 0, 1) := dk_42 (dk_at dksX0_out_1 9 rfl rfl)
theorem dX0_out_32 : decode cX0_out 32 = .ok (.getfield 22, 3) := dk_180 0 22 (dk_at dksX0_out_1 10 rfl rfl)
theorem dX0_out_35 : decode cX0_out 35 = .ok (.getfield 220, 3) := dk_180 0 220 (dk_at dksX0_out_1 13 rfl rfl)
theorem dX0_out_38 : decode cX0_out 38 = .ok (.iload_n 1, 1) := dk_27 (dk_at dksX0_out_1 16 rfl rfl)
theorem dX0_out_39 : decode cX0_out 39 = .ok (.iload_n 2, 1) := dk_28 (dk_at dksX0_out_1 17 rfl rfl)
theorem dX0_out_40 : decode cX0_out 40 = .ok (.iastore, 1) := dk_79 (dk_at dksX0_out_1 18 rfl rfl)
theorem dX0_out_41 : decode cX0_out 41 = .ok (.iload_n 3, 1) := dk_29 (dk_at dksX0_out_1 19 rfl rfl)
theorem dX0_out_42 : decode cX0_out 42 = .ok (.ireturn, 1) := dk_172 (dk_at dksX0_out_1 20 rfl rfl)
abbrev cX0_isWeek : ByteArray := prog_1_method_6_code
def yX0_isWeek : MethodName := ⟨RX0, "isWeek", "(I)Z"⟩
def dkwX0_isWeek_0 : List UInt8 := [26, 3, 16, 23, 184, 0, 143, 172]
abbrev dktX0_isWeek_0 : List UInt8 := dkwX0_isWeek_0 ++ []
theorem dksX0_isWeek_0 : cX0_isWeek.data.toList.drop 0 = dktX0_isWeek_0 := by decide +kernel
theorem dX0_isWeek_0 : decode cX0_isWeek 0 = .ok (.iload_n 0, 1) := dk_26 (dk_at dksX0_isWeek_0 0 rfl rfl)
theorem dX0_isWeek_1 : decode cX0_isWeek 1 = .ok (.iconst 0, 1) := dk_3 (dk_at dksX0_isWeek_0 1 rfl rfl)
theorem dX0_isWeek_2 : decode cX0_isWeek 2 = .ok (.bipush 23, 2) := dk_16 23 (dk_at dksX0_isWeek_0 2 rfl rfl)
theorem dX0_isWeek_4 : decode cX0_isWeek 4 = .ok (.invokestatic 143, 3) := dk_184 0 143 (dk_at dksX0_isWeek_0 4 rfl rfl)
theorem dX0_isWeek_7 : decode cX0_isWeek 7 = .ok (.ireturn, 1) := dk_172 (dk_at dksX0_isWeek_0 7 rfl rfl)
abbrev cX0_air : ByteArray := prog_1_method_13_code
def yX0_air : MethodName := ⟨RX0, "air", "(II)I"⟩
def dkwX0_air_1 : List UInt8 := [180, 0, 179, 27, 46, 62, 42, 180, 0, 22, 180, 0, 179, 27, 28, 79, 29, 172]
abbrev dktX0_air_1 : List UInt8 := dkwX0_air_1 ++ []
def dkwX0_air_0 : List UInt8 := [27, 184, 0, 215, 153, 0, 13, 28, 3, 16, 9, 184, 0, 143, 154, 0, 5, 2, 172, 42, 180, 0, 22]
abbrev dktX0_air_0 : List UInt8 := dkwX0_air_0 ++ dktX0_air_1
theorem dksX0_air_0 : cX0_air.data.toList.drop 0 = dktX0_air_0 := by decide +kernel
theorem dksX0_air_1 : cX0_air.data.toList.drop 23 = dktX0_air_1 := dk_seg dksX0_air_0 23 rfl rfl
theorem dX0_air_0 : decode cX0_air 0 = .ok (.iload_n 1, 1) := dk_27 (dk_at dksX0_air_0 0 rfl rfl)
theorem dX0_air_1 : decode cX0_air 1 = .ok (.invokestatic 215, 3) := dk_184 0 215 (dk_at dksX0_air_0 1 rfl rfl)
theorem dX0_air_4 : decode cX0_air 4 = .ok (.ifCond .eq 13, 3) := dk_153 0 13 (dk_at dksX0_air_0 4 rfl rfl)
theorem dX0_air_7 : decode cX0_air 7 = .ok (.iload_n 2, 1) := dk_28 (dk_at dksX0_air_0 7 rfl rfl)
theorem dX0_air_8 : decode cX0_air 8 = .ok (.iconst 0, 1) := dk_3 (dk_at dksX0_air_0 8 rfl rfl)
theorem dX0_air_9 : decode cX0_air 9 = .ok (.bipush 9, 2) := dk_16 9 (dk_at dksX0_air_0 9 rfl rfl)
theorem dX0_air_11 : decode cX0_air 11 = .ok (.invokestatic 143, 3) := dk_184 0 143 (dk_at dksX0_air_0 11 rfl rfl)
theorem dX0_air_14 : decode cX0_air 14 = .ok (.ifCond .ne 5, 3) := dk_154 0 5 (dk_at dksX0_air_0 14 rfl rfl)
theorem dX0_air_17 : decode cX0_air 17 = .ok (.iconst (-1), 1) := dk_2 (dk_at dksX0_air_0 17 rfl rfl)
theorem dX0_air_18 : decode cX0_air 18 = .ok (.ireturn, 1) := dk_172 (dk_at dksX0_air_0 18 rfl rfl)
theorem dX0_air_19 : decode cX0_air 19 = .ok (.aload_n 0, 1) := dk_42 (dk_at dksX0_air_0 19 rfl rfl)
theorem dX0_air_20 : decode cX0_air 20 = .ok (.getfield 22, 3) := dk_180 0 22 (dk_at dksX0_air_0 20 rfl rfl)
theorem dX0_air_23 : decode cX0_air 23 = .ok (.getfield 179, 3) := dk_180 0 179 (dk_at dksX0_air_1 0 rfl rfl)
theorem dX0_air_26 : decode cX0_air 26 = .ok (.iload_n 1, 1) := dk_27 (dk_at dksX0_air_1 3 rfl rfl)
theorem dX0_air_27 : decode cX0_air 27 = .ok (.iaload, 1) := dk_46 (dk_at dksX0_air_1 4 rfl rfl)
theorem dX0_air_28 : decode cX0_air 28 = .ok (.istore_n 3, 1) := dk_62 (dk_at dksX0_air_1 5 rfl rfl)
theorem dX0_air_29 : decode cX0_air 29 = .ok (.aload_n 0, 1) := dk_42 (dk_at dksX0_air_1 6 rfl rfl)
theorem dX0_air_30 : decode cX0_air 30 = .ok (.getfield 22, 3) := dk_180 0 22 (dk_at dksX0_air_1 7 rfl rfl)
theorem dX0_air_33 : decode cX0_air 33 = .ok (.getfield 179, 3) := dk_180 0 179 (dk_at dksX0_air_1 10 rfl rfl)
theorem dX0_air_36 : decode cX0_air 36 = .ok (.iload_n 1, 1) := dk_27 (dk_at dksX0_air_1 13 rfl rfl)
theorem dX0_air_37 : decode cX0_air 37 = .ok (.iload_n 2, 1) := dk_28 (dk_at dksX0_air_1 14 rfl rfl)
theorem dX0_air_38 : decode cX0_air 38 = .ok (.iastore, 1) := dk_79 (dk_at dksX0_air_1 15 rfl rfl)
theorem dX0_air_39 : decode cX0_air 39 = .ok (.iload_n 3, 1) := dk_29 (dk_at dksX0_air_1 16 rfl rfl)
theorem dX0_air_40 : decode cX0_air 40 = .ok (.ireturn, 1) := dk_172 (dk_at dksX0_air_1 17 rfl rfl)
abbrev cX0_weekOf : ByteArray := prog_1_method_14_code
def yX0_weekOf : MethodName := ⟨RX0, "weekOf", "(III)I"⟩
def dkwX0_weekOf_3 : List UInt8 := [180, 0, 179, 27, 46, 172, 42, 180, 0, 22, 27, 28, 182, 0, 147, 172, 18, 219, 172]
abbrev dktX0_weekOf_3 : List UInt8 := dkwX0_weekOf_3 ++ []
def dkwX0_weekOf_2 : List UInt8 := [42, 180, 0, 22, 27, 28, 182, 0, 169, 172, 42, 180, 0, 22, 180, 0, 220, 27, 46, 172, 42, 180, 0, 22]
abbrev dktX0_weekOf_2 : List UInt8 := dkwX0_weekOf_2 ++ dktX0_weekOf_3
def dkwX0_weekOf_1 : List UInt8 := [170, 0, 0, 0, 0, 70, 0, 0, 0, 0, 0, 0, 0, 3, 0, 0, 0, 30, 0, 0, 0, 40, 0, 0, 0, 50, 0, 0, 0, 60]
abbrev dktX0_weekOf_1 : List UInt8 := dkwX0_weekOf_1 ++ dktX0_weekOf_2
def dkwX0_weekOf_0 : List UInt8 := [27, 184, 0, 215, 153, 0, 10, 28, 184, 0, 223, 154, 0, 6, 18, 219, 172, 29]
abbrev dktX0_weekOf_0 : List UInt8 := dkwX0_weekOf_0 ++ dktX0_weekOf_1
theorem dksX0_weekOf_0 : cX0_weekOf.data.toList.drop 0 = dktX0_weekOf_0 := by decide +kernel
theorem dksX0_weekOf_1 : cX0_weekOf.data.toList.drop 18 = dktX0_weekOf_1 := dk_seg dksX0_weekOf_0 18 rfl rfl
theorem dksX0_weekOf_2 : cX0_weekOf.data.toList.drop 48 = dktX0_weekOf_2 := dk_seg dksX0_weekOf_1 30 rfl rfl
theorem dksX0_weekOf_3 : cX0_weekOf.data.toList.drop 72 = dktX0_weekOf_3 := dk_seg dksX0_weekOf_2 24 rfl rfl
theorem dX0_weekOf_0 : decode cX0_weekOf 0 = .ok (.iload_n 1, 1) := dk_27 (dk_at dksX0_weekOf_0 0 rfl rfl)
theorem dX0_weekOf_1 : decode cX0_weekOf 1 = .ok (.invokestatic 215, 3) := dk_184 0 215 (dk_at dksX0_weekOf_0 1 rfl rfl)
theorem dX0_weekOf_4 : decode cX0_weekOf 4 = .ok (.ifCond .eq 10, 3) := dk_153 0 10 (dk_at dksX0_weekOf_0 4 rfl rfl)
theorem dX0_weekOf_7 : decode cX0_weekOf 7 = .ok (.iload_n 2, 1) := dk_28 (dk_at dksX0_weekOf_0 7 rfl rfl)
theorem dX0_weekOf_8 : decode cX0_weekOf 8 = .ok (.invokestatic 223, 3) := dk_184 0 223 (dk_at dksX0_weekOf_0 8 rfl rfl)
theorem dX0_weekOf_11 : decode cX0_weekOf 11 = .ok (.ifCond .ne 6, 3) := dk_154 0 6 (dk_at dksX0_weekOf_0 11 rfl rfl)
theorem dX0_weekOf_14 : decode cX0_weekOf 14 = .ok (.ldc 219, 2) := dk_18 219 (dk_at dksX0_weekOf_0 14 rfl rfl)
theorem dX0_weekOf_16 : decode cX0_weekOf 16 = .ok (.ireturn, 1) := dk_172 (dk_at dksX0_weekOf_0 16 rfl rfl)
theorem dX0_weekOf_17 : decode cX0_weekOf 17 = .ok (.iload_n 3, 1) := dk_29 (dk_at dksX0_weekOf_0 17 rfl rfl)
theorem dX0_weekOf_18 : decode cX0_weekOf 18 = .ok (.tableswitch 70 0 3 #[30, 40, 50, 60], 30) := by decide +kernel
theorem dX0_weekOf_48 : decode cX0_weekOf 48 = .ok (.aload_n 0, 1) := dk_42 (dk_at dksX0_weekOf_2 0 rfl rfl)
theorem dX0_weekOf_49 : decode cX0_weekOf 49 = .ok (.getfield 22, 3) := dk_180 0 22 (dk_at dksX0_weekOf_2 1 rfl rfl)
theorem dX0_weekOf_52 : decode cX0_weekOf 52 = .ok (.iload_n 1, 1) := dk_27 (dk_at dksX0_weekOf_2 4 rfl rfl)
theorem dX0_weekOf_53 : decode cX0_weekOf 53 = .ok (.iload_n 2, 1) := dk_28 (dk_at dksX0_weekOf_2 5 rfl rfl)
theorem dX0_weekOf_54 : decode cX0_weekOf 54 = .ok (.invokevirtual 169, 3) := dk_182 0 169 (dk_at dksX0_weekOf_2 6 rfl rfl)
theorem dX0_weekOf_57 : decode cX0_weekOf 57 = .ok (.ireturn, 1) := dk_172 (dk_at dksX0_weekOf_2 9 rfl rfl)
theorem dX0_weekOf_58 : decode cX0_weekOf 58 = .ok (.aload_n 0, 1) := dk_42 (dk_at dksX0_weekOf_2 10 rfl rfl)
theorem dX0_weekOf_59 : decode cX0_weekOf 59 = .ok (.getfield 22, 3) := dk_180 0 22 (dk_at dksX0_weekOf_2 11 rfl rfl)
theorem dX0_weekOf_62 : decode cX0_weekOf 62 = .ok (.getfield 220, 3) := dk_180 0 220 (dk_at dksX0_weekOf_2 14 rfl rfl)
theorem dX0_weekOf_65 : decode cX0_weekOf 65 = .ok (.iload_n 1, 1) := dk_27 (dk_at dksX0_weekOf_2 17 rfl rfl)
theorem dX0_weekOf_66 : decode cX0_weekOf 66 = .ok (.iaload, 1) := dk_46 (dk_at dksX0_weekOf_2 18 rfl rfl)
theorem dX0_weekOf_67 : decode cX0_weekOf 67 = .ok (.ireturn, 1) := dk_172 (dk_at dksX0_weekOf_2 19 rfl rfl)
theorem dX0_weekOf_68 : decode cX0_weekOf 68 = .ok (.aload_n 0, 1) := dk_42 (dk_at dksX0_weekOf_2 20 rfl rfl)
theorem dX0_weekOf_69 : decode cX0_weekOf 69 = .ok (.getfield 22, 3) := dk_180 0 22 (dk_at dksX0_weekOf_2 21 rfl rfl)
theorem dX0_weekOf_72 : decode cX0_weekOf 72 = .ok (.getfield 179, 3) := dk_180 0 179 (dk_at dksX0_weekOf_3 0 rfl rfl)
theorem dX0_weekOf_75 : decode cX0_weekOf 75 = .ok (.iload_n 1, 1) := dk_27 (dk_at dksX0_weekOf_3 3 rfl rfl)
theorem dX0_weekOf_76 : decode cX0_weekOf 76 = .ok (.iaload, 1) := dk_46 (dk_at dksX0_weekOf_3 4 rfl rfl)
theorem dX0_weekOf_77 : decode cX0_weekOf 77 = .ok (.ireturn, 1) := dk_172 (dk_at dksX0_weekOf_3 5 rfl rfl)
theorem dX0_weekOf_78 : decode cX0_weekOf 78 = .ok (.aload_n 0, 1) := dk_42 (dk_at dksX0_weekOf_3 6 rfl rfl)
theorem dX0_weekOf_79 : decode cX0_weekOf 79 = .ok (.getfield 22, 3) := dk_180 0 22 (dk_at dksX0_weekOf_3 7 rfl rfl)
theorem dX0_weekOf_82 : decode cX0_weekOf 82 = .ok (.iload_n 1, 1) := dk_27 (dk_at dksX0_weekOf_3 10 rfl rfl)
theorem dX0_weekOf_83 : decode cX0_weekOf 83 = .ok (.iload_n 2, 1) := dk_28 (dk_at dksX0_weekOf_3 11 rfl rfl)
theorem dX0_weekOf_84 : decode cX0_weekOf 84 = .ok (.invokevirtual 147, 3) := dk_182 0 147 (dk_at dksX0_weekOf_3 12 rfl rfl)
theorem dX0_weekOf_87 : decode cX0_weekOf 87 = .ok (.ireturn, 1) := dk_172 (dk_at dksX0_weekOf_3 15 rfl rfl)
theorem dX0_weekOf_88 : decode cX0_weekOf 88 = .ok (.ldc 219, 2) := dk_18 219 (dk_at dksX0_weekOf_3 16 rfl rfl)
theorem dX0_weekOf_90 : decode cX0_weekOf 90 = .ok (.ireturn, 1) := dk_172 (dk_at dksX0_weekOf_3 18 rfl rfl)
abbrev cX0_isPlace : ByteArray := prog_1_method_7_code
def yX0_isPlace : MethodName := ⟨RX0, "isPlace", "(I)Z"⟩
def dkwX0_isPlace_0 : List UInt8 := [26, 3, 6, 184, 0, 143, 172]
abbrev dktX0_isPlace_0 : List UInt8 := dkwX0_isPlace_0 ++ []
theorem dksX0_isPlace_0 : cX0_isPlace.data.toList.drop 0 = dktX0_isPlace_0 := by decide +kernel
theorem dX0_isPlace_0 : decode cX0_isPlace 0 = .ok (.iload_n 0, 1) := dk_26 (dk_at dksX0_isPlace_0 0 rfl rfl)
theorem dX0_isPlace_1 : decode cX0_isPlace 1 = .ok (.iconst 0, 1) := dk_3 (dk_at dksX0_isPlace_0 1 rfl rfl)
theorem dX0_isPlace_2 : decode cX0_isPlace 2 = .ok (.iconst 3, 1) := dk_6 (dk_at dksX0_isPlace_0 2 rfl rfl)
theorem dX0_isPlace_3 : decode cX0_isPlace 3 = .ok (.invokestatic 143, 3) := dk_184 0 143 (dk_at dksX0_isPlace_0 3 rfl rfl)
theorem dX0_isPlace_6 : decode cX0_isPlace 6 = .ok (.ireturn, 1) := dk_172 (dk_at dksX0_isPlace_0 6 rfl rfl)
abbrev cX0_rule : ByteArray := prog_1_method_17_code
def yX0_rule : MethodName := ⟨RX0, "rule", "(II)I"⟩
def dkwX0_rule_2 : List UInt8 := [172]
abbrev dktX0_rule_2 : List UInt8 := dkwX0_rule_2 ++ []
def dkwX0_rule_1 : List UInt8 := [18, 219, 172, 42, 180, 0, 22, 180, 0, 232, 27, 46, 62, 42, 180, 0, 22, 180, 0, 232, 27, 28, 79, 29]
abbrev dktX0_rule_1 : List UInt8 := dkwX0_rule_1 ++ dktX0_rule_2
def dkwX0_rule_0 : List UInt8 := [27, 3, 7, 184, 0, 143, 153, 0, 18, 28, 27, 184, 0, 226, 27, 184, 0, 229, 184, 0, 143, 154, 0, 6]
abbrev dktX0_rule_0 : List UInt8 := dkwX0_rule_0 ++ dktX0_rule_1
theorem dksX0_rule_0 : cX0_rule.data.toList.drop 0 = dktX0_rule_0 := by decide +kernel
theorem dksX0_rule_1 : cX0_rule.data.toList.drop 24 = dktX0_rule_1 := dk_seg dksX0_rule_0 24 rfl rfl
theorem dksX0_rule_2 : cX0_rule.data.toList.drop 48 = dktX0_rule_2 := dk_seg dksX0_rule_1 24 rfl rfl
theorem dX0_rule_0 : decode cX0_rule 0 = .ok (.iload_n 1, 1) := dk_27 (dk_at dksX0_rule_0 0 rfl rfl)
theorem dX0_rule_1 : decode cX0_rule 1 = .ok (.iconst 0, 1) := dk_3 (dk_at dksX0_rule_0 1 rfl rfl)
theorem dX0_rule_2 : decode cX0_rule 2 = .ok (.iconst 4, 1) := dk_7 (dk_at dksX0_rule_0 2 rfl rfl)
theorem dX0_rule_3 : decode cX0_rule 3 = .ok (.invokestatic 143, 3) := dk_184 0 143 (dk_at dksX0_rule_0 3 rfl rfl)
theorem dX0_rule_6 : decode cX0_rule 6 = .ok (.ifCond .eq 18, 3) := dk_153 0 18 (dk_at dksX0_rule_0 6 rfl rfl)
theorem dX0_rule_9 : decode cX0_rule 9 = .ok (.iload_n 2, 1) := dk_28 (dk_at dksX0_rule_0 9 rfl rfl)
theorem dX0_rule_10 : decode cX0_rule 10 = .ok (.iload_n 1, 1) := dk_27 (dk_at dksX0_rule_0 10 rfl rfl)
theorem dX0_rule_11 : decode cX0_rule 11 = .ok (.invokestatic 226, 3) := dk_184 0 226 (dk_at dksX0_rule_0 11 rfl rfl)
theorem dX0_rule_14 : decode cX0_rule 14 = .ok (.iload_n 1, 1) := dk_27 (dk_at dksX0_rule_0 14 rfl rfl)
theorem dX0_rule_15 : decode cX0_rule 15 = .ok (.invokestatic 229, 3) := dk_184 0 229 (dk_at dksX0_rule_0 15 rfl rfl)
theorem dX0_rule_18 : decode cX0_rule 18 = .ok (.invokestatic 143, 3) := dk_184 0 143 (dk_at dksX0_rule_0 18 rfl rfl)
theorem dX0_rule_21 : decode cX0_rule 21 = .ok (.ifCond .ne 6, 3) := dk_154 0 6 (dk_at dksX0_rule_0 21 rfl rfl)
theorem dX0_rule_24 : decode cX0_rule 24 = .ok (.ldc 219, 2) := dk_18 219 (dk_at dksX0_rule_1 0 rfl rfl)
theorem dX0_rule_26 : decode cX0_rule 26 = .ok (.ireturn, 1) := dk_172 (dk_at dksX0_rule_1 2 rfl rfl)
theorem dX0_rule_27 : decode cX0_rule 27 = .ok (.aload_n 0, 1) := dk_42 (dk_at dksX0_rule_1 3 rfl rfl)
theorem dX0_rule_28 : decode cX0_rule 28 = .ok (.getfield 22, 3) := dk_180 0 22 (dk_at dksX0_rule_1 4 rfl rfl)
theorem dX0_rule_31 : decode cX0_rule 31 = .ok (.getfield 232, 3) := dk_180 0 232 (dk_at dksX0_rule_1 7 rfl rfl)
theorem dX0_rule_34 : decode cX0_rule 34 = .ok (.iload_n 1, 1) := dk_27 (dk_at dksX0_rule_1 10 rfl rfl)
theorem dX0_rule_35 : decode cX0_rule 35 = .ok (.iaload, 1) := dk_46 (dk_at dksX0_rule_1 11 rfl rfl)
theorem dX0_rule_36 : decode cX0_rule 36 = .ok (.istore_n 3, 1) := dk_62 (dk_at dksX0_rule_1 12 rfl rfl)
theorem dX0_rule_37 : decode cX0_rule 37 = .ok (.aload_n 0, 1) := dk_42 (dk_at dksX0_rule_1 13 rfl rfl)
theorem dX0_rule_38 : decode cX0_rule 38 = .ok (.getfield 22, 3) := dk_180 0 22 (dk_at dksX0_rule_1 14 rfl rfl)
theorem dX0_rule_41 : decode cX0_rule 41 = .ok (.getfield 232, 3) := dk_180 0 232 (dk_at dksX0_rule_1 17 rfl rfl)
theorem dX0_rule_44 : decode cX0_rule 44 = .ok (.iload_n 1, 1) := dk_27 (dk_at dksX0_rule_1 20 rfl rfl)
theorem dX0_rule_45 : decode cX0_rule 45 = .ok (.iload_n 2, 1) := dk_28 (dk_at dksX0_rule_1 21 rfl rfl)
theorem dX0_rule_46 : decode cX0_rule 46 = .ok (.iastore, 1) := dk_79 (dk_at dksX0_rule_1 22 rfl rfl)
theorem dX0_rule_47 : decode cX0_rule 47 = .ok (.iload_n 3, 1) := dk_29 (dk_at dksX0_rule_1 23 rfl rfl)
theorem dX0_rule_48 : decode cX0_rule 48 = .ok (.ireturn, 1) := dk_172 (dk_at dksX0_rule_2 0 rfl rfl)
abbrev cX0_leastOf : ByteArray := prog_1_method_15_code
def yX0_leastOf : MethodName := ⟨RX0, "leastOf", "(I)I"⟩
def dkwX0_leastOf_1 : List UInt8 := [167, 0, 15, 26, 6, 160, 0, 8, 16, 6, 167, 0, 5, 16, 8, 172]
abbrev dktX0_leastOf_1 : List UInt8 := dkwX0_leastOf_1 ++ []
def dkwX0_leastOf_0 : List UInt8 := [26, 154, 0, 7, 3, 167, 0, 34, 26, 4, 160, 0, 7, 4, 167, 0, 25, 26, 5, 160, 0, 8, 16, 251]
abbrev dktX0_leastOf_0 : List UInt8 := dkwX0_leastOf_0 ++ dktX0_leastOf_1
theorem dksX0_leastOf_0 : cX0_leastOf.data.toList.drop 0 = dktX0_leastOf_0 := by decide +kernel
theorem dksX0_leastOf_1 : cX0_leastOf.data.toList.drop 24 = dktX0_leastOf_1 := dk_seg dksX0_leastOf_0 24 rfl rfl
theorem dX0_leastOf_0 : decode cX0_leastOf 0 = .ok (.iload_n 0, 1) := dk_26 (dk_at dksX0_leastOf_0 0 rfl rfl)
theorem dX0_leastOf_1 : decode cX0_leastOf 1 = .ok (.ifCond .ne 7, 3) := dk_154 0 7 (dk_at dksX0_leastOf_0 1 rfl rfl)
theorem dX0_leastOf_4 : decode cX0_leastOf 4 = .ok (.iconst 0, 1) := dk_3 (dk_at dksX0_leastOf_0 4 rfl rfl)
theorem dX0_leastOf_5 : decode cX0_leastOf 5 = .ok (.goto 34, 3) := dk_167 0 34 (dk_at dksX0_leastOf_0 5 rfl rfl)
theorem dX0_leastOf_8 : decode cX0_leastOf 8 = .ok (.iload_n 0, 1) := dk_26 (dk_at dksX0_leastOf_0 8 rfl rfl)
theorem dX0_leastOf_9 : decode cX0_leastOf 9 = .ok (.iconst 1, 1) := dk_4 (dk_at dksX0_leastOf_0 9 rfl rfl)
theorem dX0_leastOf_10 : decode cX0_leastOf 10 = .ok (.if_icmp .ne 7, 3) := dk_160 0 7 (dk_at dksX0_leastOf_0 10 rfl rfl)
theorem dX0_leastOf_13 : decode cX0_leastOf 13 = .ok (.iconst 1, 1) := dk_4 (dk_at dksX0_leastOf_0 13 rfl rfl)
theorem dX0_leastOf_14 : decode cX0_leastOf 14 = .ok (.goto 25, 3) := dk_167 0 25 (dk_at dksX0_leastOf_0 14 rfl rfl)
theorem dX0_leastOf_17 : decode cX0_leastOf 17 = .ok (.iload_n 0, 1) := dk_26 (dk_at dksX0_leastOf_0 17 rfl rfl)
theorem dX0_leastOf_18 : decode cX0_leastOf 18 = .ok (.iconst 2, 1) := dk_5 (dk_at dksX0_leastOf_0 18 rfl rfl)
theorem dX0_leastOf_19 : decode cX0_leastOf 19 = .ok (.if_icmp .ne 8, 3) := dk_160 0 8 (dk_at dksX0_leastOf_0 19 rfl rfl)
theorem dX0_leastOf_22 : decode cX0_leastOf 22 = .ok (.bipush (-5), 2) := dk_16 251 (dk_at dksX0_leastOf_0 22 rfl rfl)
theorem dX0_leastOf_24 : decode cX0_leastOf 24 = .ok (.goto 15, 3) := dk_167 0 15 (dk_at dksX0_leastOf_1 0 rfl rfl)
theorem dX0_leastOf_27 : decode cX0_leastOf 27 = .ok (.iload_n 0, 1) := dk_26 (dk_at dksX0_leastOf_1 3 rfl rfl)
theorem dX0_leastOf_28 : decode cX0_leastOf 28 = .ok (.iconst 3, 1) := dk_6 (dk_at dksX0_leastOf_1 4 rfl rfl)
theorem dX0_leastOf_29 : decode cX0_leastOf 29 = .ok (.if_icmp .ne 8, 3) := dk_160 0 8 (dk_at dksX0_leastOf_1 5 rfl rfl)
theorem dX0_leastOf_32 : decode cX0_leastOf 32 = .ok (.bipush 6, 2) := dk_16 6 (dk_at dksX0_leastOf_1 8 rfl rfl)
theorem dX0_leastOf_34 : decode cX0_leastOf 34 = .ok (.goto 5, 3) := dk_167 0 5 (dk_at dksX0_leastOf_1 10 rfl rfl)
theorem dX0_leastOf_37 : decode cX0_leastOf 37 = .ok (.bipush 8, 2) := dk_16 8 (dk_at dksX0_leastOf_1 13 rfl rfl)
theorem dX0_leastOf_39 : decode cX0_leastOf 39 = .ok (.ireturn, 1) := dk_172 (dk_at dksX0_leastOf_1 15 rfl rfl)
abbrev cX0_mostOf : ByteArray := prog_1_method_16_code
def yX0_mostOf : MethodName := ⟨RX0, "mostOf", "(I)I"⟩
def dkwX0_mostOf_1 : List UInt8 := [8, 167, 0, 15, 26, 6, 160, 0, 8, 16, 14, 167, 0, 5, 16, 20, 172]
abbrev dktX0_mostOf_1 : List UInt8 := dkwX0_mostOf_1 ++ []
def dkwX0_mostOf_0 : List UInt8 := [26, 154, 0, 8, 16, 15, 167, 0, 34, 26, 4, 160, 0, 8, 16, 50, 167, 0, 24, 26, 5, 160, 0, 7]
abbrev dktX0_mostOf_0 : List UInt8 := dkwX0_mostOf_0 ++ dktX0_mostOf_1
theorem dksX0_mostOf_0 : cX0_mostOf.data.toList.drop 0 = dktX0_mostOf_0 := by decide +kernel
theorem dksX0_mostOf_1 : cX0_mostOf.data.toList.drop 24 = dktX0_mostOf_1 := dk_seg dksX0_mostOf_0 24 rfl rfl
theorem dX0_mostOf_0 : decode cX0_mostOf 0 = .ok (.iload_n 0, 1) := dk_26 (dk_at dksX0_mostOf_0 0 rfl rfl)
theorem dX0_mostOf_1 : decode cX0_mostOf 1 = .ok (.ifCond .ne 8, 3) := dk_154 0 8 (dk_at dksX0_mostOf_0 1 rfl rfl)
theorem dX0_mostOf_4 : decode cX0_mostOf 4 = .ok (.bipush 15, 2) := dk_16 15 (dk_at dksX0_mostOf_0 4 rfl rfl)
theorem dX0_mostOf_6 : decode cX0_mostOf 6 = .ok (.goto 34, 3) := dk_167 0 34 (dk_at dksX0_mostOf_0 6 rfl rfl)
theorem dX0_mostOf_9 : decode cX0_mostOf 9 = .ok (.iload_n 0, 1) := dk_26 (dk_at dksX0_mostOf_0 9 rfl rfl)
theorem dX0_mostOf_10 : decode cX0_mostOf 10 = .ok (.iconst 1, 1) := dk_4 (dk_at dksX0_mostOf_0 10 rfl rfl)
theorem dX0_mostOf_11 : decode cX0_mostOf 11 = .ok (.if_icmp .ne 8, 3) := dk_160 0 8 (dk_at dksX0_mostOf_0 11 rfl rfl)
theorem dX0_mostOf_14 : decode cX0_mostOf 14 = .ok (.bipush 50, 2) := dk_16 50 (dk_at dksX0_mostOf_0 14 rfl rfl)
theorem dX0_mostOf_16 : decode cX0_mostOf 16 = .ok (.goto 24, 3) := dk_167 0 24 (dk_at dksX0_mostOf_0 16 rfl rfl)
theorem dX0_mostOf_19 : decode cX0_mostOf 19 = .ok (.iload_n 0, 1) := dk_26 (dk_at dksX0_mostOf_0 19 rfl rfl)
theorem dX0_mostOf_20 : decode cX0_mostOf 20 = .ok (.iconst 2, 1) := dk_5 (dk_at dksX0_mostOf_0 20 rfl rfl)
theorem dX0_mostOf_21 : decode cX0_mostOf 21 = .ok (.if_icmp .ne 7, 3) := dk_160 0 7 (dk_at dksX0_mostOf_0 21 rfl rfl)
theorem dX0_mostOf_24 : decode cX0_mostOf 24 = .ok (.iconst 5, 1) := dk_8 (dk_at dksX0_mostOf_1 0 rfl rfl)
theorem dX0_mostOf_25 : decode cX0_mostOf 25 = .ok (.goto 15, 3) := dk_167 0 15 (dk_at dksX0_mostOf_1 1 rfl rfl)
theorem dX0_mostOf_28 : decode cX0_mostOf 28 = .ok (.iload_n 0, 1) := dk_26 (dk_at dksX0_mostOf_1 4 rfl rfl)
theorem dX0_mostOf_29 : decode cX0_mostOf 29 = .ok (.iconst 3, 1) := dk_6 (dk_at dksX0_mostOf_1 5 rfl rfl)
theorem dX0_mostOf_30 : decode cX0_mostOf 30 = .ok (.if_icmp .ne 8, 3) := dk_160 0 8 (dk_at dksX0_mostOf_1 6 rfl rfl)
theorem dX0_mostOf_33 : decode cX0_mostOf 33 = .ok (.bipush 14, 2) := dk_16 14 (dk_at dksX0_mostOf_1 9 rfl rfl)
theorem dX0_mostOf_35 : decode cX0_mostOf 35 = .ok (.goto 5, 3) := dk_167 0 5 (dk_at dksX0_mostOf_1 11 rfl rfl)
theorem dX0_mostOf_38 : decode cX0_mostOf 38 = .ok (.bipush 20, 2) := dk_16 20 (dk_at dksX0_mostOf_1 14 rfl rfl)
theorem dX0_mostOf_40 : decode cX0_mostOf 40 = .ok (.ireturn, 1) := dk_172 (dk_at dksX0_mostOf_1 16 rfl rfl)
abbrev cX0_rate : ByteArray := prog_1_method_18_code
def yX0_rate : MethodName := ⟨RX0, "rate", "(I)I"⟩
def dkwX0_rate_0 : List UInt8 := [27, 16, 236, 16, 30, 184, 0, 143, 153, 0, 14, 42, 180, 0, 22, 27, 182, 0, 235, 167, 0, 4, 2, 172]
abbrev dktX0_rate_0 : List UInt8 := dkwX0_rate_0 ++ []
theorem dksX0_rate_0 : cX0_rate.data.toList.drop 0 = dktX0_rate_0 := by decide +kernel
theorem dX0_rate_0 : decode cX0_rate 0 = .ok (.iload_n 1, 1) := dk_27 (dk_at dksX0_rate_0 0 rfl rfl)
theorem dX0_rate_1 : decode cX0_rate 1 = .ok (.bipush (-20), 2) := dk_16 236 (dk_at dksX0_rate_0 1 rfl rfl)
theorem dX0_rate_3 : decode cX0_rate 3 = .ok (.bipush 30, 2) := dk_16 30 (dk_at dksX0_rate_0 3 rfl rfl)
theorem dX0_rate_5 : decode cX0_rate 5 = .ok (.invokestatic 143, 3) := dk_184 0 143 (dk_at dksX0_rate_0 5 rfl rfl)
theorem dX0_rate_8 : decode cX0_rate 8 = .ok (.ifCond .eq 14, 3) := dk_153 0 14 (dk_at dksX0_rate_0 8 rfl rfl)
theorem dX0_rate_11 : decode cX0_rate 11 = .ok (.aload_n 0, 1) := dk_42 (dk_at dksX0_rate_0 11 rfl rfl)
theorem dX0_rate_12 : decode cX0_rate 12 = .ok (.getfield 22, 3) := dk_180 0 22 (dk_at dksX0_rate_0 12 rfl rfl)
theorem dX0_rate_15 : decode cX0_rate 15 = .ok (.iload_n 1, 1) := dk_27 (dk_at dksX0_rate_0 15 rfl rfl)
theorem dX0_rate_16 : decode cX0_rate 16 = .ok (.invokevirtual 235, 3) := dk_182 0 235 (dk_at dksX0_rate_0 16 rfl rfl)
theorem dX0_rate_19 : decode cX0_rate 19 = .ok (.goto 4, 3) := dk_167 0 4 (dk_at dksX0_rate_0 19 rfl rfl)
theorem dX0_rate_22 : decode cX0_rate 22 = .ok (.iconst (-1), 1) := dk_2 (dk_at dksX0_rate_0 22 rfl rfl)
theorem dX0_rate_23 : decode cX0_rate 23 = .ok (.ireturn, 1) := dk_172 (dk_at dksX0_rate_0 23 rfl rfl)
abbrev cX0_body : ByteArray := prog_1_method_21_code
def yX0_body : MethodName := ⟨RX0, "body", "(II)I"⟩
def dkwX0_body_5 : List UInt8 := [42, 180, 0, 22, 180, 0, 238, 28, 181, 0, 159, 29, 172]
abbrev dktX0_body_5 : List UInt8 := dkwX0_body_5 ++ []
def dkwX0_body_4 : List UInt8 := [180, 0, 238, 28, 181, 0, 244, 167, 0, 28, 42, 180, 0, 22, 180, 0, 238, 28, 181, 0, 189, 167, 0, 14]
abbrev dktX0_body_4 : List UInt8 := dkwX0_body_4 ++ dktX0_body_5
def dkwX0_body_3 : List UInt8 := [181, 0, 166, 167, 0, 56, 42, 180, 0, 22, 180, 0, 238, 28, 181, 0, 176, 167, 0, 42, 42, 180, 0, 22]
abbrev dktX0_body_3 : List UInt8 := dkwX0_body_3 ++ dktX0_body_4
def dkwX0_body_2 : List UInt8 := [42, 180, 0, 22, 180, 0, 238, 28, 181, 0, 241, 167, 0, 70, 42, 180, 0, 22, 180, 0, 238, 28]
abbrev dktX0_body_2 : List UInt8 := dkwX0_body_2 ++ dktX0_body_3
def dkwX0_body_1 : List UInt8 := [170, 0, 0, 0, 0, 104, 0, 0, 0, 0, 0, 0, 0, 4, 0, 0, 0, 34, 0, 0, 0, 48, 0, 0, 0, 62, 0, 0, 0, 76, 0, 0, 0, 90]
abbrev dktX0_body_1 : List UInt8 := dkwX0_body_1 ++ dktX0_body_2
def dkwX0_body_0 : List UInt8 := [42, 27, 28, 182, 0, 247, 154, 0, 5, 2, 172, 42, 27, 182, 0, 251, 62, 27]
abbrev dktX0_body_0 : List UInt8 := dkwX0_body_0 ++ dktX0_body_1
theorem dksX0_body_0 : cX0_body.data.toList.drop 0 = dktX0_body_0 := by decide +kernel
theorem dksX0_body_1 : cX0_body.data.toList.drop 18 = dktX0_body_1 := dk_seg dksX0_body_0 18 rfl rfl
theorem dksX0_body_2 : cX0_body.data.toList.drop 52 = dktX0_body_2 := dk_seg dksX0_body_1 34 rfl rfl
theorem dksX0_body_3 : cX0_body.data.toList.drop 74 = dktX0_body_3 := dk_seg dksX0_body_2 22 rfl rfl
theorem dksX0_body_4 : cX0_body.data.toList.drop 98 = dktX0_body_4 := dk_seg dksX0_body_3 24 rfl rfl
theorem dksX0_body_5 : cX0_body.data.toList.drop 122 = dktX0_body_5 := dk_seg dksX0_body_4 24 rfl rfl
theorem dX0_body_0 : decode cX0_body 0 = .ok (.aload_n 0, 1) := dk_42 (dk_at dksX0_body_0 0 rfl rfl)
theorem dX0_body_1 : decode cX0_body 1 = .ok (.iload_n 1, 1) := dk_27 (dk_at dksX0_body_0 1 rfl rfl)
theorem dX0_body_2 : decode cX0_body 2 = .ok (.iload_n 2, 1) := dk_28 (dk_at dksX0_body_0 2 rfl rfl)
theorem dX0_body_3 : decode cX0_body 3 = .ok (.invokevirtual 247, 3) := dk_182 0 247 (dk_at dksX0_body_0 3 rfl rfl)
theorem dX0_body_6 : decode cX0_body 6 = .ok (.ifCond .ne 5, 3) := dk_154 0 5 (dk_at dksX0_body_0 6 rfl rfl)
theorem dX0_body_9 : decode cX0_body 9 = .ok (.iconst (-1), 1) := dk_2 (dk_at dksX0_body_0 9 rfl rfl)
theorem dX0_body_10 : decode cX0_body 10 = .ok (.ireturn, 1) := dk_172 (dk_at dksX0_body_0 10 rfl rfl)
theorem dX0_body_11 : decode cX0_body 11 = .ok (.aload_n 0, 1) := dk_42 (dk_at dksX0_body_0 11 rfl rfl)
theorem dX0_body_12 : decode cX0_body 12 = .ok (.iload_n 1, 1) := dk_27 (dk_at dksX0_body_0 12 rfl rfl)
theorem dX0_body_13 : decode cX0_body 13 = .ok (.invokevirtual 251, 3) := dk_182 0 251 (dk_at dksX0_body_0 13 rfl rfl)
theorem dX0_body_16 : decode cX0_body 16 = .ok (.istore_n 3, 1) := dk_62 (dk_at dksX0_body_0 16 rfl rfl)
theorem dX0_body_17 : decode cX0_body 17 = .ok (.iload_n 1, 1) := dk_27 (dk_at dksX0_body_0 17 rfl rfl)
theorem dX0_body_18 : decode cX0_body 18 = .ok (.tableswitch 104 0 4 #[34, 48, 62, 76, 90], 34) := by decide +kernel
theorem dX0_body_52 : decode cX0_body 52 = .ok (.aload_n 0, 1) := dk_42 (dk_at dksX0_body_2 0 rfl rfl)
theorem dX0_body_53 : decode cX0_body 53 = .ok (.getfield 22, 3) := dk_180 0 22 (dk_at dksX0_body_2 1 rfl rfl)
theorem dX0_body_56 : decode cX0_body 56 = .ok (.getfield 238, 3) := dk_180 0 238 (dk_at dksX0_body_2 4 rfl rfl)
theorem dX0_body_59 : decode cX0_body 59 = .ok (.iload_n 2, 1) := dk_28 (dk_at dksX0_body_2 7 rfl rfl)
theorem dX0_body_60 : decode cX0_body 60 = .ok (.putfield 241, 3) := dk_181 0 241 (dk_at dksX0_body_2 8 rfl rfl)
theorem dX0_body_63 : decode cX0_body 63 = .ok (.goto 70, 3) := dk_167 0 70 (dk_at dksX0_body_2 11 rfl rfl)
theorem dX0_body_66 : decode cX0_body 66 = .ok (.aload_n 0, 1) := dk_42 (dk_at dksX0_body_2 14 rfl rfl)
theorem dX0_body_67 : decode cX0_body 67 = .ok (.getfield 22, 3) := dk_180 0 22 (dk_at dksX0_body_2 15 rfl rfl)
theorem dX0_body_70 : decode cX0_body 70 = .ok (.getfield 238, 3) := dk_180 0 238 (dk_at dksX0_body_2 18 rfl rfl)
theorem dX0_body_73 : decode cX0_body 73 = .ok (.iload_n 2, 1) := dk_28 (dk_at dksX0_body_2 21 rfl rfl)
theorem dX0_body_74 : decode cX0_body 74 = .ok (.putfield 166, 3) := dk_181 0 166 (dk_at dksX0_body_3 0 rfl rfl)
theorem dX0_body_77 : decode cX0_body 77 = .ok (.goto 56, 3) := dk_167 0 56 (dk_at dksX0_body_3 3 rfl rfl)
theorem dX0_body_80 : decode cX0_body 80 = .ok (.aload_n 0, 1) := dk_42 (dk_at dksX0_body_3 6 rfl rfl)
theorem dX0_body_81 : decode cX0_body 81 = .ok (.getfield 22, 3) := dk_180 0 22 (dk_at dksX0_body_3 7 rfl rfl)
theorem dX0_body_84 : decode cX0_body 84 = .ok (.getfield 238, 3) := dk_180 0 238 (dk_at dksX0_body_3 10 rfl rfl)
theorem dX0_body_87 : decode cX0_body 87 = .ok (.iload_n 2, 1) := dk_28 (dk_at dksX0_body_3 13 rfl rfl)
theorem dX0_body_88 : decode cX0_body 88 = .ok (.putfield 176, 3) := dk_181 0 176 (dk_at dksX0_body_3 14 rfl rfl)
theorem dX0_body_91 : decode cX0_body 91 = .ok (.goto 42, 3) := dk_167 0 42 (dk_at dksX0_body_3 17 rfl rfl)
theorem dX0_body_94 : decode cX0_body 94 = .ok (.aload_n 0, 1) := dk_42 (dk_at dksX0_body_3 20 rfl rfl)
theorem dX0_body_95 : decode cX0_body 95 = .ok (.getfield 22, 3) := dk_180 0 22 (dk_at dksX0_body_3 21 rfl rfl)
theorem dX0_body_98 : decode cX0_body 98 = .ok (.getfield 238, 3) := dk_180 0 238 (dk_at dksX0_body_4 0 rfl rfl)
theorem dX0_body_101 : decode cX0_body 101 = .ok (.iload_n 2, 1) := dk_28 (dk_at dksX0_body_4 3 rfl rfl)
theorem dX0_body_102 : decode cX0_body 102 = .ok (.putfield 244, 3) := dk_181 0 244 (dk_at dksX0_body_4 4 rfl rfl)
theorem dX0_body_105 : decode cX0_body 105 = .ok (.goto 28, 3) := dk_167 0 28 (dk_at dksX0_body_4 7 rfl rfl)
theorem dX0_body_108 : decode cX0_body 108 = .ok (.aload_n 0, 1) := dk_42 (dk_at dksX0_body_4 10 rfl rfl)
theorem dX0_body_109 : decode cX0_body 109 = .ok (.getfield 22, 3) := dk_180 0 22 (dk_at dksX0_body_4 11 rfl rfl)
theorem dX0_body_112 : decode cX0_body 112 = .ok (.getfield 238, 3) := dk_180 0 238 (dk_at dksX0_body_4 14 rfl rfl)
theorem dX0_body_115 : decode cX0_body 115 = .ok (.iload_n 2, 1) := dk_28 (dk_at dksX0_body_4 17 rfl rfl)
theorem dX0_body_116 : decode cX0_body 116 = .ok (.putfield 189, 3) := dk_181 0 189 (dk_at dksX0_body_4 18 rfl rfl)
theorem dX0_body_119 : decode cX0_body 119 = .ok (.goto 14, 3) := dk_167 0 14 (dk_at dksX0_body_4 21 rfl rfl)
theorem dX0_body_122 : decode cX0_body 122 = .ok (.aload_n 0, 1) := dk_42 (dk_at dksX0_body_5 0 rfl rfl)
theorem dX0_body_123 : decode cX0_body 123 = .ok (.getfield 22, 3) := dk_180 0 22 (dk_at dksX0_body_5 1 rfl rfl)
theorem dX0_body_126 : decode cX0_body 126 = .ok (.getfield 238, 3) := dk_180 0 238 (dk_at dksX0_body_5 4 rfl rfl)
theorem dX0_body_129 : decode cX0_body 129 = .ok (.iload_n 2, 1) := dk_28 (dk_at dksX0_body_5 7 rfl rfl)
theorem dX0_body_130 : decode cX0_body 130 = .ok (.putfield 159, 3) := dk_181 0 159 (dk_at dksX0_body_5 8 rfl rfl)
theorem dX0_body_133 : decode cX0_body 133 = .ok (.iload_n 3, 1) := dk_29 (dk_at dksX0_body_5 11 rfl rfl)
theorem dX0_body_134 : decode cX0_body 134 = .ok (.ireturn, 1) := dk_172 (dk_at dksX0_body_5 12 rfl rfl)
abbrev cX0_isBody : ByteArray := prog_1_method_19_code
def yX0_isBody : MethodName := ⟨RX0, "isBody", "(II)Z"⟩
def dkwX0_isBody_4 : List UInt8 := [153, 0, 7, 4, 167, 0, 4, 3, 172]
abbrev dktX0_isBody_4 : List UInt8 := dkwX0_isBody_4 ++ []
def dkwX0_isBody_3 : List UInt8 := [17, 11, 184, 184, 0, 143, 172, 28, 3, 16, 9, 184, 0, 143, 172, 27, 8, 160, 0, 14, 28, 184, 0, 223]
abbrev dktX0_isBody_3 : List UInt8 := dkwX0_isBody_3 ++ dktX0_isBody_4
def dkwX0_isBody_2 : List UInt8 := [28, 16, 50, 17, 1, 144, 184, 0, 143, 172, 28, 3, 17, 7, 208, 184, 0, 143, 172, 28, 16, 100]
abbrev dktX0_isBody_2 : List UInt8 := dkwX0_isBody_2 ++ dktX0_isBody_3
def dkwX0_isBody_1 : List UInt8 := [170, 0, 0, 0, 0, 0, 72, 0, 0, 0, 0, 0, 0, 0, 4, 0, 0, 0, 35, 0, 0, 0, 45, 0, 0, 0, 45, 0, 0, 0, 54, 0, 0, 0, 64]
abbrev dktX0_isBody_1 : List UInt8 := dkwX0_isBody_1 ++ dktX0_isBody_2
def dkwX0_isBody_0 : List UInt8 := [27]
abbrev dktX0_isBody_0 : List UInt8 := dkwX0_isBody_0 ++ dktX0_isBody_1
theorem dksX0_isBody_0 : cX0_isBody.data.toList.drop 0 = dktX0_isBody_0 := by decide +kernel
theorem dksX0_isBody_1 : cX0_isBody.data.toList.drop 1 = dktX0_isBody_1 := dk_seg dksX0_isBody_0 1 rfl rfl
theorem dksX0_isBody_2 : cX0_isBody.data.toList.drop 36 = dktX0_isBody_2 := dk_seg dksX0_isBody_1 35 rfl rfl
theorem dksX0_isBody_3 : cX0_isBody.data.toList.drop 58 = dktX0_isBody_3 := dk_seg dksX0_isBody_2 22 rfl rfl
theorem dksX0_isBody_4 : cX0_isBody.data.toList.drop 82 = dktX0_isBody_4 := dk_seg dksX0_isBody_3 24 rfl rfl
theorem dX0_isBody_0 : decode cX0_isBody 0 = .ok (.iload_n 1, 1) := dk_27 (dk_at dksX0_isBody_0 0 rfl rfl)
theorem dX0_isBody_1 : decode cX0_isBody 1 = .ok (.tableswitch 72 0 4 #[35, 45, 45, 54, 64], 35) := by decide +kernel
theorem dX0_isBody_36 : decode cX0_isBody 36 = .ok (.iload_n 2, 1) := dk_28 (dk_at dksX0_isBody_2 0 rfl rfl)
theorem dX0_isBody_37 : decode cX0_isBody 37 = .ok (.bipush 50, 2) := dk_16 50 (dk_at dksX0_isBody_2 1 rfl rfl)
theorem dX0_isBody_39 : decode cX0_isBody 39 = .ok (.sipush 400, 3) := dk_17 1 144 (dk_at dksX0_isBody_2 3 rfl rfl)
theorem dX0_isBody_42 : decode cX0_isBody 42 = .ok (.invokestatic 143, 3) := dk_184 0 143 (dk_at dksX0_isBody_2 6 rfl rfl)
theorem dX0_isBody_45 : decode cX0_isBody 45 = .ok (.ireturn, 1) := dk_172 (dk_at dksX0_isBody_2 9 rfl rfl)
theorem dX0_isBody_46 : decode cX0_isBody 46 = .ok (.iload_n 2, 1) := dk_28 (dk_at dksX0_isBody_2 10 rfl rfl)
theorem dX0_isBody_47 : decode cX0_isBody 47 = .ok (.iconst 0, 1) := dk_3 (dk_at dksX0_isBody_2 11 rfl rfl)
theorem dX0_isBody_48 : decode cX0_isBody 48 = .ok (.sipush 2000, 3) := dk_17 7 208 (dk_at dksX0_isBody_2 12 rfl rfl)
theorem dX0_isBody_51 : decode cX0_isBody 51 = .ok (.invokestatic 143, 3) := dk_184 0 143 (dk_at dksX0_isBody_2 15 rfl rfl)
theorem dX0_isBody_54 : decode cX0_isBody 54 = .ok (.ireturn, 1) := dk_172 (dk_at dksX0_isBody_2 18 rfl rfl)
theorem dX0_isBody_55 : decode cX0_isBody 55 = .ok (.iload_n 2, 1) := dk_28 (dk_at dksX0_isBody_2 19 rfl rfl)
theorem dX0_isBody_56 : decode cX0_isBody 56 = .ok (.bipush 100, 2) := dk_16 100 (dk_at dksX0_isBody_2 20 rfl rfl)
theorem dX0_isBody_58 : decode cX0_isBody 58 = .ok (.sipush 3000, 3) := dk_17 11 184 (dk_at dksX0_isBody_3 0 rfl rfl)
theorem dX0_isBody_61 : decode cX0_isBody 61 = .ok (.invokestatic 143, 3) := dk_184 0 143 (dk_at dksX0_isBody_3 3 rfl rfl)
theorem dX0_isBody_64 : decode cX0_isBody 64 = .ok (.ireturn, 1) := dk_172 (dk_at dksX0_isBody_3 6 rfl rfl)
theorem dX0_isBody_65 : decode cX0_isBody 65 = .ok (.iload_n 2, 1) := dk_28 (dk_at dksX0_isBody_3 7 rfl rfl)
theorem dX0_isBody_66 : decode cX0_isBody 66 = .ok (.iconst 0, 1) := dk_3 (dk_at dksX0_isBody_3 8 rfl rfl)
theorem dX0_isBody_67 : decode cX0_isBody 67 = .ok (.bipush 9, 2) := dk_16 9 (dk_at dksX0_isBody_3 9 rfl rfl)
theorem dX0_isBody_69 : decode cX0_isBody 69 = .ok (.invokestatic 143, 3) := dk_184 0 143 (dk_at dksX0_isBody_3 11 rfl rfl)
theorem dX0_isBody_72 : decode cX0_isBody 72 = .ok (.ireturn, 1) := dk_172 (dk_at dksX0_isBody_3 14 rfl rfl)
theorem dX0_isBody_73 : decode cX0_isBody 73 = .ok (.iload_n 1, 1) := dk_27 (dk_at dksX0_isBody_3 15 rfl rfl)
theorem dX0_isBody_74 : decode cX0_isBody 74 = .ok (.iconst 5, 1) := dk_8 (dk_at dksX0_isBody_3 16 rfl rfl)
theorem dX0_isBody_75 : decode cX0_isBody 75 = .ok (.if_icmp .ne 14, 3) := dk_160 0 14 (dk_at dksX0_isBody_3 17 rfl rfl)
theorem dX0_isBody_78 : decode cX0_isBody 78 = .ok (.iload_n 2, 1) := dk_28 (dk_at dksX0_isBody_3 20 rfl rfl)
theorem dX0_isBody_79 : decode cX0_isBody 79 = .ok (.invokestatic 223, 3) := dk_184 0 223 (dk_at dksX0_isBody_3 21 rfl rfl)
theorem dX0_isBody_82 : decode cX0_isBody 82 = .ok (.ifCond .eq 7, 3) := dk_153 0 7 (dk_at dksX0_isBody_4 0 rfl rfl)
theorem dX0_isBody_85 : decode cX0_isBody 85 = .ok (.iconst 1, 1) := dk_4 (dk_at dksX0_isBody_4 3 rfl rfl)
theorem dX0_isBody_86 : decode cX0_isBody 86 = .ok (.goto 4, 3) := dk_167 0 4 (dk_at dksX0_isBody_4 4 rfl rfl)
theorem dX0_isBody_89 : decode cX0_isBody 89 = .ok (.iconst 0, 1) := dk_3 (dk_at dksX0_isBody_4 7 rfl rfl)
theorem dX0_isBody_90 : decode cX0_isBody 90 = .ok (.ireturn, 1) := dk_172 (dk_at dksX0_isBody_4 8 rfl rfl)
abbrev cX0_part : ByteArray := prog_1_method_20_code
def yX0_part : MethodName := ⟨RX0, "part", "(I)I"⟩
def dkwX0_part_2 : List UInt8 := [44, 180, 0, 244, 167, 0, 19, 27, 7, 160, 0, 10, 44, 180, 0, 189, 167, 0, 7, 44, 180, 0, 159, 172]
abbrev dktX0_part_2 : List UInt8 := dkwX0_part_2 ++ []
def dkwX0_part_1 : List UInt8 := [44, 180, 0, 166, 167, 0, 43, 27, 5, 160, 0, 10, 44, 180, 0, 176, 167, 0, 31, 27, 6, 160, 0, 10]
abbrev dktX0_part_1 : List UInt8 := dkwX0_part_1 ++ dktX0_part_2
def dkwX0_part_0 : List UInt8 := [42, 180, 0, 22, 180, 0, 238, 77, 27, 154, 0, 10, 44, 180, 0, 241, 167, 0, 55, 27, 4, 160, 0, 10]
abbrev dktX0_part_0 : List UInt8 := dkwX0_part_0 ++ dktX0_part_1
theorem dksX0_part_0 : cX0_part.data.toList.drop 0 = dktX0_part_0 := by decide +kernel
theorem dksX0_part_1 : cX0_part.data.toList.drop 24 = dktX0_part_1 := dk_seg dksX0_part_0 24 rfl rfl
theorem dksX0_part_2 : cX0_part.data.toList.drop 48 = dktX0_part_2 := dk_seg dksX0_part_1 24 rfl rfl
theorem dX0_part_0 : decode cX0_part 0 = .ok (.aload_n 0, 1) := dk_42 (dk_at dksX0_part_0 0 rfl rfl)
theorem dX0_part_1 : decode cX0_part 1 = .ok (.getfield 22, 3) := dk_180 0 22 (dk_at dksX0_part_0 1 rfl rfl)
theorem dX0_part_4 : decode cX0_part 4 = .ok (.getfield 238, 3) := dk_180 0 238 (dk_at dksX0_part_0 4 rfl rfl)
theorem dX0_part_7 : decode cX0_part 7 = .ok (.astore_n 2, 1) := dk_77 (dk_at dksX0_part_0 7 rfl rfl)
theorem dX0_part_8 : decode cX0_part 8 = .ok (.iload_n 1, 1) := dk_27 (dk_at dksX0_part_0 8 rfl rfl)
theorem dX0_part_9 : decode cX0_part 9 = .ok (.ifCond .ne 10, 3) := dk_154 0 10 (dk_at dksX0_part_0 9 rfl rfl)
theorem dX0_part_12 : decode cX0_part 12 = .ok (.aload_n 2, 1) := dk_44 (dk_at dksX0_part_0 12 rfl rfl)
theorem dX0_part_13 : decode cX0_part 13 = .ok (.getfield 241, 3) := dk_180 0 241 (dk_at dksX0_part_0 13 rfl rfl)
theorem dX0_part_16 : decode cX0_part 16 = .ok (.goto 55, 3) := dk_167 0 55 (dk_at dksX0_part_0 16 rfl rfl)
theorem dX0_part_19 : decode cX0_part 19 = .ok (.iload_n 1, 1) := dk_27 (dk_at dksX0_part_0 19 rfl rfl)
theorem dX0_part_20 : decode cX0_part 20 = .ok (.iconst 1, 1) := dk_4 (dk_at dksX0_part_0 20 rfl rfl)
theorem dX0_part_21 : decode cX0_part 21 = .ok (.if_icmp .ne 10, 3) := dk_160 0 10 (dk_at dksX0_part_0 21 rfl rfl)
theorem dX0_part_24 : decode cX0_part 24 = .ok (.aload_n 2, 1) := dk_44 (dk_at dksX0_part_1 0 rfl rfl)
theorem dX0_part_25 : decode cX0_part 25 = .ok (.getfield 166, 3) := dk_180 0 166 (dk_at dksX0_part_1 1 rfl rfl)
theorem dX0_part_28 : decode cX0_part 28 = .ok (.goto 43, 3) := dk_167 0 43 (dk_at dksX0_part_1 4 rfl rfl)
theorem dX0_part_31 : decode cX0_part 31 = .ok (.iload_n 1, 1) := dk_27 (dk_at dksX0_part_1 7 rfl rfl)
theorem dX0_part_32 : decode cX0_part 32 = .ok (.iconst 2, 1) := dk_5 (dk_at dksX0_part_1 8 rfl rfl)
theorem dX0_part_33 : decode cX0_part 33 = .ok (.if_icmp .ne 10, 3) := dk_160 0 10 (dk_at dksX0_part_1 9 rfl rfl)
theorem dX0_part_36 : decode cX0_part 36 = .ok (.aload_n 2, 1) := dk_44 (dk_at dksX0_part_1 12 rfl rfl)
theorem dX0_part_37 : decode cX0_part 37 = .ok (.getfield 176, 3) := dk_180 0 176 (dk_at dksX0_part_1 13 rfl rfl)
theorem dX0_part_40 : decode cX0_part 40 = .ok (.goto 31, 3) := dk_167 0 31 (dk_at dksX0_part_1 16 rfl rfl)
theorem dX0_part_43 : decode cX0_part 43 = .ok (.iload_n 1, 1) := dk_27 (dk_at dksX0_part_1 19 rfl rfl)
theorem dX0_part_44 : decode cX0_part 44 = .ok (.iconst 3, 1) := dk_6 (dk_at dksX0_part_1 20 rfl rfl)
theorem dX0_part_45 : decode cX0_part 45 = .ok (.if_icmp .ne 10, 3) := dk_160 0 10 (dk_at dksX0_part_1 21 rfl rfl)
theorem dX0_part_48 : decode cX0_part 48 = .ok (.aload_n 2, 1) := dk_44 (dk_at dksX0_part_2 0 rfl rfl)
theorem dX0_part_49 : decode cX0_part 49 = .ok (.getfield 244, 3) := dk_180 0 244 (dk_at dksX0_part_2 1 rfl rfl)
theorem dX0_part_52 : decode cX0_part 52 = .ok (.goto 19, 3) := dk_167 0 19 (dk_at dksX0_part_2 4 rfl rfl)
theorem dX0_part_55 : decode cX0_part 55 = .ok (.iload_n 1, 1) := dk_27 (dk_at dksX0_part_2 7 rfl rfl)
theorem dX0_part_56 : decode cX0_part 56 = .ok (.iconst 4, 1) := dk_7 (dk_at dksX0_part_2 8 rfl rfl)
theorem dX0_part_57 : decode cX0_part 57 = .ok (.if_icmp .ne 10, 3) := dk_160 0 10 (dk_at dksX0_part_2 9 rfl rfl)
theorem dX0_part_60 : decode cX0_part 60 = .ok (.aload_n 2, 1) := dk_44 (dk_at dksX0_part_2 12 rfl rfl)
theorem dX0_part_61 : decode cX0_part 61 = .ok (.getfield 189, 3) := dk_180 0 189 (dk_at dksX0_part_2 13 rfl rfl)
theorem dX0_part_64 : decode cX0_part 64 = .ok (.goto 7, 3) := dk_167 0 7 (dk_at dksX0_part_2 16 rfl rfl)
theorem dX0_part_67 : decode cX0_part 67 = .ok (.aload_n 2, 1) := dk_44 (dk_at dksX0_part_2 19 rfl rfl)
theorem dX0_part_68 : decode cX0_part 68 = .ok (.getfield 159, 3) := dk_180 0 159 (dk_at dksX0_part_2 20 rfl rfl)
theorem dX0_part_71 : decode cX0_part 71 = .ok (.ireturn, 1) := dk_172 (dk_at dksX0_part_2 23 rfl rfl)
abbrev cX0_bodyOf : ByteArray := prog_1_method_23_code
def yX0_bodyOf : MethodName := ⟨RX0, "bodyOf", "(I)I"⟩
def dkwX0_bodyOf_5 : List UInt8 := [172]
abbrev dktX0_bodyOf_5 : List UInt8 := dkwX0_bodyOf_5 ++ []
def dkwX0_bodyOf_4 : List UInt8 := [180, 0, 22, 180, 0, 238, 180, 0, 241, 42, 180, 0, 22, 180, 0, 238, 182, 1, 0, 184, 1, 3, 172, 2]
abbrev dktX0_bodyOf_4 : List UInt8 := dkwX0_bodyOf_4 ++ dktX0_bodyOf_5
def dkwX0_bodyOf_3 : List UInt8 := [180, 0, 155, 172, 42, 180, 0, 22, 180, 0, 238, 182, 0, 151, 153, 0, 7, 4, 167, 0, 4, 3, 172, 42]
abbrev dktX0_bodyOf_3 : List UInt8 := dkwX0_bodyOf_3 ++ dktX0_bodyOf_4
def dkwX0_bodyOf_2 : List UInt8 := [42, 27, 182, 0, 251, 172, 42, 180, 0, 22, 180, 0, 238, 182, 1, 0, 172, 42, 180, 0, 22, 180, 0, 238]
abbrev dktX0_bodyOf_2 : List UInt8 := dkwX0_bodyOf_2 ++ dktX0_bodyOf_3
def dkwX0_bodyOf_1 : List UInt8 := [170, 0, 0, 0, 0, 0, 126, 0, 0, 0, 0, 0, 0, 0, 9, 0, 0, 0, 55, 0, 0, 0, 55, 0, 0, 0, 55, 0, 0, 0, 55, 0, 0, 0, 55, 0, 0, 0, 55, 0, 0, 0, 61, 0, 0, 0, 72, 0, 0, 0, 83, 0, 0, 0, 102]
abbrev dktX0_bodyOf_1 : List UInt8 := dkwX0_bodyOf_1 ++ dktX0_bodyOf_2
def dkwX0_bodyOf_0 : List UInt8 := [27]
abbrev dktX0_bodyOf_0 : List UInt8 := dkwX0_bodyOf_0 ++ dktX0_bodyOf_1
theorem dksX0_bodyOf_0 : cX0_bodyOf.data.toList.drop 0 = dktX0_bodyOf_0 := by decide +kernel
theorem dksX0_bodyOf_1 : cX0_bodyOf.data.toList.drop 1 = dktX0_bodyOf_1 := dk_seg dksX0_bodyOf_0 1 rfl rfl
theorem dksX0_bodyOf_2 : cX0_bodyOf.data.toList.drop 56 = dktX0_bodyOf_2 := dk_seg dksX0_bodyOf_1 55 rfl rfl
theorem dksX0_bodyOf_3 : cX0_bodyOf.data.toList.drop 80 = dktX0_bodyOf_3 := dk_seg dksX0_bodyOf_2 24 rfl rfl
theorem dksX0_bodyOf_4 : cX0_bodyOf.data.toList.drop 104 = dktX0_bodyOf_4 := dk_seg dksX0_bodyOf_3 24 rfl rfl
theorem dksX0_bodyOf_5 : cX0_bodyOf.data.toList.drop 128 = dktX0_bodyOf_5 := dk_seg dksX0_bodyOf_4 24 rfl rfl
theorem dX0_bodyOf_0 : decode cX0_bodyOf 0 = .ok (.iload_n 1, 1) := dk_27 (dk_at dksX0_bodyOf_0 0 rfl rfl)
theorem dX0_bodyOf_1 : decode cX0_bodyOf 1 = .ok (.tableswitch 126 0 9 #[55, 55, 55, 55, 55, 55, 61, 72, 83, 102], 55) := by decide +kernel
theorem dX0_bodyOf_56 : decode cX0_bodyOf 56 = .ok (.aload_n 0, 1) := dk_42 (dk_at dksX0_bodyOf_2 0 rfl rfl)
theorem dX0_bodyOf_57 : decode cX0_bodyOf 57 = .ok (.iload_n 1, 1) := dk_27 (dk_at dksX0_bodyOf_2 1 rfl rfl)
theorem dX0_bodyOf_58 : decode cX0_bodyOf 58 = .ok (.invokevirtual 251, 3) := dk_182 0 251 (dk_at dksX0_bodyOf_2 2 rfl rfl)
theorem dX0_bodyOf_61 : decode cX0_bodyOf 61 = .ok (.ireturn, 1) := dk_172 (dk_at dksX0_bodyOf_2 5 rfl rfl)
theorem dX0_bodyOf_62 : decode cX0_bodyOf 62 = .ok (.aload_n 0, 1) := dk_42 (dk_at dksX0_bodyOf_2 6 rfl rfl)
theorem dX0_bodyOf_63 : decode cX0_bodyOf 63 = .ok (.getfield 22, 3) := dk_180 0 22 (dk_at dksX0_bodyOf_2 7 rfl rfl)
theorem dX0_bodyOf_66 : decode cX0_bodyOf 66 = .ok (.getfield 238, 3) := dk_180 0 238 (dk_at dksX0_bodyOf_2 10 rfl rfl)
theorem dX0_bodyOf_69 : decode cX0_bodyOf 69 = .ok (.invokevirtual 256, 3) := dk_182 1 0 (dk_at dksX0_bodyOf_2 13 rfl rfl)
theorem dX0_bodyOf_72 : decode cX0_bodyOf 72 = .ok (.ireturn, 1) := dk_172 (dk_at dksX0_bodyOf_2 16 rfl rfl)
theorem dX0_bodyOf_73 : decode cX0_bodyOf 73 = .ok (.aload_n 0, 1) := dk_42 (dk_at dksX0_bodyOf_2 17 rfl rfl)
theorem dX0_bodyOf_74 : decode cX0_bodyOf 74 = .ok (.getfield 22, 3) := dk_180 0 22 (dk_at dksX0_bodyOf_2 18 rfl rfl)
theorem dX0_bodyOf_77 : decode cX0_bodyOf 77 = .ok (.getfield 238, 3) := dk_180 0 238 (dk_at dksX0_bodyOf_2 21 rfl rfl)
theorem dX0_bodyOf_80 : decode cX0_bodyOf 80 = .ok (.getfield 155, 3) := dk_180 0 155 (dk_at dksX0_bodyOf_3 0 rfl rfl)
theorem dX0_bodyOf_83 : decode cX0_bodyOf 83 = .ok (.ireturn, 1) := dk_172 (dk_at dksX0_bodyOf_3 3 rfl rfl)
theorem dX0_bodyOf_84 : decode cX0_bodyOf 84 = .ok (.aload_n 0, 1) := dk_42 (dk_at dksX0_bodyOf_3 4 rfl rfl)
theorem dX0_bodyOf_85 : decode cX0_bodyOf 85 = .ok (.getfield 22, 3) := dk_180 0 22 (dk_at dksX0_bodyOf_3 5 rfl rfl)
theorem dX0_bodyOf_88 : decode cX0_bodyOf 88 = .ok (.getfield 238, 3) := dk_180 0 238 (dk_at dksX0_bodyOf_3 8 rfl rfl)
theorem dX0_bodyOf_91 : decode cX0_bodyOf 91 = .ok (.invokevirtual 151, 3) := dk_182 0 151 (dk_at dksX0_bodyOf_3 11 rfl rfl)
theorem dX0_bodyOf_94 : decode cX0_bodyOf 94 = .ok (.ifCond .eq 7, 3) := dk_153 0 7 (dk_at dksX0_bodyOf_3 14 rfl rfl)
theorem dX0_bodyOf_97 : decode cX0_bodyOf 97 = .ok (.iconst 1, 1) := dk_4 (dk_at dksX0_bodyOf_3 17 rfl rfl)
theorem dX0_bodyOf_98 : decode cX0_bodyOf 98 = .ok (.goto 4, 3) := dk_167 0 4 (dk_at dksX0_bodyOf_3 18 rfl rfl)
theorem dX0_bodyOf_101 : decode cX0_bodyOf 101 = .ok (.iconst 0, 1) := dk_3 (dk_at dksX0_bodyOf_3 21 rfl rfl)
theorem dX0_bodyOf_102 : decode cX0_bodyOf 102 = .ok (.ireturn, 1) := dk_172 (dk_at dksX0_bodyOf_3 22 rfl rfl)
theorem dX0_bodyOf_103 : decode cX0_bodyOf 103 = .ok (.aload_n 0, 1) := dk_42 (dk_at dksX0_bodyOf_3 23 rfl rfl)
theorem dX0_bodyOf_104 : decode cX0_bodyOf 104 = .ok (.getfield 22, 3) := dk_180 0 22 (dk_at dksX0_bodyOf_4 0 rfl rfl)
theorem dX0_bodyOf_107 : decode cX0_bodyOf 107 = .ok (.getfield 238, 3) := dk_180 0 238 (dk_at dksX0_bodyOf_4 3 rfl rfl)
theorem dX0_bodyOf_110 : decode cX0_bodyOf 110 = .ok (.getfield 241, 3) := dk_180 0 241 (dk_at dksX0_bodyOf_4 6 rfl rfl)
theorem dX0_bodyOf_113 : decode cX0_bodyOf 113 = .ok (.aload_n 0, 1) := dk_42 (dk_at dksX0_bodyOf_4 9 rfl rfl)
theorem dX0_bodyOf_114 : decode cX0_bodyOf 114 = .ok (.getfield 22, 3) := dk_180 0 22 (dk_at dksX0_bodyOf_4 10 rfl rfl)
theorem dX0_bodyOf_117 : decode cX0_bodyOf 117 = .ok (.getfield 238, 3) := dk_180 0 238 (dk_at dksX0_bodyOf_4 13 rfl rfl)
theorem dX0_bodyOf_120 : decode cX0_bodyOf 120 = .ok (.invokevirtual 256, 3) := dk_182 1 0 (dk_at dksX0_bodyOf_4 16 rfl rfl)
theorem dX0_bodyOf_123 : decode cX0_bodyOf 123 = .ok (.invokestatic 259, 3) := dk_184 1 3 (dk_at dksX0_bodyOf_4 19 rfl rfl)
theorem dX0_bodyOf_126 : decode cX0_bodyOf 126 = .ok (.ireturn, 1) := dk_172 (dk_at dksX0_bodyOf_4 22 rfl rfl)
theorem dX0_bodyOf_127 : decode cX0_bodyOf 127 = .ok (.iconst (-1), 1) := dk_2 (dk_at dksX0_bodyOf_4 23 rfl rfl)
theorem dX0_bodyOf_128 : decode cX0_bodyOf 128 = .ok (.ireturn, 1) := dk_172 (dk_at dksX0_bodyOf_5 0 rfl rfl)
abbrev cX0_ratio : ByteArray := prog_1_method_22_code
def yX0_ratio : MethodName := ⟨RX0, "ratio", "(II)I"⟩
def dkwX0_ratio_0 : List UInt8 := [27, 133, 20, 0, 254, 105, 26, 133, 109, 65, 32, 26, 133, 109, 26, 133, 109, 136, 172]
abbrev dktX0_ratio_0 : List UInt8 := dkwX0_ratio_0 ++ []
theorem dksX0_ratio_0 : cX0_ratio.data.toList.drop 0 = dktX0_ratio_0 := by decide +kernel
theorem dX0_ratio_0 : decode cX0_ratio 0 = .ok (.iload_n 1, 1) := dk_27 (dk_at dksX0_ratio_0 0 rfl rfl)
theorem dX0_ratio_1 : decode cX0_ratio 1 = .ok (.i2l, 1) := dk_133 (dk_at dksX0_ratio_0 1 rfl rfl)
theorem dX0_ratio_2 : decode cX0_ratio 2 = .ok (.ldc2_w 254, 3) := dk_20 0 254 (dk_at dksX0_ratio_0 2 rfl rfl)
theorem dX0_ratio_5 : decode cX0_ratio 5 = .ok (.lmul, 1) := dk_105 (dk_at dksX0_ratio_0 5 rfl rfl)
theorem dX0_ratio_6 : decode cX0_ratio 6 = .ok (.iload_n 0, 1) := dk_26 (dk_at dksX0_ratio_0 6 rfl rfl)
theorem dX0_ratio_7 : decode cX0_ratio 7 = .ok (.i2l, 1) := dk_133 (dk_at dksX0_ratio_0 7 rfl rfl)
theorem dX0_ratio_8 : decode cX0_ratio 8 = .ok (.ldiv, 1) := dk_109 (dk_at dksX0_ratio_0 8 rfl rfl)
theorem dX0_ratio_9 : decode cX0_ratio 9 = .ok (.lstore_n 2, 1) := dk_65 (dk_at dksX0_ratio_0 9 rfl rfl)
theorem dX0_ratio_10 : decode cX0_ratio 10 = .ok (.lload_n 2, 1) := dk_32 (dk_at dksX0_ratio_0 10 rfl rfl)
theorem dX0_ratio_11 : decode cX0_ratio 11 = .ok (.iload_n 0, 1) := dk_26 (dk_at dksX0_ratio_0 11 rfl rfl)
theorem dX0_ratio_12 : decode cX0_ratio 12 = .ok (.i2l, 1) := dk_133 (dk_at dksX0_ratio_0 12 rfl rfl)
theorem dX0_ratio_13 : decode cX0_ratio 13 = .ok (.ldiv, 1) := dk_109 (dk_at dksX0_ratio_0 13 rfl rfl)
theorem dX0_ratio_14 : decode cX0_ratio 14 = .ok (.iload_n 0, 1) := dk_26 (dk_at dksX0_ratio_0 14 rfl rfl)
theorem dX0_ratio_15 : decode cX0_ratio 15 = .ok (.i2l, 1) := dk_133 (dk_at dksX0_ratio_0 15 rfl rfl)
theorem dX0_ratio_16 : decode cX0_ratio 16 = .ok (.ldiv, 1) := dk_109 (dk_at dksX0_ratio_0 16 rfl rfl)
theorem dX0_ratio_17 : decode cX0_ratio 17 = .ok (.l2i, 1) := dk_136 (dk_at dksX0_ratio_0 17 rfl rfl)
theorem dX0_ratio_18 : decode cX0_ratio 18 = .ok (.ireturn, 1) := dk_172 (dk_at dksX0_ratio_0 18 rfl rfl)
abbrev cX0_uses : ByteArray := prog_1_method_24_code
def yX0_uses : MethodName := ⟨RX0, "uses", "(II)I"⟩
def dkwX0_uses_1 : List UInt8 := [180, 0, 238, 42, 180, 0, 22, 27, 28, 182, 0, 169, 182, 0, 172, 167, 0, 4, 2, 172]
abbrev dktX0_uses_1 : List UInt8 := dkwX0_uses_1 ++ []
def dkwX0_uses_0 : List UInt8 := [27, 184, 0, 215, 153, 0, 38, 28, 184, 0, 223, 153, 0, 31, 42, 27, 28, 182, 0, 162, 42, 180, 0, 22]
abbrev dktX0_uses_0 : List UInt8 := dkwX0_uses_0 ++ dktX0_uses_1
theorem dksX0_uses_0 : cX0_uses.data.toList.drop 0 = dktX0_uses_0 := by decide +kernel
theorem dksX0_uses_1 : cX0_uses.data.toList.drop 24 = dktX0_uses_1 := dk_seg dksX0_uses_0 24 rfl rfl
theorem dX0_uses_0 : decode cX0_uses 0 = .ok (.iload_n 1, 1) := dk_27 (dk_at dksX0_uses_0 0 rfl rfl)
theorem dX0_uses_1 : decode cX0_uses 1 = .ok (.invokestatic 215, 3) := dk_184 0 215 (dk_at dksX0_uses_0 1 rfl rfl)
theorem dX0_uses_4 : decode cX0_uses 4 = .ok (.ifCond .eq 38, 3) := dk_153 0 38 (dk_at dksX0_uses_0 4 rfl rfl)
theorem dX0_uses_7 : decode cX0_uses 7 = .ok (.iload_n 2, 1) := dk_28 (dk_at dksX0_uses_0 7 rfl rfl)
theorem dX0_uses_8 : decode cX0_uses 8 = .ok (.invokestatic 223, 3) := dk_184 0 223 (dk_at dksX0_uses_0 8 rfl rfl)
theorem dX0_uses_11 : decode cX0_uses 11 = .ok (.ifCond .eq 31, 3) := dk_153 0 31 (dk_at dksX0_uses_0 11 rfl rfl)
theorem dX0_uses_14 : decode cX0_uses 14 = .ok (.aload_n 0, 1) := dk_42 (dk_at dksX0_uses_0 14 rfl rfl)
theorem dX0_uses_15 : decode cX0_uses 15 = .ok (.iload_n 1, 1) := dk_27 (dk_at dksX0_uses_0 15 rfl rfl)
theorem dX0_uses_16 : decode cX0_uses 16 = .ok (.iload_n 2, 1) := dk_28 (dk_at dksX0_uses_0 16 rfl rfl)
theorem dX0_uses_17 : decode cX0_uses 17 = .ok (.invokevirtual 162, 3) := dk_182 0 162 (dk_at dksX0_uses_0 17 rfl rfl)
theorem dX0_uses_20 : decode cX0_uses 20 = .ok (.aload_n 0, 1) := dk_42 (dk_at dksX0_uses_0 20 rfl rfl)
theorem dX0_uses_21 : decode cX0_uses 21 = .ok (.getfield 22, 3) := dk_180 0 22 (dk_at dksX0_uses_0 21 rfl rfl)
theorem dX0_uses_24 : decode cX0_uses 24 = .ok (.getfield 238, 3) := dk_180 0 238 (dk_at dksX0_uses_1 0 rfl rfl)
theorem dX0_uses_27 : decode cX0_uses 27 = .ok (.aload_n 0, 1) := dk_42 (dk_at dksX0_uses_1 3 rfl rfl)
theorem dX0_uses_28 : decode cX0_uses 28 = .ok (.getfield 22, 3) := dk_180 0 22 (dk_at dksX0_uses_1 4 rfl rfl)
theorem dX0_uses_31 : decode cX0_uses 31 = .ok (.iload_n 1, 1) := dk_27 (dk_at dksX0_uses_1 7 rfl rfl)
theorem dX0_uses_32 : decode cX0_uses 32 = .ok (.iload_n 2, 1) := dk_28 (dk_at dksX0_uses_1 8 rfl rfl)
theorem dX0_uses_33 : decode cX0_uses 33 = .ok (.invokevirtual 169, 3) := dk_182 0 169 (dk_at dksX0_uses_1 9 rfl rfl)
theorem dX0_uses_36 : decode cX0_uses 36 = .ok (.invokevirtual 172, 3) := dk_182 0 172 (dk_at dksX0_uses_1 12 rfl rfl)
theorem dX0_uses_39 : decode cX0_uses 39 = .ok (.goto 4, 3) := dk_167 0 4 (dk_at dksX0_uses_1 15 rfl rfl)
theorem dX0_uses_42 : decode cX0_uses 42 = .ok (.iconst (-1), 1) := dk_2 (dk_at dksX0_uses_1 18 rfl rfl)
theorem dX0_uses_43 : decode cX0_uses 43 = .ok (.ireturn, 1) := dk_172 (dk_at dksX0_uses_1 19 rfl rfl)
abbrev cX0_natureOf : ByteArray := prog_1_method_8_code
def yX0_natureOf : MethodName := ⟨RX0, "natureOf", "(II)LColdBox$Nature;"⟩
def dkwX0_natureOf_0 : List UInt8 := [42, 180, 0, 64, 42, 180, 0, 22, 27, 28, 182, 0, 147, 50, 176]
abbrev dktX0_natureOf_0 : List UInt8 := dkwX0_natureOf_0 ++ []
theorem dksX0_natureOf_0 : cX0_natureOf.data.toList.drop 0 = dktX0_natureOf_0 := by decide +kernel
theorem dX0_natureOf_0 : decode cX0_natureOf 0 = .ok (.aload_n 0, 1) := dk_42 (dk_at dksX0_natureOf_0 0 rfl rfl)
theorem dX0_natureOf_1 : decode cX0_natureOf 1 = .ok (.getfield 64, 3) := dk_180 0 64 (dk_at dksX0_natureOf_0 1 rfl rfl)
theorem dX0_natureOf_4 : decode cX0_natureOf 4 = .ok (.aload_n 0, 1) := dk_42 (dk_at dksX0_natureOf_0 4 rfl rfl)
theorem dX0_natureOf_5 : decode cX0_natureOf 5 = .ok (.getfield 22, 3) := dk_180 0 22 (dk_at dksX0_natureOf_0 5 rfl rfl)
theorem dX0_natureOf_8 : decode cX0_natureOf 8 = .ok (.iload_n 1, 1) := dk_27 (dk_at dksX0_natureOf_0 8 rfl rfl)
theorem dX0_natureOf_9 : decode cX0_natureOf 9 = .ok (.iload_n 2, 1) := dk_28 (dk_at dksX0_natureOf_0 9 rfl rfl)
theorem dX0_natureOf_10 : decode cX0_natureOf 10 = .ok (.invokevirtual 147, 3) := dk_182 0 147 (dk_at dksX0_natureOf_0 10 rfl rfl)
theorem dX0_natureOf_13 : decode cX0_natureOf 13 = .ok (.aaload, 1) := dk_50 (dk_at dksX0_natureOf_0 13 rfl rfl)
theorem dX0_natureOf_14 : decode cX0_natureOf 14 = .ok (.areturn, 1) := dk_176 (dk_at dksX0_natureOf_0 14 rfl rfl)
abbrev cX0_dries : ByteArray := prog_1_method_25_code
def yX0_dries : MethodName := ⟨RX0, "dries", "(II)I"⟩
def dkwX0_dries_1 : List UInt8 := [180, 0, 179, 27, 46, 182, 0, 182, 167, 0, 4, 2, 172]
abbrev dktX0_dries_1 : List UInt8 := dkwX0_dries_1 ++ []
def dkwX0_dries_0 : List UInt8 := [27, 184, 0, 215, 153, 0, 31, 28, 184, 0, 223, 153, 0, 24, 42, 27, 28, 182, 0, 162, 42, 180, 0, 22]
abbrev dktX0_dries_0 : List UInt8 := dkwX0_dries_0 ++ dktX0_dries_1
theorem dksX0_dries_0 : cX0_dries.data.toList.drop 0 = dktX0_dries_0 := by decide +kernel
theorem dksX0_dries_1 : cX0_dries.data.toList.drop 24 = dktX0_dries_1 := dk_seg dksX0_dries_0 24 rfl rfl
theorem dX0_dries_0 : decode cX0_dries 0 = .ok (.iload_n 1, 1) := dk_27 (dk_at dksX0_dries_0 0 rfl rfl)
theorem dX0_dries_1 : decode cX0_dries 1 = .ok (.invokestatic 215, 3) := dk_184 0 215 (dk_at dksX0_dries_0 1 rfl rfl)
theorem dX0_dries_4 : decode cX0_dries 4 = .ok (.ifCond .eq 31, 3) := dk_153 0 31 (dk_at dksX0_dries_0 4 rfl rfl)
theorem dX0_dries_7 : decode cX0_dries 7 = .ok (.iload_n 2, 1) := dk_28 (dk_at dksX0_dries_0 7 rfl rfl)
theorem dX0_dries_8 : decode cX0_dries 8 = .ok (.invokestatic 223, 3) := dk_184 0 223 (dk_at dksX0_dries_0 8 rfl rfl)
theorem dX0_dries_11 : decode cX0_dries 11 = .ok (.ifCond .eq 24, 3) := dk_153 0 24 (dk_at dksX0_dries_0 11 rfl rfl)
theorem dX0_dries_14 : decode cX0_dries 14 = .ok (.aload_n 0, 1) := dk_42 (dk_at dksX0_dries_0 14 rfl rfl)
theorem dX0_dries_15 : decode cX0_dries 15 = .ok (.iload_n 1, 1) := dk_27 (dk_at dksX0_dries_0 15 rfl rfl)
theorem dX0_dries_16 : decode cX0_dries 16 = .ok (.iload_n 2, 1) := dk_28 (dk_at dksX0_dries_0 16 rfl rfl)
theorem dX0_dries_17 : decode cX0_dries 17 = .ok (.invokevirtual 162, 3) := dk_182 0 162 (dk_at dksX0_dries_0 17 rfl rfl)
theorem dX0_dries_20 : decode cX0_dries 20 = .ok (.aload_n 0, 1) := dk_42 (dk_at dksX0_dries_0 20 rfl rfl)
theorem dX0_dries_21 : decode cX0_dries 21 = .ok (.getfield 22, 3) := dk_180 0 22 (dk_at dksX0_dries_0 21 rfl rfl)
theorem dX0_dries_24 : decode cX0_dries 24 = .ok (.getfield 179, 3) := dk_180 0 179 (dk_at dksX0_dries_1 0 rfl rfl)
theorem dX0_dries_27 : decode cX0_dries 27 = .ok (.iload_n 1, 1) := dk_27 (dk_at dksX0_dries_1 3 rfl rfl)
theorem dX0_dries_28 : decode cX0_dries 28 = .ok (.iaload, 1) := dk_46 (dk_at dksX0_dries_1 4 rfl rfl)
theorem dX0_dries_29 : decode cX0_dries 29 = .ok (.invokevirtual 182, 3) := dk_182 0 182 (dk_at dksX0_dries_1 5 rfl rfl)
theorem dX0_dries_32 : decode cX0_dries 32 = .ok (.goto 4, 3) := dk_167 0 4 (dk_at dksX0_dries_1 8 rfl rfl)
theorem dX0_dries_35 : decode cX0_dries 35 = .ok (.iconst (-1), 1) := dk_2 (dk_at dksX0_dries_1 11 rfl rfl)
theorem dX0_dries_36 : decode cX0_dries 36 = .ok (.ireturn, 1) := dk_172 (dk_at dksX0_dries_1 12 rfl rfl)
abbrev cX0_goes : ByteArray := prog_1_method_26_code
def yX0_goes : MethodName := ⟨RX0, "goes", "(I)I"⟩
def dkwX0_goes_2 : List UInt8 := [132, 2, 1, 167, 255, 222, 42, 180, 0, 22, 180, 0, 238, 180, 0, 155, 172]
abbrev dktX0_goes_2 : List UInt8 := dkwX0_goes_2 ++ []
def dkwX0_goes_1 : List UInt8 := [180, 0, 238, 180, 0, 155, 16, 24, 162, 0, 20, 42, 42, 180, 0, 22, 180, 0, 238, 182, 1, 6]
abbrev dktX0_goes_1 : List UInt8 := dkwX0_goes_1 ++ dktX0_goes_2
def dkwX0_goes_0 : List UInt8 := [27, 3, 16, 24, 184, 0, 143, 154, 0, 5, 2, 172, 3, 61, 28, 27, 162, 0, 35, 42, 180, 0, 22]
abbrev dktX0_goes_0 : List UInt8 := dkwX0_goes_0 ++ dktX0_goes_1
theorem dksX0_goes_0 : cX0_goes.data.toList.drop 0 = dktX0_goes_0 := by decide +kernel
theorem dksX0_goes_1 : cX0_goes.data.toList.drop 23 = dktX0_goes_1 := dk_seg dksX0_goes_0 23 rfl rfl
theorem dksX0_goes_2 : cX0_goes.data.toList.drop 45 = dktX0_goes_2 := dk_seg dksX0_goes_1 22 rfl rfl
theorem dX0_goes_0 : decode cX0_goes 0 = .ok (.iload_n 1, 1) := dk_27 (dk_at dksX0_goes_0 0 rfl rfl)
theorem dX0_goes_1 : decode cX0_goes 1 = .ok (.iconst 0, 1) := dk_3 (dk_at dksX0_goes_0 1 rfl rfl)
theorem dX0_goes_2 : decode cX0_goes 2 = .ok (.bipush 24, 2) := dk_16 24 (dk_at dksX0_goes_0 2 rfl rfl)
theorem dX0_goes_4 : decode cX0_goes 4 = .ok (.invokestatic 143, 3) := dk_184 0 143 (dk_at dksX0_goes_0 4 rfl rfl)
theorem dX0_goes_7 : decode cX0_goes 7 = .ok (.ifCond .ne 5, 3) := dk_154 0 5 (dk_at dksX0_goes_0 7 rfl rfl)
theorem dX0_goes_10 : decode cX0_goes 10 = .ok (.iconst (-1), 1) := dk_2 (dk_at dksX0_goes_0 10 rfl rfl)
theorem dX0_goes_11 : decode cX0_goes 11 = .ok (.ireturn, 1) := dk_172 (dk_at dksX0_goes_0 11 rfl rfl)
theorem dX0_goes_12 : decode cX0_goes 12 = .ok (.iconst 0, 1) := dk_3 (dk_at dksX0_goes_0 12 rfl rfl)
theorem dX0_goes_13 : decode cX0_goes 13 = .ok (.istore_n 2, 1) := dk_61 (dk_at dksX0_goes_0 13 rfl rfl)
theorem dX0_goes_14 : decode cX0_goes 14 = .ok (.iload_n 2, 1) := dk_28 (dk_at dksX0_goes_0 14 rfl rfl)
theorem dX0_goes_15 : decode cX0_goes 15 = .ok (.iload_n 1, 1) := dk_27 (dk_at dksX0_goes_0 15 rfl rfl)
theorem dX0_goes_16 : decode cX0_goes 16 = .ok (.if_icmp .ge 35, 3) := dk_162 0 35 (dk_at dksX0_goes_0 16 rfl rfl)
theorem dX0_goes_19 : decode cX0_goes 19 = .ok (.aload_n 0, 1) := dk_42 (dk_at dksX0_goes_0 19 rfl rfl)
theorem dX0_goes_20 : decode cX0_goes 20 = .ok (.getfield 22, 3) := dk_180 0 22 (dk_at dksX0_goes_0 20 rfl rfl)
theorem dX0_goes_23 : decode cX0_goes 23 = .ok (.getfield 238, 3) := dk_180 0 238 (dk_at dksX0_goes_1 0 rfl rfl)
theorem dX0_goes_26 : decode cX0_goes 26 = .ok (.getfield 155, 3) := dk_180 0 155 (dk_at dksX0_goes_1 3 rfl rfl)
theorem dX0_goes_29 : decode cX0_goes 29 = .ok (.bipush 24, 2) := dk_16 24 (dk_at dksX0_goes_1 6 rfl rfl)
theorem dX0_goes_31 : decode cX0_goes 31 = .ok (.if_icmp .ge 20, 3) := dk_162 0 20 (dk_at dksX0_goes_1 8 rfl rfl)
theorem dX0_goes_34 : decode cX0_goes 34 = .ok (.aload_n 0, 1) := dk_42 (dk_at dksX0_goes_1 11 rfl rfl)
theorem dX0_goes_35 : decode cX0_goes 35 = .ok (.aload_n 0, 1) := dk_42 (dk_at dksX0_goes_1 12 rfl rfl)
theorem dX0_goes_36 : decode cX0_goes 36 = .ok (.getfield 22, 3) := dk_180 0 22 (dk_at dksX0_goes_1 13 rfl rfl)
theorem dX0_goes_39 : decode cX0_goes 39 = .ok (.getfield 238, 3) := dk_180 0 238 (dk_at dksX0_goes_1 16 rfl rfl)
theorem dX0_goes_42 : decode cX0_goes 42 = .ok (.invokevirtual 262, 3) := dk_182 1 6 (dk_at dksX0_goes_1 19 rfl rfl)
theorem dX0_goes_45 : decode cX0_goes 45 = .ok (.iinc 2 1, 3) := dk_132 2 1 (dk_at dksX0_goes_2 0 rfl rfl)
theorem dX0_goes_48 : decode cX0_goes 48 = .ok (.goto (-34), 3) := dk_167 255 222 (dk_at dksX0_goes_2 3 rfl rfl)
theorem dX0_goes_51 : decode cX0_goes 51 = .ok (.aload_n 0, 1) := dk_42 (dk_at dksX0_goes_2 6 rfl rfl)
theorem dX0_goes_52 : decode cX0_goes 52 = .ok (.getfield 22, 3) := dk_180 0 22 (dk_at dksX0_goes_2 7 rfl rfl)
theorem dX0_goes_55 : decode cX0_goes 55 = .ok (.getfield 238, 3) := dk_180 0 238 (dk_at dksX0_goes_2 10 rfl rfl)
theorem dX0_goes_58 : decode cX0_goes 58 = .ok (.getfield 155, 3) := dk_180 0 155 (dk_at dksX0_goes_2 13 rfl rfl)
theorem dX0_goes_61 : decode cX0_goes 61 = .ok (.ireturn, 1) := dk_172 (dk_at dksX0_goes_2 16 rfl rfl)
abbrev cX0_passes : ByteArray := prog_1_method_9_code
def yX0_passes : MethodName := ⟨RX0, "passes", "(LColdBox$Body;)V"⟩
def dkwX0_passes_4 : List UInt8 := [184, 0, 196, 181, 0, 189, 43, 89, 180, 0, 155, 4, 96, 181, 0, 155, 177]
abbrev dktX0_passes_4 : List UInt8 := dkwX0_passes_4 ++ []
def dkwX0_passes_3 : List UInt8 := [181, 0, 176, 43, 3, 29, 184, 0, 186, 181, 0, 166, 43, 16, 9, 43, 180, 0, 189, 44, 182, 0, 192, 96]
abbrev dktX0_passes_3 : List UInt8 := dkwX0_passes_3 ++ dktX0_passes_4
def dkwX0_passes_2 : List UInt8 := [43, 180, 0, 176, 44, 42, 180, 0, 22, 180, 0, 179, 43, 180, 0, 155, 46, 182, 0, 182, 100, 184, 0, 186]
abbrev dktX0_passes_2 : List UInt8 := dkwX0_passes_2 ++ dktX0_passes_3
def dkwX0_passes_1 : List UInt8 := [44, 43, 42, 180, 0, 22, 43, 180, 0, 155, 43, 180, 0, 159, 182, 0, 169, 182, 0, 172, 100, 62, 43, 3]
abbrev dktX0_passes_1 : List UInt8 := dkwX0_passes_1 ++ dktX0_passes_2
def dkwX0_passes_0 : List UInt8 := [43, 182, 0, 151, 153, 0, 98, 42, 43, 180, 0, 155, 43, 180, 0, 159, 182, 0, 162, 77, 43, 180, 0, 166]
abbrev dktX0_passes_0 : List UInt8 := dkwX0_passes_0 ++ dktX0_passes_1
theorem dksX0_passes_0 : cX0_passes.data.toList.drop 0 = dktX0_passes_0 := by decide +kernel
theorem dksX0_passes_1 : cX0_passes.data.toList.drop 24 = dktX0_passes_1 := dk_seg dksX0_passes_0 24 rfl rfl
theorem dksX0_passes_2 : cX0_passes.data.toList.drop 48 = dktX0_passes_2 := dk_seg dksX0_passes_1 24 rfl rfl
theorem dksX0_passes_3 : cX0_passes.data.toList.drop 72 = dktX0_passes_3 := dk_seg dksX0_passes_2 24 rfl rfl
theorem dksX0_passes_4 : cX0_passes.data.toList.drop 96 = dktX0_passes_4 := dk_seg dksX0_passes_3 24 rfl rfl
theorem dX0_passes_0 : decode cX0_passes 0 = .ok (.aload_n 1, 1) := dk_43 (dk_at dksX0_passes_0 0 rfl rfl)
theorem dX0_passes_1 : decode cX0_passes 1 = .ok (.invokevirtual 151, 3) := dk_182 0 151 (dk_at dksX0_passes_0 1 rfl rfl)
theorem dX0_passes_4 : decode cX0_passes 4 = .ok (.ifCond .eq 98, 3) := dk_153 0 98 (dk_at dksX0_passes_0 4 rfl rfl)
theorem dX0_passes_7 : decode cX0_passes 7 = .ok (.aload_n 0, 1) := dk_42 (dk_at dksX0_passes_0 7 rfl rfl)
theorem dX0_passes_8 : decode cX0_passes 8 = .ok (.aload_n 1, 1) := dk_43 (dk_at dksX0_passes_0 8 rfl rfl)
theorem dX0_passes_9 : decode cX0_passes 9 = .ok (.getfield 155, 3) := dk_180 0 155 (dk_at dksX0_passes_0 9 rfl rfl)
theorem dX0_passes_12 : decode cX0_passes 12 = .ok (.aload_n 1, 1) := dk_43 (dk_at dksX0_passes_0 12 rfl rfl)
theorem dX0_passes_13 : decode cX0_passes 13 = .ok (.getfield 159, 3) := dk_180 0 159 (dk_at dksX0_passes_0 13 rfl rfl)
theorem dX0_passes_16 : decode cX0_passes 16 = .ok (.invokevirtual 162, 3) := dk_182 0 162 (dk_at dksX0_passes_0 16 rfl rfl)
theorem dX0_passes_19 : decode cX0_passes 19 = .ok (.astore_n 2, 1) := dk_77 (dk_at dksX0_passes_0 19 rfl rfl)
theorem dX0_passes_20 : decode cX0_passes 20 = .ok (.aload_n 1, 1) := dk_43 (dk_at dksX0_passes_0 20 rfl rfl)
theorem dX0_passes_21 : decode cX0_passes 21 = .ok (.getfield 166, 3) := dk_180 0 166 (dk_at dksX0_passes_0 21 rfl rfl)
theorem dX0_passes_24 : decode cX0_passes 24 = .ok (.aload_n 2, 1) := dk_44 (dk_at dksX0_passes_1 0 rfl rfl)
theorem dX0_passes_25 : decode cX0_passes 25 = .ok (.aload_n 1, 1) := dk_43 (dk_at dksX0_passes_1 1 rfl rfl)
theorem dX0_passes_26 : decode cX0_passes 26 = .ok (.aload_n 0, 1) := dk_42 (dk_at dksX0_passes_1 2 rfl rfl)
theorem dX0_passes_27 : decode cX0_passes 27 = .ok (.getfield 22, 3) := dk_180 0 22 (dk_at dksX0_passes_1 3 rfl rfl)
theorem dX0_passes_30 : decode cX0_passes 30 = .ok (.aload_n 1, 1) := dk_43 (dk_at dksX0_passes_1 6 rfl rfl)
theorem dX0_passes_31 : decode cX0_passes 31 = .ok (.getfield 155, 3) := dk_180 0 155 (dk_at dksX0_passes_1 7 rfl rfl)
theorem dX0_passes_34 : decode cX0_passes 34 = .ok (.aload_n 1, 1) := dk_43 (dk_at dksX0_passes_1 10 rfl rfl)
theorem dX0_passes_35 : decode cX0_passes 35 = .ok (.getfield 159, 3) := dk_180 0 159 (dk_at dksX0_passes_1 11 rfl rfl)
theorem dX0_passes_38 : decode cX0_passes 38 = .ok (.invokevirtual 169, 3) := dk_182 0 169 (dk_at dksX0_passes_1 14 rfl rfl)
theorem dX0_passes_41 : decode cX0_passes 41 = .ok (.invokevirtual 172, 3) := dk_182 0 172 (dk_at dksX0_passes_1 17 rfl rfl)
theorem dX0_passes_44 : decode cX0_passes 44 = .ok (.isub, 1) := dk_100 (dk_at dksX0_passes_1 20 rfl rfl)
theorem dX0_passes_45 : decode cX0_passes 45 = .ok (.istore_n 3, 1) := dk_62 (dk_at dksX0_passes_1 21 rfl rfl)
theorem dX0_passes_46 : decode cX0_passes 46 = .ok (.aload_n 1, 1) := dk_43 (dk_at dksX0_passes_1 22 rfl rfl)
theorem dX0_passes_47 : decode cX0_passes 47 = .ok (.iconst 0, 1) := dk_3 (dk_at dksX0_passes_1 23 rfl rfl)
theorem dX0_passes_48 : decode cX0_passes 48 = .ok (.aload_n 1, 1) := dk_43 (dk_at dksX0_passes_2 0 rfl rfl)
theorem dX0_passes_49 : decode cX0_passes 49 = .ok (.getfield 176, 3) := dk_180 0 176 (dk_at dksX0_passes_2 1 rfl rfl)
theorem dX0_passes_52 : decode cX0_passes 52 = .ok (.aload_n 2, 1) := dk_44 (dk_at dksX0_passes_2 4 rfl rfl)
theorem dX0_passes_53 : decode cX0_passes 53 = .ok (.aload_n 0, 1) := dk_42 (dk_at dksX0_passes_2 5 rfl rfl)
theorem dX0_passes_54 : decode cX0_passes 54 = .ok (.getfield 22, 3) := dk_180 0 22 (dk_at dksX0_passes_2 6 rfl rfl)
theorem dX0_passes_57 : decode cX0_passes 57 = .ok (.getfield 179, 3) := dk_180 0 179 (dk_at dksX0_passes_2 9 rfl rfl)
theorem dX0_passes_60 : decode cX0_passes 60 = .ok (.aload_n 1, 1) := dk_43 (dk_at dksX0_passes_2 12 rfl rfl)
theorem dX0_passes_61 : decode cX0_passes 61 = .ok (.getfield 155, 3) := dk_180 0 155 (dk_at dksX0_passes_2 13 rfl rfl)
theorem dX0_passes_64 : decode cX0_passes 64 = .ok (.iaload, 1) := dk_46 (dk_at dksX0_passes_2 16 rfl rfl)
theorem dX0_passes_65 : decode cX0_passes 65 = .ok (.invokevirtual 182, 3) := dk_182 0 182 (dk_at dksX0_passes_2 17 rfl rfl)
theorem dX0_passes_68 : decode cX0_passes 68 = .ok (.isub, 1) := dk_100 (dk_at dksX0_passes_2 20 rfl rfl)
theorem dX0_passes_69 : decode cX0_passes 69 = .ok (.invokestatic 186, 3) := dk_184 0 186 (dk_at dksX0_passes_2 21 rfl rfl)
theorem dX0_passes_72 : decode cX0_passes 72 = .ok (.putfield 176, 3) := dk_181 0 176 (dk_at dksX0_passes_3 0 rfl rfl)
theorem dX0_passes_75 : decode cX0_passes 75 = .ok (.aload_n 1, 1) := dk_43 (dk_at dksX0_passes_3 3 rfl rfl)
theorem dX0_passes_76 : decode cX0_passes 76 = .ok (.iconst 0, 1) := dk_3 (dk_at dksX0_passes_3 4 rfl rfl)
theorem dX0_passes_77 : decode cX0_passes 77 = .ok (.iload_n 3, 1) := dk_29 (dk_at dksX0_passes_3 5 rfl rfl)
theorem dX0_passes_78 : decode cX0_passes 78 = .ok (.invokestatic 186, 3) := dk_184 0 186 (dk_at dksX0_passes_3 6 rfl rfl)
theorem dX0_passes_81 : decode cX0_passes 81 = .ok (.putfield 166, 3) := dk_181 0 166 (dk_at dksX0_passes_3 9 rfl rfl)
theorem dX0_passes_84 : decode cX0_passes 84 = .ok (.aload_n 1, 1) := dk_43 (dk_at dksX0_passes_3 12 rfl rfl)
theorem dX0_passes_85 : decode cX0_passes 85 = .ok (.bipush 9, 2) := dk_16 9 (dk_at dksX0_passes_3 13 rfl rfl)
theorem dX0_passes_87 : decode cX0_passes 87 = .ok (.aload_n 1, 1) := dk_43 (dk_at dksX0_passes_3 15 rfl rfl)
theorem dX0_passes_88 : decode cX0_passes 88 = .ok (.getfield 189, 3) := dk_180 0 189 (dk_at dksX0_passes_3 16 rfl rfl)
theorem dX0_passes_91 : decode cX0_passes 91 = .ok (.aload_n 2, 1) := dk_44 (dk_at dksX0_passes_3 19 rfl rfl)
theorem dX0_passes_92 : decode cX0_passes 92 = .ok (.invokevirtual 192, 3) := dk_182 0 192 (dk_at dksX0_passes_3 20 rfl rfl)
theorem dX0_passes_95 : decode cX0_passes 95 = .ok (.iadd, 1) := dk_96 (dk_at dksX0_passes_3 23 rfl rfl)
theorem dX0_passes_96 : decode cX0_passes 96 = .ok (.invokestatic 196, 3) := dk_184 0 196 (dk_at dksX0_passes_4 0 rfl rfl)
theorem dX0_passes_99 : decode cX0_passes 99 = .ok (.putfield 189, 3) := dk_181 0 189 (dk_at dksX0_passes_4 3 rfl rfl)
theorem dX0_passes_102 : decode cX0_passes 102 = .ok (.aload_n 1, 1) := dk_43 (dk_at dksX0_passes_4 6 rfl rfl)
theorem dX0_passes_103 : decode cX0_passes 103 = .ok (.dup, 1) := dk_89 (dk_at dksX0_passes_4 7 rfl rfl)
theorem dX0_passes_104 : decode cX0_passes 104 = .ok (.getfield 155, 3) := dk_180 0 155 (dk_at dksX0_passes_4 8 rfl rfl)
theorem dX0_passes_107 : decode cX0_passes 107 = .ok (.iconst 1, 1) := dk_4 (dk_at dksX0_passes_4 11 rfl rfl)
theorem dX0_passes_108 : decode cX0_passes 108 = .ok (.iadd, 1) := dk_96 (dk_at dksX0_passes_4 12 rfl rfl)
theorem dX0_passes_109 : decode cX0_passes 109 = .ok (.putfield 155, 3) := dk_181 0 155 (dk_at dksX0_passes_4 13 rfl rfl)
theorem dX0_passes_112 : decode cX0_passes 112 = .ok (.return_, 1) := dk_177 (dk_at dksX0_passes_4 16 rfl rfl)
abbrev cX0_begin : ByteArray := prog_1_method_27_code
def yX0_begin : MethodName := ⟨RX0, "begin", "(I)I"⟩
def dkwX0_begin_1 : List UInt8 := [180, 0, 22, 180, 0, 238, 27, 181, 0, 155, 28, 172]
abbrev dktX0_begin_1 : List UInt8 := dkwX0_begin_1 ++ []
def dkwX0_begin_0 : List UInt8 := [27, 3, 16, 24, 184, 0, 143, 154, 0, 5, 2, 172, 42, 180, 0, 22, 180, 0, 238, 180, 0, 155, 61, 42]
abbrev dktX0_begin_0 : List UInt8 := dkwX0_begin_0 ++ dktX0_begin_1
theorem dksX0_begin_0 : cX0_begin.data.toList.drop 0 = dktX0_begin_0 := by decide +kernel
theorem dksX0_begin_1 : cX0_begin.data.toList.drop 24 = dktX0_begin_1 := dk_seg dksX0_begin_0 24 rfl rfl
theorem dX0_begin_0 : decode cX0_begin 0 = .ok (.iload_n 1, 1) := dk_27 (dk_at dksX0_begin_0 0 rfl rfl)
theorem dX0_begin_1 : decode cX0_begin 1 = .ok (.iconst 0, 1) := dk_3 (dk_at dksX0_begin_0 1 rfl rfl)
theorem dX0_begin_2 : decode cX0_begin 2 = .ok (.bipush 24, 2) := dk_16 24 (dk_at dksX0_begin_0 2 rfl rfl)
theorem dX0_begin_4 : decode cX0_begin 4 = .ok (.invokestatic 143, 3) := dk_184 0 143 (dk_at dksX0_begin_0 4 rfl rfl)
theorem dX0_begin_7 : decode cX0_begin 7 = .ok (.ifCond .ne 5, 3) := dk_154 0 5 (dk_at dksX0_begin_0 7 rfl rfl)
theorem dX0_begin_10 : decode cX0_begin 10 = .ok (.iconst (-1), 1) := dk_2 (dk_at dksX0_begin_0 10 rfl rfl)
theorem dX0_begin_11 : decode cX0_begin 11 = .ok (.ireturn, 1) := dk_172 (dk_at dksX0_begin_0 11 rfl rfl)
theorem dX0_begin_12 : decode cX0_begin 12 = .ok (.aload_n 0, 1) := dk_42 (dk_at dksX0_begin_0 12 rfl rfl)
theorem dX0_begin_13 : decode cX0_begin 13 = .ok (.getfield 22, 3) := dk_180 0 22 (dk_at dksX0_begin_0 13 rfl rfl)
theorem dX0_begin_16 : decode cX0_begin 16 = .ok (.getfield 238, 3) := dk_180 0 238 (dk_at dksX0_begin_0 16 rfl rfl)
theorem dX0_begin_19 : decode cX0_begin 19 = .ok (.getfield 155, 3) := dk_180 0 155 (dk_at dksX0_begin_0 19 rfl rfl)
theorem dX0_begin_22 : decode cX0_begin 22 = .ok (.istore_n 2, 1) := dk_61 (dk_at dksX0_begin_0 22 rfl rfl)
theorem dX0_begin_23 : decode cX0_begin 23 = .ok (.aload_n 0, 1) := dk_42 (dk_at dksX0_begin_0 23 rfl rfl)
theorem dX0_begin_24 : decode cX0_begin 24 = .ok (.getfield 22, 3) := dk_180 0 22 (dk_at dksX0_begin_1 0 rfl rfl)
theorem dX0_begin_27 : decode cX0_begin 27 = .ok (.getfield 238, 3) := dk_180 0 238 (dk_at dksX0_begin_1 3 rfl rfl)
theorem dX0_begin_30 : decode cX0_begin 30 = .ok (.iload_n 1, 1) := dk_27 (dk_at dksX0_begin_1 6 rfl rfl)
theorem dX0_begin_31 : decode cX0_begin 31 = .ok (.putfield 155, 3) := dk_181 0 155 (dk_at dksX0_begin_1 7 rfl rfl)
theorem dX0_begin_34 : decode cX0_begin 34 = .ok (.iload_n 2, 1) := dk_28 (dk_at dksX0_begin_1 10 rfl rfl)
theorem dX0_begin_35 : decode cX0_begin 35 = .ok (.ireturn, 1) := dk_172 (dk_at dksX0_begin_1 11 rfl rfl)
abbrev cX0_says : ByteArray := prog_1_method_30_code
def yX0_says : MethodName := ⟨RX0, "says", "()I"⟩
def dkwX0_says_1 : List UInt8 := [156, 0, 8, 16, 247, 167, 0, 4, 27, 172]
abbrev dktX0_says_1 : List UInt8 := dkwX0_says_1 ++ []
def dkwX0_says_0 : List UInt8 := [42, 42, 180, 0, 22, 180, 0, 238, 42, 180, 0, 22, 180, 0, 238, 182, 1, 0, 182, 1, 23, 60, 27]
abbrev dktX0_says_0 : List UInt8 := dkwX0_says_0 ++ dktX0_says_1
theorem dksX0_says_0 : cX0_says.data.toList.drop 0 = dktX0_says_0 := by decide +kernel
theorem dksX0_says_1 : cX0_says.data.toList.drop 23 = dktX0_says_1 := dk_seg dksX0_says_0 23 rfl rfl
theorem dX0_says_0 : decode cX0_says 0 = .ok (.aload_n 0, 1) := dk_42 (dk_at dksX0_says_0 0 rfl rfl)
theorem dX0_says_1 : decode cX0_says 1 = .ok (.aload_n 0, 1) := dk_42 (dk_at dksX0_says_0 1 rfl rfl)
theorem dX0_says_2 : decode cX0_says 2 = .ok (.getfield 22, 3) := dk_180 0 22 (dk_at dksX0_says_0 2 rfl rfl)
theorem dX0_says_5 : decode cX0_says 5 = .ok (.getfield 238, 3) := dk_180 0 238 (dk_at dksX0_says_0 5 rfl rfl)
theorem dX0_says_8 : decode cX0_says 8 = .ok (.aload_n 0, 1) := dk_42 (dk_at dksX0_says_0 8 rfl rfl)
theorem dX0_says_9 : decode cX0_says 9 = .ok (.getfield 22, 3) := dk_180 0 22 (dk_at dksX0_says_0 9 rfl rfl)
theorem dX0_says_12 : decode cX0_says 12 = .ok (.getfield 238, 3) := dk_180 0 238 (dk_at dksX0_says_0 12 rfl rfl)
theorem dX0_says_15 : decode cX0_says 15 = .ok (.invokevirtual 256, 3) := dk_182 1 0 (dk_at dksX0_says_0 15 rfl rfl)
theorem dX0_says_18 : decode cX0_says 18 = .ok (.invokevirtual 279, 3) := dk_182 1 23 (dk_at dksX0_says_0 18 rfl rfl)
theorem dX0_says_21 : decode cX0_says 21 = .ok (.istore_n 1, 1) := dk_60 (dk_at dksX0_says_0 21 rfl rfl)
theorem dX0_says_22 : decode cX0_says 22 = .ok (.iload_n 1, 1) := dk_27 (dk_at dksX0_says_0 22 rfl rfl)
theorem dX0_says_23 : decode cX0_says 23 = .ok (.ifCond .ge 8, 3) := dk_156 0 8 (dk_at dksX0_says_1 0 rfl rfl)
theorem dX0_says_26 : decode cX0_says 26 = .ok (.bipush (-9), 2) := dk_16 247 (dk_at dksX0_says_1 3 rfl rfl)
theorem dX0_says_28 : decode cX0_says 28 = .ok (.goto 4, 3) := dk_167 0 4 (dk_at dksX0_says_1 5 rfl rfl)
theorem dX0_says_31 : decode cX0_says 31 = .ok (.iload_n 1, 1) := dk_27 (dk_at dksX0_says_1 8 rfl rfl)
theorem dX0_says_32 : decode cX0_says 32 = .ok (.ireturn, 1) := dk_172 (dk_at dksX0_says_1 9 rfl rfl)
abbrev cX0_clauseOf : ByteArray := prog_1_method_29_code
def yX0_clauseOf : MethodName := ⟨RX0, "clauseOf", "(LColdBox$Body;I)I"⟩
def dkwX0_clauseOf_6 : List UInt8 := [167, 0, 4, 2, 172]
abbrev dktX0_clauseOf_6 : List UInt8 := dkwX0_clauseOf_6 ++ []
def dkwX0_clauseOf_5 : List UInt8 := [182, 1, 17, 154, 0, 9, 132, 3, 1, 167, 255, 223, 29, 42, 180, 0, 22, 180, 0, 212, 162, 0, 7, 29]
abbrev dktX0_clauseOf_5 : List UInt8 := dkwX0_clauseOf_5 ++ dktX0_clauseOf_6
def dkwX0_clauseOf_4 : List UInt8 := [180, 0, 22, 180, 0, 212, 162, 0, 28, 42, 180, 0, 22, 180, 1, 13, 29, 50, 42, 180, 0, 81]
abbrev dktX0_clauseOf_4 : List UInt8 := dkwX0_clauseOf_4 ++ dktX0_clauseOf_5
def dkwX0_clauseOf_3 : List UInt8 := [180, 0, 22, 180, 0, 220, 43, 180, 0, 155, 46, 184, 0, 186, 167, 0, 4, 3, 79, 3, 62, 29, 42]
abbrev dktX0_clauseOf_3 : List UInt8 := dkwX0_clauseOf_3 ++ dktX0_clauseOf_4
def dkwX0_clauseOf_2 : List UInt8 := [7, 43, 180, 0, 189, 79, 42, 180, 0, 81, 8, 43, 180, 0, 155, 16, 24, 162, 0, 22, 3, 42]
abbrev dktX0_clauseOf_2 : List UInt8 := dkwX0_clauseOf_2 ++ dktX0_clauseOf_3
def dkwX0_clauseOf_1 : List UInt8 := [42, 180, 0, 81, 5, 43, 180, 0, 166, 79, 42, 180, 0, 81, 6, 43, 180, 0, 176, 79, 42, 180, 0, 81]
abbrev dktX0_clauseOf_1 : List UInt8 := dkwX0_clauseOf_1 ++ dktX0_clauseOf_2
def dkwX0_clauseOf_0 : List UInt8 := [42, 180, 0, 81, 3, 43, 180, 0, 155, 79, 42, 180, 0, 81, 4, 28, 43, 182, 1, 0, 184, 1, 10, 79]
abbrev dktX0_clauseOf_0 : List UInt8 := dkwX0_clauseOf_0 ++ dktX0_clauseOf_1
theorem dksX0_clauseOf_0 : cX0_clauseOf.data.toList.drop 0 = dktX0_clauseOf_0 := by decide +kernel
theorem dksX0_clauseOf_1 : cX0_clauseOf.data.toList.drop 24 = dktX0_clauseOf_1 := dk_seg dksX0_clauseOf_0 24 rfl rfl
theorem dksX0_clauseOf_2 : cX0_clauseOf.data.toList.drop 48 = dktX0_clauseOf_2 := dk_seg dksX0_clauseOf_1 24 rfl rfl
theorem dksX0_clauseOf_3 : cX0_clauseOf.data.toList.drop 70 = dktX0_clauseOf_3 := dk_seg dksX0_clauseOf_2 22 rfl rfl
theorem dksX0_clauseOf_4 : cX0_clauseOf.data.toList.drop 93 = dktX0_clauseOf_4 := dk_seg dksX0_clauseOf_3 23 rfl rfl
theorem dksX0_clauseOf_5 : cX0_clauseOf.data.toList.drop 115 = dktX0_clauseOf_5 := dk_seg dksX0_clauseOf_4 22 rfl rfl
theorem dksX0_clauseOf_6 : cX0_clauseOf.data.toList.drop 139 = dktX0_clauseOf_6 := dk_seg dksX0_clauseOf_5 24 rfl rfl
theorem dX0_clauseOf_0 : decode cX0_clauseOf 0 = .ok (.aload_n 0, 1) := dk_42 (dk_at dksX0_clauseOf_0 0 rfl rfl)
theorem dX0_clauseOf_1 : decode cX0_clauseOf 1 = .ok (.getfield 81, 3) := dk_180 0 81 (dk_at dksX0_clauseOf_0 1 rfl rfl)
theorem dX0_clauseOf_4 : decode cX0_clauseOf 4 = .ok (.iconst 0, 1) := dk_3 (dk_at dksX0_clauseOf_0 4 rfl rfl)
theorem dX0_clauseOf_5 : decode cX0_clauseOf 5 = .ok (.aload_n 1, 1) := dk_43 (dk_at dksX0_clauseOf_0 5 rfl rfl)
theorem dX0_clauseOf_6 : decode cX0_clauseOf 6 = .ok (.getfield 155, 3) := dk_180 0 155 (dk_at dksX0_clauseOf_0 6 rfl rfl)
theorem dX0_clauseOf_9 : decode cX0_clauseOf 9 = .ok (.iastore, 1) := dk_79 (dk_at dksX0_clauseOf_0 9 rfl rfl)
theorem dX0_clauseOf_10 : decode cX0_clauseOf 10 = .ok (.aload_n 0, 1) := dk_42 (dk_at dksX0_clauseOf_0 10 rfl rfl)
theorem dX0_clauseOf_11 : decode cX0_clauseOf 11 = .ok (.getfield 81, 3) := dk_180 0 81 (dk_at dksX0_clauseOf_0 11 rfl rfl)
theorem dX0_clauseOf_14 : decode cX0_clauseOf 14 = .ok (.iconst 1, 1) := dk_4 (dk_at dksX0_clauseOf_0 14 rfl rfl)
theorem dX0_clauseOf_15 : decode cX0_clauseOf 15 = .ok (.iload_n 2, 1) := dk_28 (dk_at dksX0_clauseOf_0 15 rfl rfl)
theorem dX0_clauseOf_16 : decode cX0_clauseOf 16 = .ok (.aload_n 1, 1) := dk_43 (dk_at dksX0_clauseOf_0 16 rfl rfl)
theorem dX0_clauseOf_17 : decode cX0_clauseOf 17 = .ok (.invokevirtual 256, 3) := dk_182 1 0 (dk_at dksX0_clauseOf_0 17 rfl rfl)
theorem dX0_clauseOf_20 : decode cX0_clauseOf 20 = .ok (.invokestatic 266, 3) := dk_184 1 10 (dk_at dksX0_clauseOf_0 20 rfl rfl)
theorem dX0_clauseOf_23 : decode cX0_clauseOf 23 = .ok (.iastore, 1) := dk_79 (dk_at dksX0_clauseOf_0 23 rfl rfl)
theorem dX0_clauseOf_24 : decode cX0_clauseOf 24 = .ok (.aload_n 0, 1) := dk_42 (dk_at dksX0_clauseOf_1 0 rfl rfl)
theorem dX0_clauseOf_25 : decode cX0_clauseOf 25 = .ok (.getfield 81, 3) := dk_180 0 81 (dk_at dksX0_clauseOf_1 1 rfl rfl)
theorem dX0_clauseOf_28 : decode cX0_clauseOf 28 = .ok (.iconst 2, 1) := dk_5 (dk_at dksX0_clauseOf_1 4 rfl rfl)
theorem dX0_clauseOf_29 : decode cX0_clauseOf 29 = .ok (.aload_n 1, 1) := dk_43 (dk_at dksX0_clauseOf_1 5 rfl rfl)
theorem dX0_clauseOf_30 : decode cX0_clauseOf 30 = .ok (.getfield 166, 3) := dk_180 0 166 (dk_at dksX0_clauseOf_1 6 rfl rfl)
theorem dX0_clauseOf_33 : decode cX0_clauseOf 33 = .ok (.iastore, 1) := dk_79 (dk_at dksX0_clauseOf_1 9 rfl rfl)
theorem dX0_clauseOf_34 : decode cX0_clauseOf 34 = .ok (.aload_n 0, 1) := dk_42 (dk_at dksX0_clauseOf_1 10 rfl rfl)
theorem dX0_clauseOf_35 : decode cX0_clauseOf 35 = .ok (.getfield 81, 3) := dk_180 0 81 (dk_at dksX0_clauseOf_1 11 rfl rfl)
theorem dX0_clauseOf_38 : decode cX0_clauseOf 38 = .ok (.iconst 3, 1) := dk_6 (dk_at dksX0_clauseOf_1 14 rfl rfl)
theorem dX0_clauseOf_39 : decode cX0_clauseOf 39 = .ok (.aload_n 1, 1) := dk_43 (dk_at dksX0_clauseOf_1 15 rfl rfl)
theorem dX0_clauseOf_40 : decode cX0_clauseOf 40 = .ok (.getfield 176, 3) := dk_180 0 176 (dk_at dksX0_clauseOf_1 16 rfl rfl)
theorem dX0_clauseOf_43 : decode cX0_clauseOf 43 = .ok (.iastore, 1) := dk_79 (dk_at dksX0_clauseOf_1 19 rfl rfl)
theorem dX0_clauseOf_44 : decode cX0_clauseOf 44 = .ok (.aload_n 0, 1) := dk_42 (dk_at dksX0_clauseOf_1 20 rfl rfl)
theorem dX0_clauseOf_45 : decode cX0_clauseOf 45 = .ok (.getfield 81, 3) := dk_180 0 81 (dk_at dksX0_clauseOf_1 21 rfl rfl)
theorem dX0_clauseOf_48 : decode cX0_clauseOf 48 = .ok (.iconst 4, 1) := dk_7 (dk_at dksX0_clauseOf_2 0 rfl rfl)
theorem dX0_clauseOf_49 : decode cX0_clauseOf 49 = .ok (.aload_n 1, 1) := dk_43 (dk_at dksX0_clauseOf_2 1 rfl rfl)
theorem dX0_clauseOf_50 : decode cX0_clauseOf 50 = .ok (.getfield 189, 3) := dk_180 0 189 (dk_at dksX0_clauseOf_2 2 rfl rfl)
theorem dX0_clauseOf_53 : decode cX0_clauseOf 53 = .ok (.iastore, 1) := dk_79 (dk_at dksX0_clauseOf_2 5 rfl rfl)
theorem dX0_clauseOf_54 : decode cX0_clauseOf 54 = .ok (.aload_n 0, 1) := dk_42 (dk_at dksX0_clauseOf_2 6 rfl rfl)
theorem dX0_clauseOf_55 : decode cX0_clauseOf 55 = .ok (.getfield 81, 3) := dk_180 0 81 (dk_at dksX0_clauseOf_2 7 rfl rfl)
theorem dX0_clauseOf_58 : decode cX0_clauseOf 58 = .ok (.iconst 5, 1) := dk_8 (dk_at dksX0_clauseOf_2 10 rfl rfl)
theorem dX0_clauseOf_59 : decode cX0_clauseOf 59 = .ok (.aload_n 1, 1) := dk_43 (dk_at dksX0_clauseOf_2 11 rfl rfl)
theorem dX0_clauseOf_60 : decode cX0_clauseOf 60 = .ok (.getfield 155, 3) := dk_180 0 155 (dk_at dksX0_clauseOf_2 12 rfl rfl)
theorem dX0_clauseOf_63 : decode cX0_clauseOf 63 = .ok (.bipush 24, 2) := dk_16 24 (dk_at dksX0_clauseOf_2 15 rfl rfl)
theorem dX0_clauseOf_65 : decode cX0_clauseOf 65 = .ok (.if_icmp .ge 22, 3) := dk_162 0 22 (dk_at dksX0_clauseOf_2 17 rfl rfl)
theorem dX0_clauseOf_68 : decode cX0_clauseOf 68 = .ok (.iconst 0, 1) := dk_3 (dk_at dksX0_clauseOf_2 20 rfl rfl)
theorem dX0_clauseOf_69 : decode cX0_clauseOf 69 = .ok (.aload_n 0, 1) := dk_42 (dk_at dksX0_clauseOf_2 21 rfl rfl)
theorem dX0_clauseOf_70 : decode cX0_clauseOf 70 = .ok (.getfield 22, 3) := dk_180 0 22 (dk_at dksX0_clauseOf_3 0 rfl rfl)
theorem dX0_clauseOf_73 : decode cX0_clauseOf 73 = .ok (.getfield 220, 3) := dk_180 0 220 (dk_at dksX0_clauseOf_3 3 rfl rfl)
theorem dX0_clauseOf_76 : decode cX0_clauseOf 76 = .ok (.aload_n 1, 1) := dk_43 (dk_at dksX0_clauseOf_3 6 rfl rfl)
theorem dX0_clauseOf_77 : decode cX0_clauseOf 77 = .ok (.getfield 155, 3) := dk_180 0 155 (dk_at dksX0_clauseOf_3 7 rfl rfl)
theorem dX0_clauseOf_80 : decode cX0_clauseOf 80 = .ok (.iaload, 1) := dk_46 (dk_at dksX0_clauseOf_3 10 rfl rfl)
theorem dX0_clauseOf_81 : decode cX0_clauseOf 81 = .ok (.invokestatic 186, 3) := dk_184 0 186 (dk_at dksX0_clauseOf_3 11 rfl rfl)
theorem dX0_clauseOf_84 : decode cX0_clauseOf 84 = .ok (.goto 4, 3) := dk_167 0 4 (dk_at dksX0_clauseOf_3 14 rfl rfl)
theorem dX0_clauseOf_87 : decode cX0_clauseOf 87 = .ok (.iconst 0, 1) := dk_3 (dk_at dksX0_clauseOf_3 17 rfl rfl)
theorem dX0_clauseOf_88 : decode cX0_clauseOf 88 = .ok (.iastore, 1) := dk_79 (dk_at dksX0_clauseOf_3 18 rfl rfl)
theorem dX0_clauseOf_89 : decode cX0_clauseOf 89 = .ok (.iconst 0, 1) := dk_3 (dk_at dksX0_clauseOf_3 19 rfl rfl)
theorem dX0_clauseOf_90 : decode cX0_clauseOf 90 = .ok (.istore_n 3, 1) := dk_62 (dk_at dksX0_clauseOf_3 20 rfl rfl)
theorem dX0_clauseOf_91 : decode cX0_clauseOf 91 = .ok (.iload_n 3, 1) := dk_29 (dk_at dksX0_clauseOf_3 21 rfl rfl)
theorem dX0_clauseOf_92 : decode cX0_clauseOf 92 = .ok (.aload_n 0, 1) := dk_42 (dk_at dksX0_clauseOf_3 22 rfl rfl)
theorem dX0_clauseOf_93 : decode cX0_clauseOf 93 = .ok (.getfield 22, 3) := dk_180 0 22 (dk_at dksX0_clauseOf_4 0 rfl rfl)
theorem dX0_clauseOf_96 : decode cX0_clauseOf 96 = .ok (.getfield 212, 3) := dk_180 0 212 (dk_at dksX0_clauseOf_4 3 rfl rfl)
theorem dX0_clauseOf_99 : decode cX0_clauseOf 99 = .ok (.if_icmp .ge 28, 3) := dk_162 0 28 (dk_at dksX0_clauseOf_4 6 rfl rfl)
theorem dX0_clauseOf_102 : decode cX0_clauseOf 102 = .ok (.aload_n 0, 1) := dk_42 (dk_at dksX0_clauseOf_4 9 rfl rfl)
theorem dX0_clauseOf_103 : decode cX0_clauseOf 103 = .ok (.getfield 22, 3) := dk_180 0 22 (dk_at dksX0_clauseOf_4 10 rfl rfl)
theorem dX0_clauseOf_106 : decode cX0_clauseOf 106 = .ok (.getfield 269, 3) := dk_180 1 13 (dk_at dksX0_clauseOf_4 13 rfl rfl)
theorem dX0_clauseOf_109 : decode cX0_clauseOf 109 = .ok (.iload_n 3, 1) := dk_29 (dk_at dksX0_clauseOf_4 16 rfl rfl)
theorem dX0_clauseOf_110 : decode cX0_clauseOf 110 = .ok (.aaload, 1) := dk_50 (dk_at dksX0_clauseOf_4 17 rfl rfl)
theorem dX0_clauseOf_111 : decode cX0_clauseOf 111 = .ok (.aload_n 0, 1) := dk_42 (dk_at dksX0_clauseOf_4 18 rfl rfl)
theorem dX0_clauseOf_112 : decode cX0_clauseOf 112 = .ok (.getfield 81, 3) := dk_180 0 81 (dk_at dksX0_clauseOf_4 19 rfl rfl)
theorem dX0_clauseOf_115 : decode cX0_clauseOf 115 = .ok (.invokevirtual 273, 3) := dk_182 1 17 (dk_at dksX0_clauseOf_5 0 rfl rfl)
theorem dX0_clauseOf_118 : decode cX0_clauseOf 118 = .ok (.ifCond .ne 9, 3) := dk_154 0 9 (dk_at dksX0_clauseOf_5 3 rfl rfl)
theorem dX0_clauseOf_121 : decode cX0_clauseOf 121 = .ok (.iinc 3 1, 3) := dk_132 3 1 (dk_at dksX0_clauseOf_5 6 rfl rfl)
theorem dX0_clauseOf_124 : decode cX0_clauseOf 124 = .ok (.goto (-33), 3) := dk_167 255 223 (dk_at dksX0_clauseOf_5 9 rfl rfl)
theorem dX0_clauseOf_127 : decode cX0_clauseOf 127 = .ok (.iload_n 3, 1) := dk_29 (dk_at dksX0_clauseOf_5 12 rfl rfl)
theorem dX0_clauseOf_128 : decode cX0_clauseOf 128 = .ok (.aload_n 0, 1) := dk_42 (dk_at dksX0_clauseOf_5 13 rfl rfl)
theorem dX0_clauseOf_129 : decode cX0_clauseOf 129 = .ok (.getfield 22, 3) := dk_180 0 22 (dk_at dksX0_clauseOf_5 14 rfl rfl)
theorem dX0_clauseOf_132 : decode cX0_clauseOf 132 = .ok (.getfield 212, 3) := dk_180 0 212 (dk_at dksX0_clauseOf_5 17 rfl rfl)
theorem dX0_clauseOf_135 : decode cX0_clauseOf 135 = .ok (.if_icmp .ge 7, 3) := dk_162 0 7 (dk_at dksX0_clauseOf_5 20 rfl rfl)
theorem dX0_clauseOf_138 : decode cX0_clauseOf 138 = .ok (.iload_n 3, 1) := dk_29 (dk_at dksX0_clauseOf_5 23 rfl rfl)
theorem dX0_clauseOf_139 : decode cX0_clauseOf 139 = .ok (.goto 4, 3) := dk_167 0 4 (dk_at dksX0_clauseOf_6 0 rfl rfl)
theorem dX0_clauseOf_142 : decode cX0_clauseOf 142 = .ok (.iconst (-1), 1) := dk_2 (dk_at dksX0_clauseOf_6 3 rfl rfl)
theorem dX0_clauseOf_143 : decode cX0_clauseOf 143 = .ok (.ireturn, 1) := dk_172 (dk_at dksX0_clauseOf_6 4 rfl rfl)
abbrev cX0_lossOf : ByteArray := prog_1_method_28_code
def yX0_lossOf : MethodName := ⟨RX0, "lossOf", "(II)I"⟩
def dkwX0_lossOf_0 : List UInt8 := [26, 27, 100, 17, 3, 232, 104, 26, 108, 172]
abbrev dktX0_lossOf_0 : List UInt8 := dkwX0_lossOf_0 ++ []
theorem dksX0_lossOf_0 : cX0_lossOf.data.toList.drop 0 = dktX0_lossOf_0 := by decide +kernel
theorem dX0_lossOf_0 : decode cX0_lossOf 0 = .ok (.iload_n 0, 1) := dk_26 (dk_at dksX0_lossOf_0 0 rfl rfl)
theorem dX0_lossOf_1 : decode cX0_lossOf 1 = .ok (.iload_n 1, 1) := dk_27 (dk_at dksX0_lossOf_0 1 rfl rfl)
theorem dX0_lossOf_2 : decode cX0_lossOf 2 = .ok (.isub, 1) := dk_100 (dk_at dksX0_lossOf_0 2 rfl rfl)
theorem dX0_lossOf_3 : decode cX0_lossOf 3 = .ok (.sipush 1000, 3) := dk_17 3 232 (dk_at dksX0_lossOf_0 3 rfl rfl)
theorem dX0_lossOf_6 : decode cX0_lossOf 6 = .ok (.imul, 1) := dk_104 (dk_at dksX0_lossOf_0 6 rfl rfl)
theorem dX0_lossOf_7 : decode cX0_lossOf 7 = .ok (.iload_n 0, 1) := dk_26 (dk_at dksX0_lossOf_0 7 rfl rfl)
theorem dX0_lossOf_8 : decode cX0_lossOf 8 = .ok (.idiv, 1) := dk_108 (dk_at dksX0_lossOf_0 8 rfl rfl)
theorem dX0_lossOf_9 : decode cX0_lossOf 9 = .ok (.ireturn, 1) := dk_172 (dk_at dksX0_lossOf_0 9 rfl rfl)
abbrev cX0_lie : ByteArray := prog_1_method_31_code
def yX0_lie : MethodName := ⟨RX0, "lie", "()I"⟩
def dkwX0_lie_1 : List UInt8 := [180, 1, 30, 167, 0, 5, 16, 253, 172]
abbrev dktX0_lie_1 : List UInt8 := dkwX0_lie_1 ++ []
def dkwX0_lie_0 : List UInt8 := [42, 180, 0, 88, 42, 180, 0, 22, 180, 0, 238, 182, 1, 26, 60, 27, 153, 0, 13, 42, 180, 0, 88]
abbrev dktX0_lie_0 : List UInt8 := dkwX0_lie_0 ++ dktX0_lie_1
theorem dksX0_lie_0 : cX0_lie.data.toList.drop 0 = dktX0_lie_0 := by decide +kernel
theorem dksX0_lie_1 : cX0_lie.data.toList.drop 23 = dktX0_lie_1 := dk_seg dksX0_lie_0 23 rfl rfl
theorem dX0_lie_0 : decode cX0_lie 0 = .ok (.aload_n 0, 1) := dk_42 (dk_at dksX0_lie_0 0 rfl rfl)
theorem dX0_lie_1 : decode cX0_lie 1 = .ok (.getfield 88, 3) := dk_180 0 88 (dk_at dksX0_lie_0 1 rfl rfl)
theorem dX0_lie_4 : decode cX0_lie 4 = .ok (.aload_n 0, 1) := dk_42 (dk_at dksX0_lie_0 4 rfl rfl)
theorem dX0_lie_5 : decode cX0_lie 5 = .ok (.getfield 22, 3) := dk_180 0 22 (dk_at dksX0_lie_0 5 rfl rfl)
theorem dX0_lie_8 : decode cX0_lie 8 = .ok (.getfield 238, 3) := dk_180 0 238 (dk_at dksX0_lie_0 8 rfl rfl)
theorem dX0_lie_11 : decode cX0_lie 11 = .ok (.invokevirtual 282, 3) := dk_182 1 26 (dk_at dksX0_lie_0 11 rfl rfl)
theorem dX0_lie_14 : decode cX0_lie 14 = .ok (.istore_n 1, 1) := dk_60 (dk_at dksX0_lie_0 14 rfl rfl)
theorem dX0_lie_15 : decode cX0_lie 15 = .ok (.iload_n 1, 1) := dk_27 (dk_at dksX0_lie_0 15 rfl rfl)
theorem dX0_lie_16 : decode cX0_lie 16 = .ok (.ifCond .eq 13, 3) := dk_153 0 13 (dk_at dksX0_lie_0 16 rfl rfl)
theorem dX0_lie_19 : decode cX0_lie 19 = .ok (.aload_n 0, 1) := dk_42 (dk_at dksX0_lie_0 19 rfl rfl)
theorem dX0_lie_20 : decode cX0_lie 20 = .ok (.getfield 88, 3) := dk_180 0 88 (dk_at dksX0_lie_0 20 rfl rfl)
theorem dX0_lie_23 : decode cX0_lie 23 = .ok (.getfield 286, 3) := dk_180 1 30 (dk_at dksX0_lie_1 0 rfl rfl)
theorem dX0_lie_26 : decode cX0_lie 26 = .ok (.goto 5, 3) := dk_167 0 5 (dk_at dksX0_lie_1 3 rfl rfl)
theorem dX0_lie_29 : decode cX0_lie 29 = .ok (.bipush (-3), 2) := dk_16 253 (dk_at dksX0_lie_1 6 rfl rfl)
theorem dX0_lie_31 : decode cX0_lie 31 = .ok (.ireturn, 1) := dk_172 (dk_at dksX0_lie_1 8 rfl rfl)
abbrev cX0_rowAt : ByteArray := prog_1_method_43_code
def yX0_rowAt : MethodName := ⟨RX0, "rowAt", "(I)LColdBox$Row;"⟩
def dkwX0_rowAt_1 : List UInt8 := [180, 0, 94, 27, 50, 176]
abbrev dktX0_rowAt_1 : List UInt8 := dkwX0_rowAt_1 ++ []
def dkwX0_rowAt_0 : List UInt8 := [42, 180, 0, 94, 27, 50, 199, 0, 16, 42, 180, 0, 94, 27, 187, 0, 92, 89, 183, 1, 61, 83, 42]
abbrev dktX0_rowAt_0 : List UInt8 := dkwX0_rowAt_0 ++ dktX0_rowAt_1
theorem dksX0_rowAt_0 : cX0_rowAt.data.toList.drop 0 = dktX0_rowAt_0 := by decide +kernel
theorem dksX0_rowAt_1 : cX0_rowAt.data.toList.drop 23 = dktX0_rowAt_1 := dk_seg dksX0_rowAt_0 23 rfl rfl
theorem dX0_rowAt_0 : decode cX0_rowAt 0 = .ok (.aload_n 0, 1) := dk_42 (dk_at dksX0_rowAt_0 0 rfl rfl)
theorem dX0_rowAt_1 : decode cX0_rowAt 1 = .ok (.getfield 94, 3) := dk_180 0 94 (dk_at dksX0_rowAt_0 1 rfl rfl)
theorem dX0_rowAt_4 : decode cX0_rowAt 4 = .ok (.iload_n 1, 1) := dk_27 (dk_at dksX0_rowAt_0 4 rfl rfl)
theorem dX0_rowAt_5 : decode cX0_rowAt 5 = .ok (.aaload, 1) := dk_50 (dk_at dksX0_rowAt_0 5 rfl rfl)
theorem dX0_rowAt_6 : decode cX0_rowAt 6 = .ok (.ifnonnull 16, 3) := dk_199 0 16 (dk_at dksX0_rowAt_0 6 rfl rfl)
theorem dX0_rowAt_9 : decode cX0_rowAt 9 = .ok (.aload_n 0, 1) := dk_42 (dk_at dksX0_rowAt_0 9 rfl rfl)
theorem dX0_rowAt_10 : decode cX0_rowAt 10 = .ok (.getfield 94, 3) := dk_180 0 94 (dk_at dksX0_rowAt_0 10 rfl rfl)
theorem dX0_rowAt_13 : decode cX0_rowAt 13 = .ok (.iload_n 1, 1) := dk_27 (dk_at dksX0_rowAt_0 13 rfl rfl)
theorem dX0_rowAt_14 : decode cX0_rowAt 14 = .ok (.new 92, 3) := dk_187 0 92 (dk_at dksX0_rowAt_0 14 rfl rfl)
theorem dX0_rowAt_17 : decode cX0_rowAt 17 = .ok (.dup, 1) := dk_89 (dk_at dksX0_rowAt_0 17 rfl rfl)
theorem dX0_rowAt_18 : decode cX0_rowAt 18 = .ok (.invokespecial 317, 3) := dk_183 1 61 (dk_at dksX0_rowAt_0 18 rfl rfl)
theorem dX0_rowAt_21 : decode cX0_rowAt 21 = .ok (.aastore, 1) := dk_83 (dk_at dksX0_rowAt_0 21 rfl rfl)
theorem dX0_rowAt_22 : decode cX0_rowAt 22 = .ok (.aload_n 0, 1) := dk_42 (dk_at dksX0_rowAt_0 22 rfl rfl)
theorem dX0_rowAt_23 : decode cX0_rowAt 23 = .ok (.getfield 94, 3) := dk_180 0 94 (dk_at dksX0_rowAt_1 0 rfl rfl)
theorem dX0_rowAt_26 : decode cX0_rowAt 26 = .ok (.iload_n 1, 1) := dk_27 (dk_at dksX0_rowAt_1 3 rfl rfl)
theorem dX0_rowAt_27 : decode cX0_rowAt 27 = .ok (.aaload, 1) := dk_50 (dk_at dksX0_rowAt_1 4 rfl rfl)
theorem dX0_rowAt_28 : decode cX0_rowAt 28 = .ok (.areturn, 1) := dk_176 (dk_at dksX0_rowAt_1 5 rfl rfl)
abbrev cX0_would : ByteArray := prog_1_method_32_code
def yX0_would : MethodName := ⟨RX0, "would", "(I)I"⟩
def dkwX0_would_5 : List UInt8 := [172, 42, 180, 0, 22, 180, 0, 238, 182, 1, 0, 42, 180, 0, 35, 182, 1, 0, 184, 1, 10, 172]
abbrev dktX0_would_5 : List UInt8 := dkwX0_would_5 ++ []
def dkwX0_would_4 : List UInt8 := [172, 42, 180, 0, 35, 180, 0, 189, 172, 42, 180, 0, 35, 182, 0, 151, 153, 0, 7, 4, 167, 0, 4, 3]
abbrev dktX0_would_4 : List UInt8 := dkwX0_would_4 ++ dktX0_would_5
def dkwX0_would_3 : List UInt8 := [28, 153, 0, 13, 42, 180, 0, 88, 180, 1, 30, 167, 0, 5, 16, 253, 172, 42, 180, 0, 35, 182, 1, 0]
abbrev dktX0_would_3 : List UInt8 := dkwX0_would_3 ++ dktX0_would_4
def dkwX0_would_2 : List UInt8 := [170, 0, 0, 0, 0, 79, 0, 0, 0, 0, 0, 0, 0, 3, 0, 0, 0, 30, 0, 0, 0, 47, 0, 0, 0, 55, 0, 0, 0, 63]
abbrev dktX0_would_2 : List UInt8 := dkwX0_would_2 ++ dktX0_would_3
def dkwX0_would_1 : List UInt8 := [182, 1, 33, 42, 180, 0, 88, 42, 180, 0, 35, 182, 1, 26, 61, 27]
abbrev dktX0_would_1 : List UInt8 := dkwX0_would_1 ++ dktX0_would_2
def dkwX0_would_0 : List UInt8 := [27, 3, 7, 184, 0, 143, 154, 0, 5, 2, 172, 42, 180, 0, 35, 42, 180, 0, 22, 180, 0, 238]
abbrev dktX0_would_0 : List UInt8 := dkwX0_would_0 ++ dktX0_would_1
theorem dksX0_would_0 : cX0_would.data.toList.drop 0 = dktX0_would_0 := by decide +kernel
theorem dksX0_would_1 : cX0_would.data.toList.drop 22 = dktX0_would_1 := dk_seg dksX0_would_0 22 rfl rfl
theorem dksX0_would_2 : cX0_would.data.toList.drop 38 = dktX0_would_2 := dk_seg dksX0_would_1 16 rfl rfl
theorem dksX0_would_3 : cX0_would.data.toList.drop 68 = dktX0_would_3 := dk_seg dksX0_would_2 30 rfl rfl
theorem dksX0_would_4 : cX0_would.data.toList.drop 92 = dktX0_would_4 := dk_seg dksX0_would_3 24 rfl rfl
theorem dksX0_would_5 : cX0_would.data.toList.drop 116 = dktX0_would_5 := dk_seg dksX0_would_4 24 rfl rfl
theorem dX0_would_0 : decode cX0_would 0 = .ok (.iload_n 1, 1) := dk_27 (dk_at dksX0_would_0 0 rfl rfl)
theorem dX0_would_1 : decode cX0_would 1 = .ok (.iconst 0, 1) := dk_3 (dk_at dksX0_would_0 1 rfl rfl)
theorem dX0_would_2 : decode cX0_would 2 = .ok (.iconst 4, 1) := dk_7 (dk_at dksX0_would_0 2 rfl rfl)
theorem dX0_would_3 : decode cX0_would 3 = .ok (.invokestatic 143, 3) := dk_184 0 143 (dk_at dksX0_would_0 3 rfl rfl)
theorem dX0_would_6 : decode cX0_would 6 = .ok (.ifCond .ne 5, 3) := dk_154 0 5 (dk_at dksX0_would_0 6 rfl rfl)
theorem dX0_would_9 : decode cX0_would 9 = .ok (.iconst (-1), 1) := dk_2 (dk_at dksX0_would_0 9 rfl rfl)
theorem dX0_would_10 : decode cX0_would 10 = .ok (.ireturn, 1) := dk_172 (dk_at dksX0_would_0 10 rfl rfl)
theorem dX0_would_11 : decode cX0_would 11 = .ok (.aload_n 0, 1) := dk_42 (dk_at dksX0_would_0 11 rfl rfl)
theorem dX0_would_12 : decode cX0_would 12 = .ok (.getfield 35, 3) := dk_180 0 35 (dk_at dksX0_would_0 12 rfl rfl)
theorem dX0_would_15 : decode cX0_would 15 = .ok (.aload_n 0, 1) := dk_42 (dk_at dksX0_would_0 15 rfl rfl)
theorem dX0_would_16 : decode cX0_would 16 = .ok (.getfield 22, 3) := dk_180 0 22 (dk_at dksX0_would_0 16 rfl rfl)
theorem dX0_would_19 : decode cX0_would 19 = .ok (.getfield 238, 3) := dk_180 0 238 (dk_at dksX0_would_0 19 rfl rfl)
theorem dX0_would_22 : decode cX0_would 22 = .ok (.invokevirtual 289, 3) := dk_182 1 33 (dk_at dksX0_would_1 0 rfl rfl)
theorem dX0_would_25 : decode cX0_would 25 = .ok (.aload_n 0, 1) := dk_42 (dk_at dksX0_would_1 3 rfl rfl)
theorem dX0_would_26 : decode cX0_would 26 = .ok (.getfield 88, 3) := dk_180 0 88 (dk_at dksX0_would_1 4 rfl rfl)
theorem dX0_would_29 : decode cX0_would 29 = .ok (.aload_n 0, 1) := dk_42 (dk_at dksX0_would_1 7 rfl rfl)
theorem dX0_would_30 : decode cX0_would 30 = .ok (.getfield 35, 3) := dk_180 0 35 (dk_at dksX0_would_1 8 rfl rfl)
theorem dX0_would_33 : decode cX0_would 33 = .ok (.invokevirtual 282, 3) := dk_182 1 26 (dk_at dksX0_would_1 11 rfl rfl)
theorem dX0_would_36 : decode cX0_would 36 = .ok (.istore_n 2, 1) := dk_61 (dk_at dksX0_would_1 14 rfl rfl)
theorem dX0_would_37 : decode cX0_would 37 = .ok (.iload_n 1, 1) := dk_27 (dk_at dksX0_would_1 15 rfl rfl)
theorem dX0_would_38 : decode cX0_would 38 = .ok (.tableswitch 79 0 3 #[30, 47, 55, 63], 30) := by decide +kernel
theorem dX0_would_68 : decode cX0_would 68 = .ok (.iload_n 2, 1) := dk_28 (dk_at dksX0_would_3 0 rfl rfl)
theorem dX0_would_69 : decode cX0_would 69 = .ok (.ifCond .eq 13, 3) := dk_153 0 13 (dk_at dksX0_would_3 1 rfl rfl)
theorem dX0_would_72 : decode cX0_would 72 = .ok (.aload_n 0, 1) := dk_42 (dk_at dksX0_would_3 4 rfl rfl)
theorem dX0_would_73 : decode cX0_would 73 = .ok (.getfield 88, 3) := dk_180 0 88 (dk_at dksX0_would_3 5 rfl rfl)
theorem dX0_would_76 : decode cX0_would 76 = .ok (.getfield 286, 3) := dk_180 1 30 (dk_at dksX0_would_3 8 rfl rfl)
theorem dX0_would_79 : decode cX0_would 79 = .ok (.goto 5, 3) := dk_167 0 5 (dk_at dksX0_would_3 11 rfl rfl)
theorem dX0_would_82 : decode cX0_would 82 = .ok (.bipush (-3), 2) := dk_16 253 (dk_at dksX0_would_3 14 rfl rfl)
theorem dX0_would_84 : decode cX0_would 84 = .ok (.ireturn, 1) := dk_172 (dk_at dksX0_would_3 16 rfl rfl)
theorem dX0_would_85 : decode cX0_would 85 = .ok (.aload_n 0, 1) := dk_42 (dk_at dksX0_would_3 17 rfl rfl)
theorem dX0_would_86 : decode cX0_would 86 = .ok (.getfield 35, 3) := dk_180 0 35 (dk_at dksX0_would_3 18 rfl rfl)
theorem dX0_would_89 : decode cX0_would 89 = .ok (.invokevirtual 256, 3) := dk_182 1 0 (dk_at dksX0_would_3 21 rfl rfl)
theorem dX0_would_92 : decode cX0_would 92 = .ok (.ireturn, 1) := dk_172 (dk_at dksX0_would_4 0 rfl rfl)
theorem dX0_would_93 : decode cX0_would 93 = .ok (.aload_n 0, 1) := dk_42 (dk_at dksX0_would_4 1 rfl rfl)
theorem dX0_would_94 : decode cX0_would 94 = .ok (.getfield 35, 3) := dk_180 0 35 (dk_at dksX0_would_4 2 rfl rfl)
theorem dX0_would_97 : decode cX0_would 97 = .ok (.getfield 189, 3) := dk_180 0 189 (dk_at dksX0_would_4 5 rfl rfl)
theorem dX0_would_100 : decode cX0_would 100 = .ok (.ireturn, 1) := dk_172 (dk_at dksX0_would_4 8 rfl rfl)
theorem dX0_would_101 : decode cX0_would 101 = .ok (.aload_n 0, 1) := dk_42 (dk_at dksX0_would_4 9 rfl rfl)
theorem dX0_would_102 : decode cX0_would 102 = .ok (.getfield 35, 3) := dk_180 0 35 (dk_at dksX0_would_4 10 rfl rfl)
theorem dX0_would_105 : decode cX0_would 105 = .ok (.invokevirtual 151, 3) := dk_182 0 151 (dk_at dksX0_would_4 13 rfl rfl)
theorem dX0_would_108 : decode cX0_would 108 = .ok (.ifCond .eq 7, 3) := dk_153 0 7 (dk_at dksX0_would_4 16 rfl rfl)
theorem dX0_would_111 : decode cX0_would 111 = .ok (.iconst 1, 1) := dk_4 (dk_at dksX0_would_4 19 rfl rfl)
theorem dX0_would_112 : decode cX0_would 112 = .ok (.goto 4, 3) := dk_167 0 4 (dk_at dksX0_would_4 20 rfl rfl)
theorem dX0_would_115 : decode cX0_would 115 = .ok (.iconst 0, 1) := dk_3 (dk_at dksX0_would_4 23 rfl rfl)
theorem dX0_would_116 : decode cX0_would 116 = .ok (.ireturn, 1) := dk_172 (dk_at dksX0_would_5 0 rfl rfl)
theorem dX0_would_117 : decode cX0_would 117 = .ok (.aload_n 0, 1) := dk_42 (dk_at dksX0_would_5 1 rfl rfl)
theorem dX0_would_118 : decode cX0_would 118 = .ok (.getfield 22, 3) := dk_180 0 22 (dk_at dksX0_would_5 2 rfl rfl)
theorem dX0_would_121 : decode cX0_would 121 = .ok (.getfield 238, 3) := dk_180 0 238 (dk_at dksX0_would_5 5 rfl rfl)
theorem dX0_would_124 : decode cX0_would 124 = .ok (.invokevirtual 256, 3) := dk_182 1 0 (dk_at dksX0_would_5 8 rfl rfl)
theorem dX0_would_127 : decode cX0_would 127 = .ok (.aload_n 0, 1) := dk_42 (dk_at dksX0_would_5 11 rfl rfl)
theorem dX0_would_128 : decode cX0_would 128 = .ok (.getfield 35, 3) := dk_180 0 35 (dk_at dksX0_would_5 12 rfl rfl)
theorem dX0_would_131 : decode cX0_would 131 = .ok (.invokevirtual 256, 3) := dk_182 1 0 (dk_at dksX0_would_5 15 rfl rfl)
theorem dX0_would_134 : decode cX0_would 134 = .ok (.invokestatic 266, 3) := dk_184 1 10 (dk_at dksX0_would_5 18 rfl rfl)
theorem dX0_would_137 : decode cX0_would 137 = .ok (.ireturn, 1) := dk_172 (dk_at dksX0_would_5 21 rfl rfl)
abbrev cX0_lasts : ByteArray := prog_1_method_33_code
def yX0_lasts : MethodName := ⟨RX0, "lasts", "(I)I"⟩
def dkwX0_lasts_3 : List UInt8 := [182, 0, 151, 153, 0, 7, 4, 167, 0, 4, 3, 96, 61, 167, 255, 208, 28, 172]
abbrev dktX0_lasts_3 : List UInt8 := dkwX0_lasts_3 ++ []
def dkwX0_lasts_2 : List UInt8 := [180, 0, 35, 182, 0, 151, 153, 0, 32, 42, 42, 180, 0, 35, 182, 1, 6, 28, 42, 180, 0, 35]
abbrev dktX0_lasts_2 : List UInt8 := dkwX0_lasts_2 ++ dktX0_lasts_3
def dkwX0_lasts_1 : List UInt8 := [180, 0, 35, 27, 181, 0, 159, 3, 61, 42, 180, 0, 35, 180, 0, 155, 16, 24, 162, 0, 42, 42]
abbrev dktX0_lasts_1 : List UInt8 := dkwX0_lasts_1 ++ dktX0_lasts_2
def dkwX0_lasts_0 : List UInt8 := [27, 184, 0, 223, 154, 0, 5, 2, 172, 42, 180, 0, 35, 42, 180, 0, 22, 180, 0, 238, 182, 1, 33, 42]
abbrev dktX0_lasts_0 : List UInt8 := dkwX0_lasts_0 ++ dktX0_lasts_1
theorem dksX0_lasts_0 : cX0_lasts.data.toList.drop 0 = dktX0_lasts_0 := by decide +kernel
theorem dksX0_lasts_1 : cX0_lasts.data.toList.drop 24 = dktX0_lasts_1 := dk_seg dksX0_lasts_0 24 rfl rfl
theorem dksX0_lasts_2 : cX0_lasts.data.toList.drop 46 = dktX0_lasts_2 := dk_seg dksX0_lasts_1 22 rfl rfl
theorem dksX0_lasts_3 : cX0_lasts.data.toList.drop 68 = dktX0_lasts_3 := dk_seg dksX0_lasts_2 22 rfl rfl
theorem dX0_lasts_0 : decode cX0_lasts 0 = .ok (.iload_n 1, 1) := dk_27 (dk_at dksX0_lasts_0 0 rfl rfl)
theorem dX0_lasts_1 : decode cX0_lasts 1 = .ok (.invokestatic 223, 3) := dk_184 0 223 (dk_at dksX0_lasts_0 1 rfl rfl)
theorem dX0_lasts_4 : decode cX0_lasts 4 = .ok (.ifCond .ne 5, 3) := dk_154 0 5 (dk_at dksX0_lasts_0 4 rfl rfl)
theorem dX0_lasts_7 : decode cX0_lasts 7 = .ok (.iconst (-1), 1) := dk_2 (dk_at dksX0_lasts_0 7 rfl rfl)
theorem dX0_lasts_8 : decode cX0_lasts 8 = .ok (.ireturn, 1) := dk_172 (dk_at dksX0_lasts_0 8 rfl rfl)
theorem dX0_lasts_9 : decode cX0_lasts 9 = .ok (.aload_n 0, 1) := dk_42 (dk_at dksX0_lasts_0 9 rfl rfl)
theorem dX0_lasts_10 : decode cX0_lasts 10 = .ok (.getfield 35, 3) := dk_180 0 35 (dk_at dksX0_lasts_0 10 rfl rfl)
theorem dX0_lasts_13 : decode cX0_lasts 13 = .ok (.aload_n 0, 1) := dk_42 (dk_at dksX0_lasts_0 13 rfl rfl)
theorem dX0_lasts_14 : decode cX0_lasts 14 = .ok (.getfield 22, 3) := dk_180 0 22 (dk_at dksX0_lasts_0 14 rfl rfl)
theorem dX0_lasts_17 : decode cX0_lasts 17 = .ok (.getfield 238, 3) := dk_180 0 238 (dk_at dksX0_lasts_0 17 rfl rfl)
theorem dX0_lasts_20 : decode cX0_lasts 20 = .ok (.invokevirtual 289, 3) := dk_182 1 33 (dk_at dksX0_lasts_0 20 rfl rfl)
theorem dX0_lasts_23 : decode cX0_lasts 23 = .ok (.aload_n 0, 1) := dk_42 (dk_at dksX0_lasts_0 23 rfl rfl)
theorem dX0_lasts_24 : decode cX0_lasts 24 = .ok (.getfield 35, 3) := dk_180 0 35 (dk_at dksX0_lasts_1 0 rfl rfl)
theorem dX0_lasts_27 : decode cX0_lasts 27 = .ok (.iload_n 1, 1) := dk_27 (dk_at dksX0_lasts_1 3 rfl rfl)
theorem dX0_lasts_28 : decode cX0_lasts 28 = .ok (.putfield 159, 3) := dk_181 0 159 (dk_at dksX0_lasts_1 4 rfl rfl)
theorem dX0_lasts_31 : decode cX0_lasts 31 = .ok (.iconst 0, 1) := dk_3 (dk_at dksX0_lasts_1 7 rfl rfl)
theorem dX0_lasts_32 : decode cX0_lasts 32 = .ok (.istore_n 2, 1) := dk_61 (dk_at dksX0_lasts_1 8 rfl rfl)
theorem dX0_lasts_33 : decode cX0_lasts 33 = .ok (.aload_n 0, 1) := dk_42 (dk_at dksX0_lasts_1 9 rfl rfl)
theorem dX0_lasts_34 : decode cX0_lasts 34 = .ok (.getfield 35, 3) := dk_180 0 35 (dk_at dksX0_lasts_1 10 rfl rfl)
theorem dX0_lasts_37 : decode cX0_lasts 37 = .ok (.getfield 155, 3) := dk_180 0 155 (dk_at dksX0_lasts_1 13 rfl rfl)
theorem dX0_lasts_40 : decode cX0_lasts 40 = .ok (.bipush 24, 2) := dk_16 24 (dk_at dksX0_lasts_1 16 rfl rfl)
theorem dX0_lasts_42 : decode cX0_lasts 42 = .ok (.if_icmp .ge 42, 3) := dk_162 0 42 (dk_at dksX0_lasts_1 18 rfl rfl)
theorem dX0_lasts_45 : decode cX0_lasts 45 = .ok (.aload_n 0, 1) := dk_42 (dk_at dksX0_lasts_1 21 rfl rfl)
theorem dX0_lasts_46 : decode cX0_lasts 46 = .ok (.getfield 35, 3) := dk_180 0 35 (dk_at dksX0_lasts_2 0 rfl rfl)
theorem dX0_lasts_49 : decode cX0_lasts 49 = .ok (.invokevirtual 151, 3) := dk_182 0 151 (dk_at dksX0_lasts_2 3 rfl rfl)
theorem dX0_lasts_52 : decode cX0_lasts 52 = .ok (.ifCond .eq 32, 3) := dk_153 0 32 (dk_at dksX0_lasts_2 6 rfl rfl)
theorem dX0_lasts_55 : decode cX0_lasts 55 = .ok (.aload_n 0, 1) := dk_42 (dk_at dksX0_lasts_2 9 rfl rfl)
theorem dX0_lasts_56 : decode cX0_lasts 56 = .ok (.aload_n 0, 1) := dk_42 (dk_at dksX0_lasts_2 10 rfl rfl)
theorem dX0_lasts_57 : decode cX0_lasts 57 = .ok (.getfield 35, 3) := dk_180 0 35 (dk_at dksX0_lasts_2 11 rfl rfl)
theorem dX0_lasts_60 : decode cX0_lasts 60 = .ok (.invokevirtual 262, 3) := dk_182 1 6 (dk_at dksX0_lasts_2 14 rfl rfl)
theorem dX0_lasts_63 : decode cX0_lasts 63 = .ok (.iload_n 2, 1) := dk_28 (dk_at dksX0_lasts_2 17 rfl rfl)
theorem dX0_lasts_64 : decode cX0_lasts 64 = .ok (.aload_n 0, 1) := dk_42 (dk_at dksX0_lasts_2 18 rfl rfl)
theorem dX0_lasts_65 : decode cX0_lasts 65 = .ok (.getfield 35, 3) := dk_180 0 35 (dk_at dksX0_lasts_2 19 rfl rfl)
theorem dX0_lasts_68 : decode cX0_lasts 68 = .ok (.invokevirtual 151, 3) := dk_182 0 151 (dk_at dksX0_lasts_3 0 rfl rfl)
theorem dX0_lasts_71 : decode cX0_lasts 71 = .ok (.ifCond .eq 7, 3) := dk_153 0 7 (dk_at dksX0_lasts_3 3 rfl rfl)
theorem dX0_lasts_74 : decode cX0_lasts 74 = .ok (.iconst 1, 1) := dk_4 (dk_at dksX0_lasts_3 6 rfl rfl)
theorem dX0_lasts_75 : decode cX0_lasts 75 = .ok (.goto 4, 3) := dk_167 0 4 (dk_at dksX0_lasts_3 7 rfl rfl)
theorem dX0_lasts_78 : decode cX0_lasts 78 = .ok (.iconst 0, 1) := dk_3 (dk_at dksX0_lasts_3 10 rfl rfl)
theorem dX0_lasts_79 : decode cX0_lasts 79 = .ok (.iadd, 1) := dk_96 (dk_at dksX0_lasts_3 11 rfl rfl)
theorem dX0_lasts_80 : decode cX0_lasts 80 = .ok (.istore_n 2, 1) := dk_61 (dk_at dksX0_lasts_3 12 rfl rfl)
theorem dX0_lasts_81 : decode cX0_lasts 81 = .ok (.goto (-48), 3) := dk_167 255 208 (dk_at dksX0_lasts_3 13 rfl rfl)
theorem dX0_lasts_84 : decode cX0_lasts 84 = .ok (.iload_n 2, 1) := dk_28 (dk_at dksX0_lasts_3 16 rfl rfl)
theorem dX0_lasts_85 : decode cX0_lasts 85 = .ok (.ireturn, 1) := dk_172 (dk_at dksX0_lasts_3 17 rfl rfl)
abbrev cX0_best : ByteArray := prog_1_method_35_code
def yX0_best : MethodName := ⟨RX0, "best", "(II)I"⟩
def dkwX0_best_4 : List UInt8 := [42, 180, 1, 39, 167, 0, 7, 42, 180, 1, 36, 172]
abbrev dktX0_best_4 : List UInt8 := dkwX0_best_4 ++ []
def dkwX0_best_3 : List UInt8 := [156, 0, 8, 16, 253, 167, 0, 30, 28, 154, 0, 10, 42, 180, 1, 42, 167, 0, 19, 28, 4, 160, 0, 10]
abbrev dktX0_best_3 : List UInt8 := dkwX0_best_3 ++ dktX0_best_4
def dkwX0_best_2 : List UInt8 := [5, 27, 104, 120, 162, 0, 15, 42, 27, 29, 182, 1, 45, 132, 3, 1, 167, 255, 238, 42, 180, 1, 36]
abbrev dktX0_best_2 : List UInt8 := dkwX0_best_2 ++ dktX0_best_3
def dkwX0_best_1 : List UInt8 := [163, 0, 12, 28, 3, 5, 184, 0, 143, 154, 0, 5, 2, 172, 42, 16, 253, 181, 1, 36, 3, 62, 29, 4]
abbrev dktX0_best_1 : List UInt8 := dkwX0_best_1 ++ dktX0_best_2
def dkwX0_best_0 : List UInt8 := [27, 4, 8, 184, 0, 143, 153, 0, 29, 27, 16, 24, 42, 180, 0, 22, 180, 0, 238, 180, 0, 155, 100]
abbrev dktX0_best_0 : List UInt8 := dkwX0_best_0 ++ dktX0_best_1
theorem dksX0_best_0 : cX0_best.data.toList.drop 0 = dktX0_best_0 := by decide +kernel
theorem dksX0_best_1 : cX0_best.data.toList.drop 23 = dktX0_best_1 := dk_seg dksX0_best_0 23 rfl rfl
theorem dksX0_best_2 : cX0_best.data.toList.drop 47 = dktX0_best_2 := dk_seg dksX0_best_1 24 rfl rfl
theorem dksX0_best_3 : cX0_best.data.toList.drop 70 = dktX0_best_3 := dk_seg dksX0_best_2 23 rfl rfl
theorem dksX0_best_4 : cX0_best.data.toList.drop 94 = dktX0_best_4 := dk_seg dksX0_best_3 24 rfl rfl
theorem dX0_best_0 : decode cX0_best 0 = .ok (.iload_n 1, 1) := dk_27 (dk_at dksX0_best_0 0 rfl rfl)
theorem dX0_best_1 : decode cX0_best 1 = .ok (.iconst 1, 1) := dk_4 (dk_at dksX0_best_0 1 rfl rfl)
theorem dX0_best_2 : decode cX0_best 2 = .ok (.iconst 5, 1) := dk_8 (dk_at dksX0_best_0 2 rfl rfl)
theorem dX0_best_3 : decode cX0_best 3 = .ok (.invokestatic 143, 3) := dk_184 0 143 (dk_at dksX0_best_0 3 rfl rfl)
theorem dX0_best_6 : decode cX0_best 6 = .ok (.ifCond .eq 29, 3) := dk_153 0 29 (dk_at dksX0_best_0 6 rfl rfl)
theorem dX0_best_9 : decode cX0_best 9 = .ok (.iload_n 1, 1) := dk_27 (dk_at dksX0_best_0 9 rfl rfl)
theorem dX0_best_10 : decode cX0_best 10 = .ok (.bipush 24, 2) := dk_16 24 (dk_at dksX0_best_0 10 rfl rfl)
theorem dX0_best_12 : decode cX0_best 12 = .ok (.aload_n 0, 1) := dk_42 (dk_at dksX0_best_0 12 rfl rfl)
theorem dX0_best_13 : decode cX0_best 13 = .ok (.getfield 22, 3) := dk_180 0 22 (dk_at dksX0_best_0 13 rfl rfl)
theorem dX0_best_16 : decode cX0_best 16 = .ok (.getfield 238, 3) := dk_180 0 238 (dk_at dksX0_best_0 16 rfl rfl)
theorem dX0_best_19 : decode cX0_best 19 = .ok (.getfield 155, 3) := dk_180 0 155 (dk_at dksX0_best_0 19 rfl rfl)
theorem dX0_best_22 : decode cX0_best 22 = .ok (.isub, 1) := dk_100 (dk_at dksX0_best_0 22 rfl rfl)
theorem dX0_best_23 : decode cX0_best 23 = .ok (.if_icmp .gt 12, 3) := dk_163 0 12 (dk_at dksX0_best_1 0 rfl rfl)
theorem dX0_best_26 : decode cX0_best 26 = .ok (.iload_n 2, 1) := dk_28 (dk_at dksX0_best_1 3 rfl rfl)
theorem dX0_best_27 : decode cX0_best 27 = .ok (.iconst 0, 1) := dk_3 (dk_at dksX0_best_1 4 rfl rfl)
theorem dX0_best_28 : decode cX0_best 28 = .ok (.iconst 2, 1) := dk_5 (dk_at dksX0_best_1 5 rfl rfl)
theorem dX0_best_29 : decode cX0_best 29 = .ok (.invokestatic 143, 3) := dk_184 0 143 (dk_at dksX0_best_1 6 rfl rfl)
theorem dX0_best_32 : decode cX0_best 32 = .ok (.ifCond .ne 5, 3) := dk_154 0 5 (dk_at dksX0_best_1 9 rfl rfl)
theorem dX0_best_35 : decode cX0_best 35 = .ok (.iconst (-1), 1) := dk_2 (dk_at dksX0_best_1 12 rfl rfl)
theorem dX0_best_36 : decode cX0_best 36 = .ok (.ireturn, 1) := dk_172 (dk_at dksX0_best_1 13 rfl rfl)
theorem dX0_best_37 : decode cX0_best 37 = .ok (.aload_n 0, 1) := dk_42 (dk_at dksX0_best_1 14 rfl rfl)
theorem dX0_best_38 : decode cX0_best 38 = .ok (.bipush (-3), 2) := dk_16 253 (dk_at dksX0_best_1 15 rfl rfl)
theorem dX0_best_40 : decode cX0_best 40 = .ok (.putfield 292, 3) := dk_181 1 36 (dk_at dksX0_best_1 17 rfl rfl)
theorem dX0_best_43 : decode cX0_best 43 = .ok (.iconst 0, 1) := dk_3 (dk_at dksX0_best_1 20 rfl rfl)
theorem dX0_best_44 : decode cX0_best 44 = .ok (.istore_n 3, 1) := dk_62 (dk_at dksX0_best_1 21 rfl rfl)
theorem dX0_best_45 : decode cX0_best 45 = .ok (.iload_n 3, 1) := dk_29 (dk_at dksX0_best_1 22 rfl rfl)
theorem dX0_best_46 : decode cX0_best 46 = .ok (.iconst 1, 1) := dk_4 (dk_at dksX0_best_1 23 rfl rfl)
theorem dX0_best_47 : decode cX0_best 47 = .ok (.iconst 2, 1) := dk_5 (dk_at dksX0_best_2 0 rfl rfl)
theorem dX0_best_48 : decode cX0_best 48 = .ok (.iload_n 1, 1) := dk_27 (dk_at dksX0_best_2 1 rfl rfl)
theorem dX0_best_49 : decode cX0_best 49 = .ok (.imul, 1) := dk_104 (dk_at dksX0_best_2 2 rfl rfl)
theorem dX0_best_50 : decode cX0_best 50 = .ok (.ishl, 1) := dk_120 (dk_at dksX0_best_2 3 rfl rfl)
theorem dX0_best_51 : decode cX0_best 51 = .ok (.if_icmp .ge 15, 3) := dk_162 0 15 (dk_at dksX0_best_2 4 rfl rfl)
theorem dX0_best_54 : decode cX0_best 54 = .ok (.aload_n 0, 1) := dk_42 (dk_at dksX0_best_2 7 rfl rfl)
theorem dX0_best_55 : decode cX0_best 55 = .ok (.iload_n 1, 1) := dk_27 (dk_at dksX0_best_2 8 rfl rfl)
theorem dX0_best_56 : decode cX0_best 56 = .ok (.iload_n 3, 1) := dk_29 (dk_at dksX0_best_2 9 rfl rfl)
theorem dX0_best_57 : decode cX0_best 57 = .ok (.invokevirtual 301, 3) := dk_182 1 45 (dk_at dksX0_best_2 10 rfl rfl)
theorem dX0_best_60 : decode cX0_best 60 = .ok (.iinc 3 1, 3) := dk_132 3 1 (dk_at dksX0_best_2 13 rfl rfl)
theorem dX0_best_63 : decode cX0_best 63 = .ok (.goto (-18), 3) := dk_167 255 238 (dk_at dksX0_best_2 16 rfl rfl)
theorem dX0_best_66 : decode cX0_best 66 = .ok (.aload_n 0, 1) := dk_42 (dk_at dksX0_best_2 19 rfl rfl)
theorem dX0_best_67 : decode cX0_best 67 = .ok (.getfield 292, 3) := dk_180 1 36 (dk_at dksX0_best_2 20 rfl rfl)
theorem dX0_best_70 : decode cX0_best 70 = .ok (.ifCond .ge 8, 3) := dk_156 0 8 (dk_at dksX0_best_3 0 rfl rfl)
theorem dX0_best_73 : decode cX0_best 73 = .ok (.bipush (-3), 2) := dk_16 253 (dk_at dksX0_best_3 3 rfl rfl)
theorem dX0_best_75 : decode cX0_best 75 = .ok (.goto 30, 3) := dk_167 0 30 (dk_at dksX0_best_3 5 rfl rfl)
theorem dX0_best_78 : decode cX0_best 78 = .ok (.iload_n 2, 1) := dk_28 (dk_at dksX0_best_3 8 rfl rfl)
theorem dX0_best_79 : decode cX0_best 79 = .ok (.ifCond .ne 10, 3) := dk_154 0 10 (dk_at dksX0_best_3 9 rfl rfl)
theorem dX0_best_82 : decode cX0_best 82 = .ok (.aload_n 0, 1) := dk_42 (dk_at dksX0_best_3 12 rfl rfl)
theorem dX0_best_83 : decode cX0_best 83 = .ok (.getfield 298, 3) := dk_180 1 42 (dk_at dksX0_best_3 13 rfl rfl)
theorem dX0_best_86 : decode cX0_best 86 = .ok (.goto 19, 3) := dk_167 0 19 (dk_at dksX0_best_3 16 rfl rfl)
theorem dX0_best_89 : decode cX0_best 89 = .ok (.iload_n 2, 1) := dk_28 (dk_at dksX0_best_3 19 rfl rfl)
theorem dX0_best_90 : decode cX0_best 90 = .ok (.iconst 1, 1) := dk_4 (dk_at dksX0_best_3 20 rfl rfl)
theorem dX0_best_91 : decode cX0_best 91 = .ok (.if_icmp .ne 10, 3) := dk_160 0 10 (dk_at dksX0_best_3 21 rfl rfl)
theorem dX0_best_94 : decode cX0_best 94 = .ok (.aload_n 0, 1) := dk_42 (dk_at dksX0_best_4 0 rfl rfl)
theorem dX0_best_95 : decode cX0_best 95 = .ok (.getfield 295, 3) := dk_180 1 39 (dk_at dksX0_best_4 1 rfl rfl)
theorem dX0_best_98 : decode cX0_best 98 = .ok (.goto 7, 3) := dk_167 0 7 (dk_at dksX0_best_4 4 rfl rfl)
theorem dX0_best_101 : decode cX0_best 101 = .ok (.aload_n 0, 1) := dk_42 (dk_at dksX0_best_4 7 rfl rfl)
theorem dX0_best_102 : decode cX0_best 102 = .ok (.getfield 292, 3) := dk_180 1 36 (dk_at dksX0_best_4 8 rfl rfl)
theorem dX0_best_105 : decode cX0_best 105 = .ok (.ireturn, 1) := dk_172 (dk_at dksX0_best_4 11 rfl rfl)
abbrev cX0_tries : ByteArray := prog_1_method_34_code
def yX0_tries : MethodName := ⟨RX0, "tries", "(II)V"⟩
def dkwX0_tries_7 : List UInt8 := [180, 0, 35, 180, 0, 189, 181, 1, 39, 42, 29, 181, 1, 36, 177]
abbrev dktX0_tries_7 : List UInt8 := dkwX0_tries_7 ++ []
def dkwX0_tries_6 : List UInt8 := [180, 0, 35, 182, 0, 151, 153, 0, 30, 21, 5, 153, 0, 25, 42, 21, 4, 181, 1, 42, 42, 42]
abbrev dktX0_tries_6 : List UInt8 := dkwX0_tries_6 ++ dktX0_tries_7
def dkwX0_tries_5 : List UInt8 := [42, 180, 1, 39, 160, 0, 16, 21, 4, 42, 180, 1, 42, 164, 0, 7, 4, 167, 0, 4, 3, 54, 5, 42]
abbrev dktX0_tries_5 : List UInt8 := dkwX0_tries_5 ++ dktX0_tries_6
def dkwX0_tries_4 : List UInt8 := [155, 0, 40, 42, 180, 0, 35, 180, 0, 189, 42, 180, 1, 39, 161, 0, 26, 42, 180, 0, 35, 180, 0, 189]
abbrev dktX0_tries_4 : List UInt8 := dkwX0_tries_4 ++ dktX0_tries_5
def dkwX0_tries_3 : List UInt8 := [167, 255, 206, 42, 180, 0, 35, 180, 0, 166, 42, 180, 0, 35, 180, 0, 176, 96, 54, 4, 42, 180, 1, 36]
abbrev dktX0_tries_3 : List UInt8 := dkwX0_tries_3 ++ dktX0_tries_4
def dkwX0_tries_2 : List UInt8 := [120, 128, 62, 42, 180, 0, 35, 21, 5, 181, 0, 159, 42, 42, 180, 0, 35, 182, 1, 6, 132, 4, 1]
abbrev dktX0_tries_2 : List UInt8 := dkwX0_tries_2 ++ dktX0_tries_3
def dkwX0_tries_1 : List UInt8 := [162, 0, 50, 28, 5, 27, 4, 100, 21, 4, 100, 104, 122, 6, 126, 54, 5, 29, 21, 5, 5, 21, 4, 104]
abbrev dktX0_tries_1 : List UInt8 := dkwX0_tries_1 ++ dktX0_tries_2
def dkwX0_tries_0 : List UInt8 := [42, 180, 0, 35, 42, 180, 0, 22, 180, 0, 238, 182, 1, 33, 3, 62, 3, 54, 4, 21, 4, 27]
abbrev dktX0_tries_0 : List UInt8 := dkwX0_tries_0 ++ dktX0_tries_1
theorem dksX0_tries_0 : cX0_tries.data.toList.drop 0 = dktX0_tries_0 := by decide +kernel
theorem dksX0_tries_1 : cX0_tries.data.toList.drop 22 = dktX0_tries_1 := dk_seg dksX0_tries_0 22 rfl rfl
theorem dksX0_tries_2 : cX0_tries.data.toList.drop 46 = dktX0_tries_2 := dk_seg dksX0_tries_1 24 rfl rfl
theorem dksX0_tries_3 : cX0_tries.data.toList.drop 69 = dktX0_tries_3 := dk_seg dksX0_tries_2 23 rfl rfl
theorem dksX0_tries_4 : cX0_tries.data.toList.drop 93 = dktX0_tries_4 := dk_seg dksX0_tries_3 24 rfl rfl
theorem dksX0_tries_5 : cX0_tries.data.toList.drop 117 = dktX0_tries_5 := dk_seg dksX0_tries_4 24 rfl rfl
theorem dksX0_tries_6 : cX0_tries.data.toList.drop 141 = dktX0_tries_6 := dk_seg dksX0_tries_5 24 rfl rfl
theorem dksX0_tries_7 : cX0_tries.data.toList.drop 163 = dktX0_tries_7 := dk_seg dksX0_tries_6 22 rfl rfl
theorem dX0_tries_0 : decode cX0_tries 0 = .ok (.aload_n 0, 1) := dk_42 (dk_at dksX0_tries_0 0 rfl rfl)
theorem dX0_tries_1 : decode cX0_tries 1 = .ok (.getfield 35, 3) := dk_180 0 35 (dk_at dksX0_tries_0 1 rfl rfl)
theorem dX0_tries_4 : decode cX0_tries 4 = .ok (.aload_n 0, 1) := dk_42 (dk_at dksX0_tries_0 4 rfl rfl)
theorem dX0_tries_5 : decode cX0_tries 5 = .ok (.getfield 22, 3) := dk_180 0 22 (dk_at dksX0_tries_0 5 rfl rfl)
theorem dX0_tries_8 : decode cX0_tries 8 = .ok (.getfield 238, 3) := dk_180 0 238 (dk_at dksX0_tries_0 8 rfl rfl)
theorem dX0_tries_11 : decode cX0_tries 11 = .ok (.invokevirtual 289, 3) := dk_182 1 33 (dk_at dksX0_tries_0 11 rfl rfl)
theorem dX0_tries_14 : decode cX0_tries 14 = .ok (.iconst 0, 1) := dk_3 (dk_at dksX0_tries_0 14 rfl rfl)
theorem dX0_tries_15 : decode cX0_tries 15 = .ok (.istore_n 3, 1) := dk_62 (dk_at dksX0_tries_0 15 rfl rfl)
theorem dX0_tries_16 : decode cX0_tries 16 = .ok (.iconst 0, 1) := dk_3 (dk_at dksX0_tries_0 16 rfl rfl)
theorem dX0_tries_17 : decode cX0_tries 17 = .ok (.istore 4, 2) := dk_54 4 (dk_at dksX0_tries_0 17 rfl rfl)
theorem dX0_tries_19 : decode cX0_tries 19 = .ok (.iload 4, 2) := dk_21 4 (dk_at dksX0_tries_0 19 rfl rfl)
theorem dX0_tries_21 : decode cX0_tries 21 = .ok (.iload_n 1, 1) := dk_27 (dk_at dksX0_tries_0 21 rfl rfl)
theorem dX0_tries_22 : decode cX0_tries 22 = .ok (.if_icmp .ge 50, 3) := dk_162 0 50 (dk_at dksX0_tries_1 0 rfl rfl)
theorem dX0_tries_25 : decode cX0_tries 25 = .ok (.iload_n 2, 1) := dk_28 (dk_at dksX0_tries_1 3 rfl rfl)
theorem dX0_tries_26 : decode cX0_tries 26 = .ok (.iconst 2, 1) := dk_5 (dk_at dksX0_tries_1 4 rfl rfl)
theorem dX0_tries_27 : decode cX0_tries 27 = .ok (.iload_n 1, 1) := dk_27 (dk_at dksX0_tries_1 5 rfl rfl)
theorem dX0_tries_28 : decode cX0_tries 28 = .ok (.iconst 1, 1) := dk_4 (dk_at dksX0_tries_1 6 rfl rfl)
theorem dX0_tries_29 : decode cX0_tries 29 = .ok (.isub, 1) := dk_100 (dk_at dksX0_tries_1 7 rfl rfl)
theorem dX0_tries_30 : decode cX0_tries 30 = .ok (.iload 4, 2) := dk_21 4 (dk_at dksX0_tries_1 8 rfl rfl)
theorem dX0_tries_32 : decode cX0_tries 32 = .ok (.isub, 1) := dk_100 (dk_at dksX0_tries_1 10 rfl rfl)
theorem dX0_tries_33 : decode cX0_tries 33 = .ok (.imul, 1) := dk_104 (dk_at dksX0_tries_1 11 rfl rfl)
theorem dX0_tries_34 : decode cX0_tries 34 = .ok (.ishr, 1) := dk_122 (dk_at dksX0_tries_1 12 rfl rfl)
theorem dX0_tries_35 : decode cX0_tries 35 = .ok (.iconst 3, 1) := dk_6 (dk_at dksX0_tries_1 13 rfl rfl)
theorem dX0_tries_36 : decode cX0_tries 36 = .ok (.iand, 1) := dk_126 (dk_at dksX0_tries_1 14 rfl rfl)
theorem dX0_tries_37 : decode cX0_tries 37 = .ok (.istore 5, 2) := dk_54 5 (dk_at dksX0_tries_1 15 rfl rfl)
theorem dX0_tries_39 : decode cX0_tries 39 = .ok (.iload_n 3, 1) := dk_29 (dk_at dksX0_tries_1 17 rfl rfl)
theorem dX0_tries_40 : decode cX0_tries 40 = .ok (.iload 5, 2) := dk_21 5 (dk_at dksX0_tries_1 18 rfl rfl)
theorem dX0_tries_42 : decode cX0_tries 42 = .ok (.iconst 2, 1) := dk_5 (dk_at dksX0_tries_1 20 rfl rfl)
theorem dX0_tries_43 : decode cX0_tries 43 = .ok (.iload 4, 2) := dk_21 4 (dk_at dksX0_tries_1 21 rfl rfl)
theorem dX0_tries_45 : decode cX0_tries 45 = .ok (.imul, 1) := dk_104 (dk_at dksX0_tries_1 23 rfl rfl)
theorem dX0_tries_46 : decode cX0_tries 46 = .ok (.ishl, 1) := dk_120 (dk_at dksX0_tries_2 0 rfl rfl)
theorem dX0_tries_47 : decode cX0_tries 47 = .ok (.ior, 1) := dk_128 (dk_at dksX0_tries_2 1 rfl rfl)
theorem dX0_tries_48 : decode cX0_tries 48 = .ok (.istore_n 3, 1) := dk_62 (dk_at dksX0_tries_2 2 rfl rfl)
theorem dX0_tries_49 : decode cX0_tries 49 = .ok (.aload_n 0, 1) := dk_42 (dk_at dksX0_tries_2 3 rfl rfl)
theorem dX0_tries_50 : decode cX0_tries 50 = .ok (.getfield 35, 3) := dk_180 0 35 (dk_at dksX0_tries_2 4 rfl rfl)
theorem dX0_tries_53 : decode cX0_tries 53 = .ok (.iload 5, 2) := dk_21 5 (dk_at dksX0_tries_2 7 rfl rfl)
theorem dX0_tries_55 : decode cX0_tries 55 = .ok (.putfield 159, 3) := dk_181 0 159 (dk_at dksX0_tries_2 9 rfl rfl)
theorem dX0_tries_58 : decode cX0_tries 58 = .ok (.aload_n 0, 1) := dk_42 (dk_at dksX0_tries_2 12 rfl rfl)
theorem dX0_tries_59 : decode cX0_tries 59 = .ok (.aload_n 0, 1) := dk_42 (dk_at dksX0_tries_2 13 rfl rfl)
theorem dX0_tries_60 : decode cX0_tries 60 = .ok (.getfield 35, 3) := dk_180 0 35 (dk_at dksX0_tries_2 14 rfl rfl)
theorem dX0_tries_63 : decode cX0_tries 63 = .ok (.invokevirtual 262, 3) := dk_182 1 6 (dk_at dksX0_tries_2 17 rfl rfl)
theorem dX0_tries_66 : decode cX0_tries 66 = .ok (.iinc 4 1, 3) := dk_132 4 1 (dk_at dksX0_tries_2 20 rfl rfl)
theorem dX0_tries_69 : decode cX0_tries 69 = .ok (.goto (-50), 3) := dk_167 255 206 (dk_at dksX0_tries_3 0 rfl rfl)
theorem dX0_tries_72 : decode cX0_tries 72 = .ok (.aload_n 0, 1) := dk_42 (dk_at dksX0_tries_3 3 rfl rfl)
theorem dX0_tries_73 : decode cX0_tries 73 = .ok (.getfield 35, 3) := dk_180 0 35 (dk_at dksX0_tries_3 4 rfl rfl)
theorem dX0_tries_76 : decode cX0_tries 76 = .ok (.getfield 166, 3) := dk_180 0 166 (dk_at dksX0_tries_3 7 rfl rfl)
theorem dX0_tries_79 : decode cX0_tries 79 = .ok (.aload_n 0, 1) := dk_42 (dk_at dksX0_tries_3 10 rfl rfl)
theorem dX0_tries_80 : decode cX0_tries 80 = .ok (.getfield 35, 3) := dk_180 0 35 (dk_at dksX0_tries_3 11 rfl rfl)
theorem dX0_tries_83 : decode cX0_tries 83 = .ok (.getfield 176, 3) := dk_180 0 176 (dk_at dksX0_tries_3 14 rfl rfl)
theorem dX0_tries_86 : decode cX0_tries 86 = .ok (.iadd, 1) := dk_96 (dk_at dksX0_tries_3 17 rfl rfl)
theorem dX0_tries_87 : decode cX0_tries 87 = .ok (.istore 4, 2) := dk_54 4 (dk_at dksX0_tries_3 18 rfl rfl)
theorem dX0_tries_89 : decode cX0_tries 89 = .ok (.aload_n 0, 1) := dk_42 (dk_at dksX0_tries_3 20 rfl rfl)
theorem dX0_tries_90 : decode cX0_tries 90 = .ok (.getfield 292, 3) := dk_180 1 36 (dk_at dksX0_tries_3 21 rfl rfl)
theorem dX0_tries_93 : decode cX0_tries 93 = .ok (.ifCond .lt 40, 3) := dk_155 0 40 (dk_at dksX0_tries_4 0 rfl rfl)
theorem dX0_tries_96 : decode cX0_tries 96 = .ok (.aload_n 0, 1) := dk_42 (dk_at dksX0_tries_4 3 rfl rfl)
theorem dX0_tries_97 : decode cX0_tries 97 = .ok (.getfield 35, 3) := dk_180 0 35 (dk_at dksX0_tries_4 4 rfl rfl)
theorem dX0_tries_100 : decode cX0_tries 100 = .ok (.getfield 189, 3) := dk_180 0 189 (dk_at dksX0_tries_4 7 rfl rfl)
theorem dX0_tries_103 : decode cX0_tries 103 = .ok (.aload_n 0, 1) := dk_42 (dk_at dksX0_tries_4 10 rfl rfl)
theorem dX0_tries_104 : decode cX0_tries 104 = .ok (.getfield 295, 3) := dk_180 1 39 (dk_at dksX0_tries_4 11 rfl rfl)
theorem dX0_tries_107 : decode cX0_tries 107 = .ok (.if_icmp .lt 26, 3) := dk_161 0 26 (dk_at dksX0_tries_4 14 rfl rfl)
theorem dX0_tries_110 : decode cX0_tries 110 = .ok (.aload_n 0, 1) := dk_42 (dk_at dksX0_tries_4 17 rfl rfl)
theorem dX0_tries_111 : decode cX0_tries 111 = .ok (.getfield 35, 3) := dk_180 0 35 (dk_at dksX0_tries_4 18 rfl rfl)
theorem dX0_tries_114 : decode cX0_tries 114 = .ok (.getfield 189, 3) := dk_180 0 189 (dk_at dksX0_tries_4 21 rfl rfl)
theorem dX0_tries_117 : decode cX0_tries 117 = .ok (.aload_n 0, 1) := dk_42 (dk_at dksX0_tries_5 0 rfl rfl)
theorem dX0_tries_118 : decode cX0_tries 118 = .ok (.getfield 295, 3) := dk_180 1 39 (dk_at dksX0_tries_5 1 rfl rfl)
theorem dX0_tries_121 : decode cX0_tries 121 = .ok (.if_icmp .ne 16, 3) := dk_160 0 16 (dk_at dksX0_tries_5 4 rfl rfl)
theorem dX0_tries_124 : decode cX0_tries 124 = .ok (.iload 4, 2) := dk_21 4 (dk_at dksX0_tries_5 7 rfl rfl)
theorem dX0_tries_126 : decode cX0_tries 126 = .ok (.aload_n 0, 1) := dk_42 (dk_at dksX0_tries_5 9 rfl rfl)
theorem dX0_tries_127 : decode cX0_tries 127 = .ok (.getfield 298, 3) := dk_180 1 42 (dk_at dksX0_tries_5 10 rfl rfl)
theorem dX0_tries_130 : decode cX0_tries 130 = .ok (.if_icmp .le 7, 3) := dk_164 0 7 (dk_at dksX0_tries_5 13 rfl rfl)
theorem dX0_tries_133 : decode cX0_tries 133 = .ok (.iconst 1, 1) := dk_4 (dk_at dksX0_tries_5 16 rfl rfl)
theorem dX0_tries_134 : decode cX0_tries 134 = .ok (.goto 4, 3) := dk_167 0 4 (dk_at dksX0_tries_5 17 rfl rfl)
theorem dX0_tries_137 : decode cX0_tries 137 = .ok (.iconst 0, 1) := dk_3 (dk_at dksX0_tries_5 20 rfl rfl)
theorem dX0_tries_138 : decode cX0_tries 138 = .ok (.istore 5, 2) := dk_54 5 (dk_at dksX0_tries_5 21 rfl rfl)
theorem dX0_tries_140 : decode cX0_tries 140 = .ok (.aload_n 0, 1) := dk_42 (dk_at dksX0_tries_5 23 rfl rfl)
theorem dX0_tries_141 : decode cX0_tries 141 = .ok (.getfield 35, 3) := dk_180 0 35 (dk_at dksX0_tries_6 0 rfl rfl)
theorem dX0_tries_144 : decode cX0_tries 144 = .ok (.invokevirtual 151, 3) := dk_182 0 151 (dk_at dksX0_tries_6 3 rfl rfl)
theorem dX0_tries_147 : decode cX0_tries 147 = .ok (.ifCond .eq 30, 3) := dk_153 0 30 (dk_at dksX0_tries_6 6 rfl rfl)
theorem dX0_tries_150 : decode cX0_tries 150 = .ok (.iload 5, 2) := dk_21 5 (dk_at dksX0_tries_6 9 rfl rfl)
theorem dX0_tries_152 : decode cX0_tries 152 = .ok (.ifCond .eq 25, 3) := dk_153 0 25 (dk_at dksX0_tries_6 11 rfl rfl)
theorem dX0_tries_155 : decode cX0_tries 155 = .ok (.aload_n 0, 1) := dk_42 (dk_at dksX0_tries_6 14 rfl rfl)
theorem dX0_tries_156 : decode cX0_tries 156 = .ok (.iload 4, 2) := dk_21 4 (dk_at dksX0_tries_6 15 rfl rfl)
theorem dX0_tries_158 : decode cX0_tries 158 = .ok (.putfield 298, 3) := dk_181 1 42 (dk_at dksX0_tries_6 17 rfl rfl)
theorem dX0_tries_161 : decode cX0_tries 161 = .ok (.aload_n 0, 1) := dk_42 (dk_at dksX0_tries_6 20 rfl rfl)
theorem dX0_tries_162 : decode cX0_tries 162 = .ok (.aload_n 0, 1) := dk_42 (dk_at dksX0_tries_6 21 rfl rfl)
theorem dX0_tries_163 : decode cX0_tries 163 = .ok (.getfield 35, 3) := dk_180 0 35 (dk_at dksX0_tries_7 0 rfl rfl)
theorem dX0_tries_166 : decode cX0_tries 166 = .ok (.getfield 189, 3) := dk_180 0 189 (dk_at dksX0_tries_7 3 rfl rfl)
theorem dX0_tries_169 : decode cX0_tries 169 = .ok (.putfield 295, 3) := dk_181 1 39 (dk_at dksX0_tries_7 6 rfl rfl)
theorem dX0_tries_172 : decode cX0_tries 172 = .ok (.aload_n 0, 1) := dk_42 (dk_at dksX0_tries_7 9 rfl rfl)
theorem dX0_tries_173 : decode cX0_tries 173 = .ok (.iload_n 3, 1) := dk_29 (dk_at dksX0_tries_7 10 rfl rfl)
theorem dX0_tries_174 : decode cX0_tries 174 = .ok (.putfield 292, 3) := dk_181 1 36 (dk_at dksX0_tries_7 11 rfl rfl)
theorem dX0_tries_177 : decode cX0_tries 177 = .ok (.return_, 1) := dk_177 (dk_at dksX0_tries_7 14 rfl rfl)
abbrev cX0_later : ByteArray := prog_1_method_36_code
def yX0_later : MethodName := ⟨RX0, "later", "(II)I"⟩
def dkwX0_later_5 : List UInt8 := [132, 3, 1, 167, 255, 168, 16, 253, 172]
abbrev dktX0_later_5 : List UInt8 := dkwX0_later_5 ++ []
def dkwX0_later_4 : List UInt8 := [180, 0, 238, 182, 1, 0, 42, 180, 0, 35, 182, 1, 0, 184, 1, 10, 28, 163, 0, 5, 29, 172]
abbrev dktX0_later_4 : List UInt8 := dkwX0_later_4 ++ dktX0_later_5
def dkwX0_later_3 : List UInt8 := [180, 0, 155, 16, 24, 162, 0, 14, 42, 42, 180, 0, 35, 182, 1, 6, 167, 255, 236, 42, 180, 0, 22]
abbrev dktX0_later_3 : List UInt8 := dkwX0_later_3 ++ dktX0_later_4
def dkwX0_later_2 : List UInt8 := [182, 1, 33, 42, 180, 0, 35, 27, 181, 0, 159, 42, 180, 0, 35, 29, 181, 0, 155, 42, 180, 0, 35]
abbrev dktX0_later_2 : List UInt8 := dkwX0_later_2 ++ dktX0_later_3
def dkwX0_later_1 : List UInt8 := [180, 0, 238, 180, 0, 155, 62, 29, 16, 24, 162, 0, 88, 42, 180, 0, 35, 42, 180, 0, 22, 180, 0, 238]
abbrev dktX0_later_1 : List UInt8 := dkwX0_later_1 ++ dktX0_later_2
def dkwX0_later_0 : List UInt8 := [27, 184, 0, 223, 153, 0, 14, 28, 3, 17, 3, 232, 184, 0, 143, 154, 0, 5, 2, 172, 42, 180, 0, 22]
abbrev dktX0_later_0 : List UInt8 := dkwX0_later_0 ++ dktX0_later_1
theorem dksX0_later_0 : cX0_later.data.toList.drop 0 = dktX0_later_0 := by decide +kernel
theorem dksX0_later_1 : cX0_later.data.toList.drop 24 = dktX0_later_1 := dk_seg dksX0_later_0 24 rfl rfl
theorem dksX0_later_2 : cX0_later.data.toList.drop 48 = dktX0_later_2 := dk_seg dksX0_later_1 24 rfl rfl
theorem dksX0_later_3 : cX0_later.data.toList.drop 71 = dktX0_later_3 := dk_seg dksX0_later_2 23 rfl rfl
theorem dksX0_later_4 : cX0_later.data.toList.drop 94 = dktX0_later_4 := dk_seg dksX0_later_3 23 rfl rfl
theorem dksX0_later_5 : cX0_later.data.toList.drop 116 = dktX0_later_5 := dk_seg dksX0_later_4 22 rfl rfl
theorem dX0_later_0 : decode cX0_later 0 = .ok (.iload_n 1, 1) := dk_27 (dk_at dksX0_later_0 0 rfl rfl)
theorem dX0_later_1 : decode cX0_later 1 = .ok (.invokestatic 223, 3) := dk_184 0 223 (dk_at dksX0_later_0 1 rfl rfl)
theorem dX0_later_4 : decode cX0_later 4 = .ok (.ifCond .eq 14, 3) := dk_153 0 14 (dk_at dksX0_later_0 4 rfl rfl)
theorem dX0_later_7 : decode cX0_later 7 = .ok (.iload_n 2, 1) := dk_28 (dk_at dksX0_later_0 7 rfl rfl)
theorem dX0_later_8 : decode cX0_later 8 = .ok (.iconst 0, 1) := dk_3 (dk_at dksX0_later_0 8 rfl rfl)
theorem dX0_later_9 : decode cX0_later 9 = .ok (.sipush 1000, 3) := dk_17 3 232 (dk_at dksX0_later_0 9 rfl rfl)
theorem dX0_later_12 : decode cX0_later 12 = .ok (.invokestatic 143, 3) := dk_184 0 143 (dk_at dksX0_later_0 12 rfl rfl)
theorem dX0_later_15 : decode cX0_later 15 = .ok (.ifCond .ne 5, 3) := dk_154 0 5 (dk_at dksX0_later_0 15 rfl rfl)
theorem dX0_later_18 : decode cX0_later 18 = .ok (.iconst (-1), 1) := dk_2 (dk_at dksX0_later_0 18 rfl rfl)
theorem dX0_later_19 : decode cX0_later 19 = .ok (.ireturn, 1) := dk_172 (dk_at dksX0_later_0 19 rfl rfl)
theorem dX0_later_20 : decode cX0_later 20 = .ok (.aload_n 0, 1) := dk_42 (dk_at dksX0_later_0 20 rfl rfl)
theorem dX0_later_21 : decode cX0_later 21 = .ok (.getfield 22, 3) := dk_180 0 22 (dk_at dksX0_later_0 21 rfl rfl)
theorem dX0_later_24 : decode cX0_later 24 = .ok (.getfield 238, 3) := dk_180 0 238 (dk_at dksX0_later_1 0 rfl rfl)
theorem dX0_later_27 : decode cX0_later 27 = .ok (.getfield 155, 3) := dk_180 0 155 (dk_at dksX0_later_1 3 rfl rfl)
theorem dX0_later_30 : decode cX0_later 30 = .ok (.istore_n 3, 1) := dk_62 (dk_at dksX0_later_1 6 rfl rfl)
theorem dX0_later_31 : decode cX0_later 31 = .ok (.iload_n 3, 1) := dk_29 (dk_at dksX0_later_1 7 rfl rfl)
theorem dX0_later_32 : decode cX0_later 32 = .ok (.bipush 24, 2) := dk_16 24 (dk_at dksX0_later_1 8 rfl rfl)
theorem dX0_later_34 : decode cX0_later 34 = .ok (.if_icmp .ge 88, 3) := dk_162 0 88 (dk_at dksX0_later_1 10 rfl rfl)
theorem dX0_later_37 : decode cX0_later 37 = .ok (.aload_n 0, 1) := dk_42 (dk_at dksX0_later_1 13 rfl rfl)
theorem dX0_later_38 : decode cX0_later 38 = .ok (.getfield 35, 3) := dk_180 0 35 (dk_at dksX0_later_1 14 rfl rfl)
theorem dX0_later_41 : decode cX0_later 41 = .ok (.aload_n 0, 1) := dk_42 (dk_at dksX0_later_1 17 rfl rfl)
theorem dX0_later_42 : decode cX0_later 42 = .ok (.getfield 22, 3) := dk_180 0 22 (dk_at dksX0_later_1 18 rfl rfl)
theorem dX0_later_45 : decode cX0_later 45 = .ok (.getfield 238, 3) := dk_180 0 238 (dk_at dksX0_later_1 21 rfl rfl)
theorem dX0_later_48 : decode cX0_later 48 = .ok (.invokevirtual 289, 3) := dk_182 1 33 (dk_at dksX0_later_2 0 rfl rfl)
theorem dX0_later_51 : decode cX0_later 51 = .ok (.aload_n 0, 1) := dk_42 (dk_at dksX0_later_2 3 rfl rfl)
theorem dX0_later_52 : decode cX0_later 52 = .ok (.getfield 35, 3) := dk_180 0 35 (dk_at dksX0_later_2 4 rfl rfl)
theorem dX0_later_55 : decode cX0_later 55 = .ok (.iload_n 1, 1) := dk_27 (dk_at dksX0_later_2 7 rfl rfl)
theorem dX0_later_56 : decode cX0_later 56 = .ok (.putfield 159, 3) := dk_181 0 159 (dk_at dksX0_later_2 8 rfl rfl)
theorem dX0_later_59 : decode cX0_later 59 = .ok (.aload_n 0, 1) := dk_42 (dk_at dksX0_later_2 11 rfl rfl)
theorem dX0_later_60 : decode cX0_later 60 = .ok (.getfield 35, 3) := dk_180 0 35 (dk_at dksX0_later_2 12 rfl rfl)
theorem dX0_later_63 : decode cX0_later 63 = .ok (.iload_n 3, 1) := dk_29 (dk_at dksX0_later_2 15 rfl rfl)
theorem dX0_later_64 : decode cX0_later 64 = .ok (.putfield 155, 3) := dk_181 0 155 (dk_at dksX0_later_2 16 rfl rfl)
theorem dX0_later_67 : decode cX0_later 67 = .ok (.aload_n 0, 1) := dk_42 (dk_at dksX0_later_2 19 rfl rfl)
theorem dX0_later_68 : decode cX0_later 68 = .ok (.getfield 35, 3) := dk_180 0 35 (dk_at dksX0_later_2 20 rfl rfl)
theorem dX0_later_71 : decode cX0_later 71 = .ok (.getfield 155, 3) := dk_180 0 155 (dk_at dksX0_later_3 0 rfl rfl)
theorem dX0_later_74 : decode cX0_later 74 = .ok (.bipush 24, 2) := dk_16 24 (dk_at dksX0_later_3 3 rfl rfl)
theorem dX0_later_76 : decode cX0_later 76 = .ok (.if_icmp .ge 14, 3) := dk_162 0 14 (dk_at dksX0_later_3 5 rfl rfl)
theorem dX0_later_79 : decode cX0_later 79 = .ok (.aload_n 0, 1) := dk_42 (dk_at dksX0_later_3 8 rfl rfl)
theorem dX0_later_80 : decode cX0_later 80 = .ok (.aload_n 0, 1) := dk_42 (dk_at dksX0_later_3 9 rfl rfl)
theorem dX0_later_81 : decode cX0_later 81 = .ok (.getfield 35, 3) := dk_180 0 35 (dk_at dksX0_later_3 10 rfl rfl)
theorem dX0_later_84 : decode cX0_later 84 = .ok (.invokevirtual 262, 3) := dk_182 1 6 (dk_at dksX0_later_3 13 rfl rfl)
theorem dX0_later_87 : decode cX0_later 87 = .ok (.goto (-20), 3) := dk_167 255 236 (dk_at dksX0_later_3 16 rfl rfl)
theorem dX0_later_90 : decode cX0_later 90 = .ok (.aload_n 0, 1) := dk_42 (dk_at dksX0_later_3 19 rfl rfl)
theorem dX0_later_91 : decode cX0_later 91 = .ok (.getfield 22, 3) := dk_180 0 22 (dk_at dksX0_later_3 20 rfl rfl)
theorem dX0_later_94 : decode cX0_later 94 = .ok (.getfield 238, 3) := dk_180 0 238 (dk_at dksX0_later_4 0 rfl rfl)
theorem dX0_later_97 : decode cX0_later 97 = .ok (.invokevirtual 256, 3) := dk_182 1 0 (dk_at dksX0_later_4 3 rfl rfl)
theorem dX0_later_100 : decode cX0_later 100 = .ok (.aload_n 0, 1) := dk_42 (dk_at dksX0_later_4 6 rfl rfl)
theorem dX0_later_101 : decode cX0_later 101 = .ok (.getfield 35, 3) := dk_180 0 35 (dk_at dksX0_later_4 7 rfl rfl)
theorem dX0_later_104 : decode cX0_later 104 = .ok (.invokevirtual 256, 3) := dk_182 1 0 (dk_at dksX0_later_4 10 rfl rfl)
theorem dX0_later_107 : decode cX0_later 107 = .ok (.invokestatic 266, 3) := dk_184 1 10 (dk_at dksX0_later_4 13 rfl rfl)
theorem dX0_later_110 : decode cX0_later 110 = .ok (.iload_n 2, 1) := dk_28 (dk_at dksX0_later_4 16 rfl rfl)
theorem dX0_later_111 : decode cX0_later 111 = .ok (.if_icmp .gt 5, 3) := dk_163 0 5 (dk_at dksX0_later_4 17 rfl rfl)
theorem dX0_later_114 : decode cX0_later 114 = .ok (.iload_n 3, 1) := dk_29 (dk_at dksX0_later_4 20 rfl rfl)
theorem dX0_later_115 : decode cX0_later 115 = .ok (.ireturn, 1) := dk_172 (dk_at dksX0_later_4 21 rfl rfl)
theorem dX0_later_116 : decode cX0_later 116 = .ok (.iinc 3 1, 3) := dk_132 3 1 (dk_at dksX0_later_5 0 rfl rfl)
theorem dX0_later_119 : decode cX0_later 119 = .ok (.goto (-88), 3) := dk_167 255 168 (dk_at dksX0_later_5 3 rfl rfl)
theorem dX0_later_122 : decode cX0_later 122 = .ok (.bipush (-3), 2) := dk_16 253 (dk_at dksX0_later_5 6 rfl rfl)
theorem dX0_later_124 : decode cX0_later 124 = .ok (.ireturn, 1) := dk_172 (dk_at dksX0_later_5 8 rfl rfl)
abbrev cX0_scale : ByteArray := prog_1_method_37_code
def yX0_scale : MethodName := ⟨RX0, "scale", "(I)I"⟩
def dkwX0_scale_2 : List UInt8 := [180, 0, 22, 180, 1, 49, 16, 16, 124, 6, 112, 4, 100, 104, 96, 172]
abbrev dktX0_scale_2 : List UInt8 := dkwX0_scale_2 ++ []
def dkwX0_scale_1 : List UInt8 := [19, 1, 52, 104, 17, 48, 57, 96, 181, 1, 49, 42, 180, 0, 22, 180, 0, 238, 182, 1, 0, 27, 42]
abbrev dktX0_scale_1 : List UInt8 := dkwX0_scale_1 ++ dktX0_scale_2
def dkwX0_scale_0 : List UInt8 := [27, 3, 16, 99, 184, 0, 143, 154, 0, 6, 18, 219, 172, 42, 180, 0, 22, 42, 180, 0, 22, 180, 1, 49]
abbrev dktX0_scale_0 : List UInt8 := dkwX0_scale_0 ++ dktX0_scale_1
theorem dksX0_scale_0 : cX0_scale.data.toList.drop 0 = dktX0_scale_0 := by decide +kernel
theorem dksX0_scale_1 : cX0_scale.data.toList.drop 24 = dktX0_scale_1 := dk_seg dksX0_scale_0 24 rfl rfl
theorem dksX0_scale_2 : cX0_scale.data.toList.drop 47 = dktX0_scale_2 := dk_seg dksX0_scale_1 23 rfl rfl
theorem dX0_scale_0 : decode cX0_scale 0 = .ok (.iload_n 1, 1) := dk_27 (dk_at dksX0_scale_0 0 rfl rfl)
theorem dX0_scale_1 : decode cX0_scale 1 = .ok (.iconst 0, 1) := dk_3 (dk_at dksX0_scale_0 1 rfl rfl)
theorem dX0_scale_2 : decode cX0_scale 2 = .ok (.bipush 99, 2) := dk_16 99 (dk_at dksX0_scale_0 2 rfl rfl)
theorem dX0_scale_4 : decode cX0_scale 4 = .ok (.invokestatic 143, 3) := dk_184 0 143 (dk_at dksX0_scale_0 4 rfl rfl)
theorem dX0_scale_7 : decode cX0_scale 7 = .ok (.ifCond .ne 6, 3) := dk_154 0 6 (dk_at dksX0_scale_0 7 rfl rfl)
theorem dX0_scale_10 : decode cX0_scale 10 = .ok (.ldc 219, 2) := dk_18 219 (dk_at dksX0_scale_0 10 rfl rfl)
theorem dX0_scale_12 : decode cX0_scale 12 = .ok (.ireturn, 1) := dk_172 (dk_at dksX0_scale_0 12 rfl rfl)
theorem dX0_scale_13 : decode cX0_scale 13 = .ok (.aload_n 0, 1) := dk_42 (dk_at dksX0_scale_0 13 rfl rfl)
theorem dX0_scale_14 : decode cX0_scale 14 = .ok (.getfield 22, 3) := dk_180 0 22 (dk_at dksX0_scale_0 14 rfl rfl)
theorem dX0_scale_17 : decode cX0_scale 17 = .ok (.aload_n 0, 1) := dk_42 (dk_at dksX0_scale_0 17 rfl rfl)
theorem dX0_scale_18 : decode cX0_scale 18 = .ok (.getfield 22, 3) := dk_180 0 22 (dk_at dksX0_scale_0 18 rfl rfl)
theorem dX0_scale_21 : decode cX0_scale 21 = .ok (.getfield 305, 3) := dk_180 1 49 (dk_at dksX0_scale_0 21 rfl rfl)
theorem dX0_scale_24 : decode cX0_scale 24 = .ok (.ldc_w 308, 3) := dk_19 1 52 (dk_at dksX0_scale_1 0 rfl rfl)
theorem dX0_scale_27 : decode cX0_scale 27 = .ok (.imul, 1) := dk_104 (dk_at dksX0_scale_1 3 rfl rfl)
theorem dX0_scale_28 : decode cX0_scale 28 = .ok (.sipush 12345, 3) := dk_17 48 57 (dk_at dksX0_scale_1 4 rfl rfl)
theorem dX0_scale_31 : decode cX0_scale 31 = .ok (.iadd, 1) := dk_96 (dk_at dksX0_scale_1 7 rfl rfl)
theorem dX0_scale_32 : decode cX0_scale 32 = .ok (.putfield 305, 3) := dk_181 1 49 (dk_at dksX0_scale_1 8 rfl rfl)
theorem dX0_scale_35 : decode cX0_scale 35 = .ok (.aload_n 0, 1) := dk_42 (dk_at dksX0_scale_1 11 rfl rfl)
theorem dX0_scale_36 : decode cX0_scale 36 = .ok (.getfield 22, 3) := dk_180 0 22 (dk_at dksX0_scale_1 12 rfl rfl)
theorem dX0_scale_39 : decode cX0_scale 39 = .ok (.getfield 238, 3) := dk_180 0 238 (dk_at dksX0_scale_1 15 rfl rfl)
theorem dX0_scale_42 : decode cX0_scale 42 = .ok (.invokevirtual 256, 3) := dk_182 1 0 (dk_at dksX0_scale_1 18 rfl rfl)
theorem dX0_scale_45 : decode cX0_scale 45 = .ok (.iload_n 1, 1) := dk_27 (dk_at dksX0_scale_1 21 rfl rfl)
theorem dX0_scale_46 : decode cX0_scale 46 = .ok (.aload_n 0, 1) := dk_42 (dk_at dksX0_scale_1 22 rfl rfl)
theorem dX0_scale_47 : decode cX0_scale 47 = .ok (.getfield 22, 3) := dk_180 0 22 (dk_at dksX0_scale_2 0 rfl rfl)
theorem dX0_scale_50 : decode cX0_scale 50 = .ok (.getfield 305, 3) := dk_180 1 49 (dk_at dksX0_scale_2 3 rfl rfl)
theorem dX0_scale_53 : decode cX0_scale 53 = .ok (.bipush 16, 2) := dk_16 16 (dk_at dksX0_scale_2 6 rfl rfl)
theorem dX0_scale_55 : decode cX0_scale 55 = .ok (.iushr, 1) := dk_124 (dk_at dksX0_scale_2 8 rfl rfl)
theorem dX0_scale_56 : decode cX0_scale 56 = .ok (.iconst 3, 1) := dk_6 (dk_at dksX0_scale_2 9 rfl rfl)
theorem dX0_scale_57 : decode cX0_scale 57 = .ok (.irem, 1) := dk_112 (dk_at dksX0_scale_2 10 rfl rfl)
theorem dX0_scale_58 : decode cX0_scale 58 = .ok (.iconst 1, 1) := dk_4 (dk_at dksX0_scale_2 11 rfl rfl)
theorem dX0_scale_59 : decode cX0_scale 59 = .ok (.isub, 1) := dk_100 (dk_at dksX0_scale_2 12 rfl rfl)
theorem dX0_scale_60 : decode cX0_scale 60 = .ok (.imul, 1) := dk_104 (dk_at dksX0_scale_2 13 rfl rfl)
theorem dX0_scale_61 : decode cX0_scale 61 = .ok (.iadd, 1) := dk_96 (dk_at dksX0_scale_2 14 rfl rfl)
theorem dX0_scale_62 : decode cX0_scale 62 = .ok (.ireturn, 1) := dk_172 (dk_at dksX0_scale_2 15 rfl rfl)
abbrev cX0_seed : ByteArray := prog_1_method_38_code
def yX0_seed : MethodName := ⟨RX0, "seed", "(I)I"⟩
def dkwX0_seed_0 : List UInt8 := [42, 180, 0, 22, 180, 1, 49, 61, 42, 180, 0, 22, 27, 181, 1, 49, 28, 172]
abbrev dktX0_seed_0 : List UInt8 := dkwX0_seed_0 ++ []
theorem dksX0_seed_0 : cX0_seed.data.toList.drop 0 = dktX0_seed_0 := by decide +kernel
theorem dX0_seed_0 : decode cX0_seed 0 = .ok (.aload_n 0, 1) := dk_42 (dk_at dksX0_seed_0 0 rfl rfl)
theorem dX0_seed_1 : decode cX0_seed 1 = .ok (.getfield 22, 3) := dk_180 0 22 (dk_at dksX0_seed_0 1 rfl rfl)
theorem dX0_seed_4 : decode cX0_seed 4 = .ok (.getfield 305, 3) := dk_180 1 49 (dk_at dksX0_seed_0 4 rfl rfl)
theorem dX0_seed_7 : decode cX0_seed 7 = .ok (.istore_n 2, 1) := dk_61 (dk_at dksX0_seed_0 7 rfl rfl)
theorem dX0_seed_8 : decode cX0_seed 8 = .ok (.aload_n 0, 1) := dk_42 (dk_at dksX0_seed_0 8 rfl rfl)
theorem dX0_seed_9 : decode cX0_seed 9 = .ok (.getfield 22, 3) := dk_180 0 22 (dk_at dksX0_seed_0 9 rfl rfl)
theorem dX0_seed_12 : decode cX0_seed 12 = .ok (.iload_n 1, 1) := dk_27 (dk_at dksX0_seed_0 12 rfl rfl)
theorem dX0_seed_13 : decode cX0_seed 13 = .ok (.putfield 305, 3) := dk_181 1 49 (dk_at dksX0_seed_0 13 rfl rfl)
theorem dX0_seed_16 : decode cX0_seed 16 = .ok (.iload_n 2, 1) := dk_28 (dk_at dksX0_seed_0 16 rfl rfl)
theorem dX0_seed_17 : decode cX0_seed 17 = .ok (.ireturn, 1) := dk_172 (dk_at dksX0_seed_0 17 rfl rfl)
abbrev cX0_other : ByteArray := prog_1_method_39_code
def yX0_other : MethodName := ⟨RX0, "other", "(II)I"⟩
def dkwX0_other_3 : List UInt8 := [42, 180, 0, 22, 89, 180, 1, 53, 4, 96, 181, 1, 53, 42, 180, 0, 22, 180, 1, 53, 172]
abbrev dktX0_other_3 : List UInt8 := dkwX0_other_3 ++ []
def dkwX0_other_2 : List UInt8 := [180, 0, 22, 180, 1, 53, 27, 79, 42, 180, 0, 22, 180, 1, 56, 42, 180, 0, 22, 180, 1, 53, 28, 79]
abbrev dktX0_other_2 : List UInt8 := dkwX0_other_2 ++ dktX0_other_3
def dkwX0_other_1 : List UInt8 := [172, 42, 180, 0, 22, 180, 1, 53, 16, 10, 160, 0, 6, 16, 254, 172, 42, 180, 0, 22, 180, 1, 54, 42]
abbrev dktX0_other_1 : List UInt8 := dkwX0_other_1 ++ dktX0_other_2
def dkwX0_other_0 : List UInt8 := [27, 16, 50, 17, 1, 144, 184, 0, 143, 153, 0, 14, 28, 4, 17, 39, 15, 184, 0, 143, 154, 0, 5, 2]
abbrev dktX0_other_0 : List UInt8 := dkwX0_other_0 ++ dktX0_other_1
theorem dksX0_other_0 : cX0_other.data.toList.drop 0 = dktX0_other_0 := by decide +kernel
theorem dksX0_other_1 : cX0_other.data.toList.drop 24 = dktX0_other_1 := dk_seg dksX0_other_0 24 rfl rfl
theorem dksX0_other_2 : cX0_other.data.toList.drop 48 = dktX0_other_2 := dk_seg dksX0_other_1 24 rfl rfl
theorem dksX0_other_3 : cX0_other.data.toList.drop 72 = dktX0_other_3 := dk_seg dksX0_other_2 24 rfl rfl
theorem dX0_other_0 : decode cX0_other 0 = .ok (.iload_n 1, 1) := dk_27 (dk_at dksX0_other_0 0 rfl rfl)
theorem dX0_other_1 : decode cX0_other 1 = .ok (.bipush 50, 2) := dk_16 50 (dk_at dksX0_other_0 1 rfl rfl)
theorem dX0_other_3 : decode cX0_other 3 = .ok (.sipush 400, 3) := dk_17 1 144 (dk_at dksX0_other_0 3 rfl rfl)
theorem dX0_other_6 : decode cX0_other 6 = .ok (.invokestatic 143, 3) := dk_184 0 143 (dk_at dksX0_other_0 6 rfl rfl)
theorem dX0_other_9 : decode cX0_other 9 = .ok (.ifCond .eq 14, 3) := dk_153 0 14 (dk_at dksX0_other_0 9 rfl rfl)
theorem dX0_other_12 : decode cX0_other 12 = .ok (.iload_n 2, 1) := dk_28 (dk_at dksX0_other_0 12 rfl rfl)
theorem dX0_other_13 : decode cX0_other 13 = .ok (.iconst 1, 1) := dk_4 (dk_at dksX0_other_0 13 rfl rfl)
theorem dX0_other_14 : decode cX0_other 14 = .ok (.sipush 9999, 3) := dk_17 39 15 (dk_at dksX0_other_0 14 rfl rfl)
theorem dX0_other_17 : decode cX0_other 17 = .ok (.invokestatic 143, 3) := dk_184 0 143 (dk_at dksX0_other_0 17 rfl rfl)
theorem dX0_other_20 : decode cX0_other 20 = .ok (.ifCond .ne 5, 3) := dk_154 0 5 (dk_at dksX0_other_0 20 rfl rfl)
theorem dX0_other_23 : decode cX0_other 23 = .ok (.iconst (-1), 1) := dk_2 (dk_at dksX0_other_0 23 rfl rfl)
theorem dX0_other_24 : decode cX0_other 24 = .ok (.ireturn, 1) := dk_172 (dk_at dksX0_other_1 0 rfl rfl)
theorem dX0_other_25 : decode cX0_other 25 = .ok (.aload_n 0, 1) := dk_42 (dk_at dksX0_other_1 1 rfl rfl)
theorem dX0_other_26 : decode cX0_other 26 = .ok (.getfield 22, 3) := dk_180 0 22 (dk_at dksX0_other_1 2 rfl rfl)
theorem dX0_other_29 : decode cX0_other 29 = .ok (.getfield 309, 3) := dk_180 1 53 (dk_at dksX0_other_1 5 rfl rfl)
theorem dX0_other_32 : decode cX0_other 32 = .ok (.bipush 10, 2) := dk_16 10 (dk_at dksX0_other_1 8 rfl rfl)
theorem dX0_other_34 : decode cX0_other 34 = .ok (.if_icmp .ne 6, 3) := dk_160 0 6 (dk_at dksX0_other_1 10 rfl rfl)
theorem dX0_other_37 : decode cX0_other 37 = .ok (.bipush (-2), 2) := dk_16 254 (dk_at dksX0_other_1 13 rfl rfl)
theorem dX0_other_39 : decode cX0_other 39 = .ok (.ireturn, 1) := dk_172 (dk_at dksX0_other_1 15 rfl rfl)
theorem dX0_other_40 : decode cX0_other 40 = .ok (.aload_n 0, 1) := dk_42 (dk_at dksX0_other_1 16 rfl rfl)
theorem dX0_other_41 : decode cX0_other 41 = .ok (.getfield 22, 3) := dk_180 0 22 (dk_at dksX0_other_1 17 rfl rfl)
theorem dX0_other_44 : decode cX0_other 44 = .ok (.getfield 310, 3) := dk_180 1 54 (dk_at dksX0_other_1 20 rfl rfl)
theorem dX0_other_47 : decode cX0_other 47 = .ok (.aload_n 0, 1) := dk_42 (dk_at dksX0_other_1 23 rfl rfl)
theorem dX0_other_48 : decode cX0_other 48 = .ok (.getfield 22, 3) := dk_180 0 22 (dk_at dksX0_other_2 0 rfl rfl)
theorem dX0_other_51 : decode cX0_other 51 = .ok (.getfield 309, 3) := dk_180 1 53 (dk_at dksX0_other_2 3 rfl rfl)
theorem dX0_other_54 : decode cX0_other 54 = .ok (.iload_n 1, 1) := dk_27 (dk_at dksX0_other_2 6 rfl rfl)
theorem dX0_other_55 : decode cX0_other 55 = .ok (.iastore, 1) := dk_79 (dk_at dksX0_other_2 7 rfl rfl)
theorem dX0_other_56 : decode cX0_other 56 = .ok (.aload_n 0, 1) := dk_42 (dk_at dksX0_other_2 8 rfl rfl)
theorem dX0_other_57 : decode cX0_other 57 = .ok (.getfield 22, 3) := dk_180 0 22 (dk_at dksX0_other_2 9 rfl rfl)
theorem dX0_other_60 : decode cX0_other 60 = .ok (.getfield 312, 3) := dk_180 1 56 (dk_at dksX0_other_2 12 rfl rfl)
theorem dX0_other_63 : decode cX0_other 63 = .ok (.aload_n 0, 1) := dk_42 (dk_at dksX0_other_2 15 rfl rfl)
theorem dX0_other_64 : decode cX0_other 64 = .ok (.getfield 22, 3) := dk_180 0 22 (dk_at dksX0_other_2 16 rfl rfl)
theorem dX0_other_67 : decode cX0_other 67 = .ok (.getfield 309, 3) := dk_180 1 53 (dk_at dksX0_other_2 19 rfl rfl)
theorem dX0_other_70 : decode cX0_other 70 = .ok (.iload_n 2, 1) := dk_28 (dk_at dksX0_other_2 22 rfl rfl)
theorem dX0_other_71 : decode cX0_other 71 = .ok (.iastore, 1) := dk_79 (dk_at dksX0_other_2 23 rfl rfl)
theorem dX0_other_72 : decode cX0_other 72 = .ok (.aload_n 0, 1) := dk_42 (dk_at dksX0_other_3 0 rfl rfl)
theorem dX0_other_73 : decode cX0_other 73 = .ok (.getfield 22, 3) := dk_180 0 22 (dk_at dksX0_other_3 1 rfl rfl)
theorem dX0_other_76 : decode cX0_other 76 = .ok (.dup, 1) := dk_89 (dk_at dksX0_other_3 4 rfl rfl)
theorem dX0_other_77 : decode cX0_other 77 = .ok (.getfield 309, 3) := dk_180 1 53 (dk_at dksX0_other_3 5 rfl rfl)
theorem dX0_other_80 : decode cX0_other 80 = .ok (.iconst 1, 1) := dk_4 (dk_at dksX0_other_3 8 rfl rfl)
theorem dX0_other_81 : decode cX0_other 81 = .ok (.iadd, 1) := dk_96 (dk_at dksX0_other_3 9 rfl rfl)
theorem dX0_other_82 : decode cX0_other 82 = .ok (.putfield 309, 3) := dk_181 1 53 (dk_at dksX0_other_3 10 rfl rfl)
theorem dX0_other_85 : decode cX0_other 85 = .ok (.aload_n 0, 1) := dk_42 (dk_at dksX0_other_3 13 rfl rfl)
theorem dX0_other_86 : decode cX0_other 86 = .ok (.getfield 22, 3) := dk_180 0 22 (dk_at dksX0_other_3 14 rfl rfl)
theorem dX0_other_89 : decode cX0_other 89 = .ok (.getfield 309, 3) := dk_180 1 53 (dk_at dksX0_other_3 17 rfl rfl)
theorem dX0_other_92 : decode cX0_other 92 = .ok (.ireturn, 1) := dk_172 (dk_at dksX0_other_3 20 rfl rfl)
abbrev cX0_lighter : ByteArray := prog_1_method_41_code
def yX0_lighter : MethodName := ⟨RX0, "lighter", "()I"⟩
def dkwX0_lighter_0 : List UInt8 := [42, 42, 180, 0, 22, 180, 0, 238, 182, 1, 0, 182, 1, 58, 172]
abbrev dktX0_lighter_0 : List UInt8 := dkwX0_lighter_0 ++ []
theorem dksX0_lighter_0 : cX0_lighter.data.toList.drop 0 = dktX0_lighter_0 := by decide +kernel
theorem dX0_lighter_0 : decode cX0_lighter 0 = .ok (.aload_n 0, 1) := dk_42 (dk_at dksX0_lighter_0 0 rfl rfl)
theorem dX0_lighter_1 : decode cX0_lighter 1 = .ok (.aload_n 0, 1) := dk_42 (dk_at dksX0_lighter_0 1 rfl rfl)
theorem dX0_lighter_2 : decode cX0_lighter 2 = .ok (.getfield 22, 3) := dk_180 0 22 (dk_at dksX0_lighter_0 2 rfl rfl)
theorem dX0_lighter_5 : decode cX0_lighter 5 = .ok (.getfield 238, 3) := dk_180 0 238 (dk_at dksX0_lighter_0 5 rfl rfl)
theorem dX0_lighter_8 : decode cX0_lighter 8 = .ok (.invokevirtual 256, 3) := dk_182 1 0 (dk_at dksX0_lighter_0 8 rfl rfl)
theorem dX0_lighter_11 : decode cX0_lighter 11 = .ok (.invokevirtual 314, 3) := dk_182 1 58 (dk_at dksX0_lighter_0 11 rfl rfl)
theorem dX0_lighter_14 : decode cX0_lighter 14 = .ok (.ireturn, 1) := dk_172 (dk_at dksX0_lighter_0 14 rfl rfl)
abbrev cX0_lighterThan : ByteArray := prog_1_method_40_code
def yX0_lighterThan : MethodName := ⟨RX0, "lighterThan", "(I)I"⟩
def dkwX0_lighterThan_3 : List UInt8 := [167, 255, 206, 29, 172]
abbrev dktX0_lighterThan_3 : List UInt8 := dkwX0_lighterThan_3 ++ []
def dkwX0_lighterThan_2 : List UInt8 := [180, 1, 56, 21, 4, 46, 184, 1, 3, 28, 162, 0, 7, 4, 167, 0, 4, 3, 96, 62, 132, 4, 1]
abbrev dktX0_lighterThan_2 : List UInt8 := dkwX0_lighterThan_2 ++ dktX0_lighterThan_3
def dkwX0_lighterThan_1 : List UInt8 := [180, 0, 22, 180, 1, 53, 162, 0, 44, 29, 42, 180, 0, 22, 180, 1, 54, 21, 4, 46, 42, 180, 0, 22]
abbrev dktX0_lighterThan_1 : List UInt8 := dkwX0_lighterThan_1 ++ dktX0_lighterThan_2
def dkwX0_lighterThan_0 : List UInt8 := [42, 180, 0, 22, 180, 0, 238, 180, 0, 241, 27, 184, 1, 3, 61, 3, 62, 3, 54, 4, 21, 4, 42]
abbrev dktX0_lighterThan_0 : List UInt8 := dkwX0_lighterThan_0 ++ dktX0_lighterThan_1
theorem dksX0_lighterThan_0 : cX0_lighterThan.data.toList.drop 0 = dktX0_lighterThan_0 := by decide +kernel
theorem dksX0_lighterThan_1 : cX0_lighterThan.data.toList.drop 23 = dktX0_lighterThan_1 := dk_seg dksX0_lighterThan_0 23 rfl rfl
theorem dksX0_lighterThan_2 : cX0_lighterThan.data.toList.drop 47 = dktX0_lighterThan_2 := dk_seg dksX0_lighterThan_1 24 rfl rfl
theorem dksX0_lighterThan_3 : cX0_lighterThan.data.toList.drop 70 = dktX0_lighterThan_3 := dk_seg dksX0_lighterThan_2 23 rfl rfl
theorem dX0_lighterThan_0 : decode cX0_lighterThan 0 = .ok (.aload_n 0, 1) := dk_42 (dk_at dksX0_lighterThan_0 0 rfl rfl)
theorem dX0_lighterThan_1 : decode cX0_lighterThan 1 = .ok (.getfield 22, 3) := dk_180 0 22 (dk_at dksX0_lighterThan_0 1 rfl rfl)
theorem dX0_lighterThan_4 : decode cX0_lighterThan 4 = .ok (.getfield 238, 3) := dk_180 0 238 (dk_at dksX0_lighterThan_0 4 rfl rfl)
theorem dX0_lighterThan_7 : decode cX0_lighterThan 7 = .ok (.getfield 241, 3) := dk_180 0 241 (dk_at dksX0_lighterThan_0 7 rfl rfl)
theorem dX0_lighterThan_10 : decode cX0_lighterThan 10 = .ok (.iload_n 1, 1) := dk_27 (dk_at dksX0_lighterThan_0 10 rfl rfl)
theorem dX0_lighterThan_11 : decode cX0_lighterThan 11 = .ok (.invokestatic 259, 3) := dk_184 1 3 (dk_at dksX0_lighterThan_0 11 rfl rfl)
theorem dX0_lighterThan_14 : decode cX0_lighterThan 14 = .ok (.istore_n 2, 1) := dk_61 (dk_at dksX0_lighterThan_0 14 rfl rfl)
theorem dX0_lighterThan_15 : decode cX0_lighterThan 15 = .ok (.iconst 0, 1) := dk_3 (dk_at dksX0_lighterThan_0 15 rfl rfl)
theorem dX0_lighterThan_16 : decode cX0_lighterThan 16 = .ok (.istore_n 3, 1) := dk_62 (dk_at dksX0_lighterThan_0 16 rfl rfl)
theorem dX0_lighterThan_17 : decode cX0_lighterThan 17 = .ok (.iconst 0, 1) := dk_3 (dk_at dksX0_lighterThan_0 17 rfl rfl)
theorem dX0_lighterThan_18 : decode cX0_lighterThan 18 = .ok (.istore 4, 2) := dk_54 4 (dk_at dksX0_lighterThan_0 18 rfl rfl)
theorem dX0_lighterThan_20 : decode cX0_lighterThan 20 = .ok (.iload 4, 2) := dk_21 4 (dk_at dksX0_lighterThan_0 20 rfl rfl)
theorem dX0_lighterThan_22 : decode cX0_lighterThan 22 = .ok (.aload_n 0, 1) := dk_42 (dk_at dksX0_lighterThan_0 22 rfl rfl)
theorem dX0_lighterThan_23 : decode cX0_lighterThan 23 = .ok (.getfield 22, 3) := dk_180 0 22 (dk_at dksX0_lighterThan_1 0 rfl rfl)
theorem dX0_lighterThan_26 : decode cX0_lighterThan 26 = .ok (.getfield 309, 3) := dk_180 1 53 (dk_at dksX0_lighterThan_1 3 rfl rfl)
theorem dX0_lighterThan_29 : decode cX0_lighterThan 29 = .ok (.if_icmp .ge 44, 3) := dk_162 0 44 (dk_at dksX0_lighterThan_1 6 rfl rfl)
theorem dX0_lighterThan_32 : decode cX0_lighterThan 32 = .ok (.iload_n 3, 1) := dk_29 (dk_at dksX0_lighterThan_1 9 rfl rfl)
theorem dX0_lighterThan_33 : decode cX0_lighterThan 33 = .ok (.aload_n 0, 1) := dk_42 (dk_at dksX0_lighterThan_1 10 rfl rfl)
theorem dX0_lighterThan_34 : decode cX0_lighterThan 34 = .ok (.getfield 22, 3) := dk_180 0 22 (dk_at dksX0_lighterThan_1 11 rfl rfl)
theorem dX0_lighterThan_37 : decode cX0_lighterThan 37 = .ok (.getfield 310, 3) := dk_180 1 54 (dk_at dksX0_lighterThan_1 14 rfl rfl)
theorem dX0_lighterThan_40 : decode cX0_lighterThan 40 = .ok (.iload 4, 2) := dk_21 4 (dk_at dksX0_lighterThan_1 17 rfl rfl)
theorem dX0_lighterThan_42 : decode cX0_lighterThan 42 = .ok (.iaload, 1) := dk_46 (dk_at dksX0_lighterThan_1 19 rfl rfl)
theorem dX0_lighterThan_43 : decode cX0_lighterThan 43 = .ok (.aload_n 0, 1) := dk_42 (dk_at dksX0_lighterThan_1 20 rfl rfl)
theorem dX0_lighterThan_44 : decode cX0_lighterThan 44 = .ok (.getfield 22, 3) := dk_180 0 22 (dk_at dksX0_lighterThan_1 21 rfl rfl)
theorem dX0_lighterThan_47 : decode cX0_lighterThan 47 = .ok (.getfield 312, 3) := dk_180 1 56 (dk_at dksX0_lighterThan_2 0 rfl rfl)
theorem dX0_lighterThan_50 : decode cX0_lighterThan 50 = .ok (.iload 4, 2) := dk_21 4 (dk_at dksX0_lighterThan_2 3 rfl rfl)
theorem dX0_lighterThan_52 : decode cX0_lighterThan 52 = .ok (.iaload, 1) := dk_46 (dk_at dksX0_lighterThan_2 5 rfl rfl)
theorem dX0_lighterThan_53 : decode cX0_lighterThan 53 = .ok (.invokestatic 259, 3) := dk_184 1 3 (dk_at dksX0_lighterThan_2 6 rfl rfl)
theorem dX0_lighterThan_56 : decode cX0_lighterThan 56 = .ok (.iload_n 2, 1) := dk_28 (dk_at dksX0_lighterThan_2 9 rfl rfl)
theorem dX0_lighterThan_57 : decode cX0_lighterThan 57 = .ok (.if_icmp .ge 7, 3) := dk_162 0 7 (dk_at dksX0_lighterThan_2 10 rfl rfl)
theorem dX0_lighterThan_60 : decode cX0_lighterThan 60 = .ok (.iconst 1, 1) := dk_4 (dk_at dksX0_lighterThan_2 13 rfl rfl)
theorem dX0_lighterThan_61 : decode cX0_lighterThan 61 = .ok (.goto 4, 3) := dk_167 0 4 (dk_at dksX0_lighterThan_2 14 rfl rfl)
theorem dX0_lighterThan_64 : decode cX0_lighterThan 64 = .ok (.iconst 0, 1) := dk_3 (dk_at dksX0_lighterThan_2 17 rfl rfl)
theorem dX0_lighterThan_65 : decode cX0_lighterThan 65 = .ok (.iadd, 1) := dk_96 (dk_at dksX0_lighterThan_2 18 rfl rfl)
theorem dX0_lighterThan_66 : decode cX0_lighterThan 66 = .ok (.istore_n 3, 1) := dk_62 (dk_at dksX0_lighterThan_2 19 rfl rfl)
theorem dX0_lighterThan_67 : decode cX0_lighterThan 67 = .ok (.iinc 4 1, 3) := dk_132 4 1 (dk_at dksX0_lighterThan_2 20 rfl rfl)
theorem dX0_lighterThan_70 : decode cX0_lighterThan 70 = .ok (.goto (-50), 3) := dk_167 255 206 (dk_at dksX0_lighterThan_3 0 rfl rfl)
theorem dX0_lighterThan_73 : decode cX0_lighterThan 73 = .ok (.iload_n 3, 1) := dk_29 (dk_at dksX0_lighterThan_3 3 rfl rfl)
theorem dX0_lighterThan_74 : decode cX0_lighterThan 74 = .ok (.ireturn, 1) := dk_172 (dk_at dksX0_lighterThan_3 4 rfl rfl)
abbrev cX0_least : ByteArray := prog_1_method_42_code
def yX0_least : MethodName := ⟨RX0, "least", "(I)I"⟩
def dkwX0_least_2 : List UInt8 := [167, 0, 4, 28, 172]
abbrev dktX0_least_2 : List UInt8 := dkwX0_least_2 ++ []
def dkwX0_least_1 : List UInt8 := [182, 1, 58, 27, 162, 0, 9, 132, 2, 1, 167, 255, 237, 28, 17, 39, 15, 164, 0, 8, 16, 253]
abbrev dktX0_least_1 : List UInt8 := dkwX0_least_1 ++ dktX0_least_2
def dkwX0_least_0 : List UInt8 := [27, 3, 16, 10, 184, 0, 143, 154, 0, 5, 2, 172, 4, 61, 28, 17, 39, 15, 163, 0, 18, 42, 28]
abbrev dktX0_least_0 : List UInt8 := dkwX0_least_0 ++ dktX0_least_1
theorem dksX0_least_0 : cX0_least.data.toList.drop 0 = dktX0_least_0 := by decide +kernel
theorem dksX0_least_1 : cX0_least.data.toList.drop 23 = dktX0_least_1 := dk_seg dksX0_least_0 23 rfl rfl
theorem dksX0_least_2 : cX0_least.data.toList.drop 45 = dktX0_least_2 := dk_seg dksX0_least_1 22 rfl rfl
theorem dX0_least_0 : decode cX0_least 0 = .ok (.iload_n 1, 1) := dk_27 (dk_at dksX0_least_0 0 rfl rfl)
theorem dX0_least_1 : decode cX0_least 1 = .ok (.iconst 0, 1) := dk_3 (dk_at dksX0_least_0 1 rfl rfl)
theorem dX0_least_2 : decode cX0_least 2 = .ok (.bipush 10, 2) := dk_16 10 (dk_at dksX0_least_0 2 rfl rfl)
theorem dX0_least_4 : decode cX0_least 4 = .ok (.invokestatic 143, 3) := dk_184 0 143 (dk_at dksX0_least_0 4 rfl rfl)
theorem dX0_least_7 : decode cX0_least 7 = .ok (.ifCond .ne 5, 3) := dk_154 0 5 (dk_at dksX0_least_0 7 rfl rfl)
theorem dX0_least_10 : decode cX0_least 10 = .ok (.iconst (-1), 1) := dk_2 (dk_at dksX0_least_0 10 rfl rfl)
theorem dX0_least_11 : decode cX0_least 11 = .ok (.ireturn, 1) := dk_172 (dk_at dksX0_least_0 11 rfl rfl)
theorem dX0_least_12 : decode cX0_least 12 = .ok (.iconst 1, 1) := dk_4 (dk_at dksX0_least_0 12 rfl rfl)
theorem dX0_least_13 : decode cX0_least 13 = .ok (.istore_n 2, 1) := dk_61 (dk_at dksX0_least_0 13 rfl rfl)
theorem dX0_least_14 : decode cX0_least 14 = .ok (.iload_n 2, 1) := dk_28 (dk_at dksX0_least_0 14 rfl rfl)
theorem dX0_least_15 : decode cX0_least 15 = .ok (.sipush 9999, 3) := dk_17 39 15 (dk_at dksX0_least_0 15 rfl rfl)
theorem dX0_least_18 : decode cX0_least 18 = .ok (.if_icmp .gt 18, 3) := dk_163 0 18 (dk_at dksX0_least_0 18 rfl rfl)
theorem dX0_least_21 : decode cX0_least 21 = .ok (.aload_n 0, 1) := dk_42 (dk_at dksX0_least_0 21 rfl rfl)
theorem dX0_least_22 : decode cX0_least 22 = .ok (.iload_n 2, 1) := dk_28 (dk_at dksX0_least_0 22 rfl rfl)
theorem dX0_least_23 : decode cX0_least 23 = .ok (.invokevirtual 314, 3) := dk_182 1 58 (dk_at dksX0_least_1 0 rfl rfl)
theorem dX0_least_26 : decode cX0_least 26 = .ok (.iload_n 1, 1) := dk_27 (dk_at dksX0_least_1 3 rfl rfl)
theorem dX0_least_27 : decode cX0_least 27 = .ok (.if_icmp .ge 9, 3) := dk_162 0 9 (dk_at dksX0_least_1 4 rfl rfl)
theorem dX0_least_30 : decode cX0_least 30 = .ok (.iinc 2 1, 3) := dk_132 2 1 (dk_at dksX0_least_1 7 rfl rfl)
theorem dX0_least_33 : decode cX0_least 33 = .ok (.goto (-19), 3) := dk_167 255 237 (dk_at dksX0_least_1 10 rfl rfl)
theorem dX0_least_36 : decode cX0_least 36 = .ok (.iload_n 2, 1) := dk_28 (dk_at dksX0_least_1 13 rfl rfl)
theorem dX0_least_37 : decode cX0_least 37 = .ok (.sipush 9999, 3) := dk_17 39 15 (dk_at dksX0_least_1 14 rfl rfl)
theorem dX0_least_40 : decode cX0_least 40 = .ok (.if_icmp .le 8, 3) := dk_164 0 8 (dk_at dksX0_least_1 17 rfl rfl)
theorem dX0_least_43 : decode cX0_least 43 = .ok (.bipush (-3), 2) := dk_16 253 (dk_at dksX0_least_1 20 rfl rfl)
theorem dX0_least_45 : decode cX0_least 45 = .ok (.goto 4, 3) := dk_167 0 4 (dk_at dksX0_least_2 0 rfl rfl)
theorem dX0_least_48 : decode cX0_least 48 = .ok (.iload_n 2, 1) := dk_28 (dk_at dksX0_least_2 3 rfl rfl)
theorem dX0_least_49 : decode cX0_least 49 = .ok (.ireturn, 1) := dk_172 (dk_at dksX0_least_2 4 rfl rfl)
abbrev cX0_row : ByteArray := prog_1_method_45_code
def yX0_row : MethodName := ⟨RX0, "row", "(II)I"⟩
def dkwX0_row_1 : List UInt8 := [16, 247, 172]
abbrev dktX0_row_1 : List UInt8 := dkwX0_row_1 ++ []
def dkwX0_row_0 : List UInt8 := [42, 27, 28, 182, 1, 65, 153, 0, 17, 42, 180, 0, 94, 27, 50, 180, 1, 68, 28, 46, 167, 0, 5]
abbrev dktX0_row_0 : List UInt8 := dkwX0_row_0 ++ dktX0_row_1
theorem dksX0_row_0 : cX0_row.data.toList.drop 0 = dktX0_row_0 := by decide +kernel
theorem dksX0_row_1 : cX0_row.data.toList.drop 23 = dktX0_row_1 := dk_seg dksX0_row_0 23 rfl rfl
theorem dX0_row_0 : decode cX0_row 0 = .ok (.aload_n 0, 1) := dk_42 (dk_at dksX0_row_0 0 rfl rfl)
theorem dX0_row_1 : decode cX0_row 1 = .ok (.iload_n 1, 1) := dk_27 (dk_at dksX0_row_0 1 rfl rfl)
theorem dX0_row_2 : decode cX0_row 2 = .ok (.iload_n 2, 1) := dk_28 (dk_at dksX0_row_0 2 rfl rfl)
theorem dX0_row_3 : decode cX0_row 3 = .ok (.invokevirtual 321, 3) := dk_182 1 65 (dk_at dksX0_row_0 3 rfl rfl)
theorem dX0_row_6 : decode cX0_row 6 = .ok (.ifCond .eq 17, 3) := dk_153 0 17 (dk_at dksX0_row_0 6 rfl rfl)
theorem dX0_row_9 : decode cX0_row 9 = .ok (.aload_n 0, 1) := dk_42 (dk_at dksX0_row_0 9 rfl rfl)
theorem dX0_row_10 : decode cX0_row 10 = .ok (.getfield 94, 3) := dk_180 0 94 (dk_at dksX0_row_0 10 rfl rfl)
theorem dX0_row_13 : decode cX0_row 13 = .ok (.iload_n 1, 1) := dk_27 (dk_at dksX0_row_0 13 rfl rfl)
theorem dX0_row_14 : decode cX0_row 14 = .ok (.aaload, 1) := dk_50 (dk_at dksX0_row_0 14 rfl rfl)
theorem dX0_row_15 : decode cX0_row 15 = .ok (.getfield 324, 3) := dk_180 1 68 (dk_at dksX0_row_0 15 rfl rfl)
theorem dX0_row_18 : decode cX0_row 18 = .ok (.iload_n 2, 1) := dk_28 (dk_at dksX0_row_0 18 rfl rfl)
theorem dX0_row_19 : decode cX0_row 19 = .ok (.iaload, 1) := dk_46 (dk_at dksX0_row_0 19 rfl rfl)
theorem dX0_row_20 : decode cX0_row 20 = .ok (.goto 5, 3) := dk_167 0 5 (dk_at dksX0_row_0 20 rfl rfl)
theorem dX0_row_23 : decode cX0_row 23 = .ok (.bipush (-9), 2) := dk_16 247 (dk_at dksX0_row_1 0 rfl rfl)
theorem dX0_row_25 : decode cX0_row 25 = .ok (.ireturn, 1) := dk_172 (dk_at dksX0_row_1 2 rfl rfl)
abbrev cX0_isCell : ByteArray := prog_1_method_44_code
def yX0_isCell : MethodName := ⟨RX0, "isCell", "(II)Z"⟩
def dkwX0_isCell_1 : List UInt8 := [167, 0, 4, 3, 172]
abbrev dktX0_isCell_1 : List UInt8 := dkwX0_isCell_1 ++ []
def dkwX0_isCell_0 : List UInt8 := [27, 3, 42, 180, 1, 62, 4, 100, 184, 0, 143, 153, 0, 16, 28, 3, 5, 184, 0, 143, 153, 0, 7, 4]
abbrev dktX0_isCell_0 : List UInt8 := dkwX0_isCell_0 ++ dktX0_isCell_1
theorem dksX0_isCell_0 : cX0_isCell.data.toList.drop 0 = dktX0_isCell_0 := by decide +kernel
theorem dksX0_isCell_1 : cX0_isCell.data.toList.drop 24 = dktX0_isCell_1 := dk_seg dksX0_isCell_0 24 rfl rfl
theorem dX0_isCell_0 : decode cX0_isCell 0 = .ok (.iload_n 1, 1) := dk_27 (dk_at dksX0_isCell_0 0 rfl rfl)
theorem dX0_isCell_1 : decode cX0_isCell 1 = .ok (.iconst 0, 1) := dk_3 (dk_at dksX0_isCell_0 1 rfl rfl)
theorem dX0_isCell_2 : decode cX0_isCell 2 = .ok (.aload_n 0, 1) := dk_42 (dk_at dksX0_isCell_0 2 rfl rfl)
theorem dX0_isCell_3 : decode cX0_isCell 3 = .ok (.getfield 318, 3) := dk_180 1 62 (dk_at dksX0_isCell_0 3 rfl rfl)
theorem dX0_isCell_6 : decode cX0_isCell 6 = .ok (.iconst 1, 1) := dk_4 (dk_at dksX0_isCell_0 6 rfl rfl)
theorem dX0_isCell_7 : decode cX0_isCell 7 = .ok (.isub, 1) := dk_100 (dk_at dksX0_isCell_0 7 rfl rfl)
theorem dX0_isCell_8 : decode cX0_isCell 8 = .ok (.invokestatic 143, 3) := dk_184 0 143 (dk_at dksX0_isCell_0 8 rfl rfl)
theorem dX0_isCell_11 : decode cX0_isCell 11 = .ok (.ifCond .eq 16, 3) := dk_153 0 16 (dk_at dksX0_isCell_0 11 rfl rfl)
theorem dX0_isCell_14 : decode cX0_isCell 14 = .ok (.iload_n 2, 1) := dk_28 (dk_at dksX0_isCell_0 14 rfl rfl)
theorem dX0_isCell_15 : decode cX0_isCell 15 = .ok (.iconst 0, 1) := dk_3 (dk_at dksX0_isCell_0 15 rfl rfl)
theorem dX0_isCell_16 : decode cX0_isCell 16 = .ok (.iconst 2, 1) := dk_5 (dk_at dksX0_isCell_0 16 rfl rfl)
theorem dX0_isCell_17 : decode cX0_isCell 17 = .ok (.invokestatic 143, 3) := dk_184 0 143 (dk_at dksX0_isCell_0 17 rfl rfl)
theorem dX0_isCell_20 : decode cX0_isCell 20 = .ok (.ifCond .eq 7, 3) := dk_153 0 7 (dk_at dksX0_isCell_0 20 rfl rfl)
theorem dX0_isCell_23 : decode cX0_isCell 23 = .ok (.iconst 1, 1) := dk_4 (dk_at dksX0_isCell_0 23 rfl rfl)
theorem dX0_isCell_24 : decode cX0_isCell 24 = .ok (.goto 4, 3) := dk_167 0 4 (dk_at dksX0_isCell_1 0 rfl rfl)
theorem dX0_isCell_27 : decode cX0_isCell 27 = .ok (.iconst 0, 1) := dk_3 (dk_at dksX0_isCell_1 3 rfl rfl)
theorem dX0_isCell_28 : decode cX0_isCell 28 = .ok (.ireturn, 1) := dk_172 (dk_at dksX0_isCell_1 4 rfl rfl)
abbrev cX0_alterRow : ByteArray := prog_1_method_46_code
def yX0_alterRow : MethodName := ⟨RX0, "alterRow", "(III)I"⟩
def dkwX0_alterRow_1 : List UInt8 := [54, 4, 42, 180, 0, 94, 27, 50, 180, 1, 68, 28, 29, 79, 21, 4, 172]
abbrev dktX0_alterRow_1 : List UInt8 := dkwX0_alterRow_1 ++ []
def dkwX0_alterRow_0 : List UInt8 := [42, 27, 28, 182, 1, 65, 154, 0, 6, 16, 247, 172, 42, 180, 0, 94, 27, 50, 180, 1, 68, 28, 46]
abbrev dktX0_alterRow_0 : List UInt8 := dkwX0_alterRow_0 ++ dktX0_alterRow_1
theorem dksX0_alterRow_0 : cX0_alterRow.data.toList.drop 0 = dktX0_alterRow_0 := by decide +kernel
theorem dksX0_alterRow_1 : cX0_alterRow.data.toList.drop 23 = dktX0_alterRow_1 := dk_seg dksX0_alterRow_0 23 rfl rfl
theorem dX0_alterRow_0 : decode cX0_alterRow 0 = .ok (.aload_n 0, 1) := dk_42 (dk_at dksX0_alterRow_0 0 rfl rfl)
theorem dX0_alterRow_1 : decode cX0_alterRow 1 = .ok (.iload_n 1, 1) := dk_27 (dk_at dksX0_alterRow_0 1 rfl rfl)
theorem dX0_alterRow_2 : decode cX0_alterRow 2 = .ok (.iload_n 2, 1) := dk_28 (dk_at dksX0_alterRow_0 2 rfl rfl)
theorem dX0_alterRow_3 : decode cX0_alterRow 3 = .ok (.invokevirtual 321, 3) := dk_182 1 65 (dk_at dksX0_alterRow_0 3 rfl rfl)
theorem dX0_alterRow_6 : decode cX0_alterRow 6 = .ok (.ifCond .ne 6, 3) := dk_154 0 6 (dk_at dksX0_alterRow_0 6 rfl rfl)
theorem dX0_alterRow_9 : decode cX0_alterRow 9 = .ok (.bipush (-9), 2) := dk_16 247 (dk_at dksX0_alterRow_0 9 rfl rfl)
theorem dX0_alterRow_11 : decode cX0_alterRow 11 = .ok (.ireturn, 1) := dk_172 (dk_at dksX0_alterRow_0 11 rfl rfl)
theorem dX0_alterRow_12 : decode cX0_alterRow 12 = .ok (.aload_n 0, 1) := dk_42 (dk_at dksX0_alterRow_0 12 rfl rfl)
theorem dX0_alterRow_13 : decode cX0_alterRow 13 = .ok (.getfield 94, 3) := dk_180 0 94 (dk_at dksX0_alterRow_0 13 rfl rfl)
theorem dX0_alterRow_16 : decode cX0_alterRow 16 = .ok (.iload_n 1, 1) := dk_27 (dk_at dksX0_alterRow_0 16 rfl rfl)
theorem dX0_alterRow_17 : decode cX0_alterRow 17 = .ok (.aaload, 1) := dk_50 (dk_at dksX0_alterRow_0 17 rfl rfl)
theorem dX0_alterRow_18 : decode cX0_alterRow 18 = .ok (.getfield 324, 3) := dk_180 1 68 (dk_at dksX0_alterRow_0 18 rfl rfl)
theorem dX0_alterRow_21 : decode cX0_alterRow 21 = .ok (.iload_n 2, 1) := dk_28 (dk_at dksX0_alterRow_0 21 rfl rfl)
theorem dX0_alterRow_22 : decode cX0_alterRow 22 = .ok (.iaload, 1) := dk_46 (dk_at dksX0_alterRow_0 22 rfl rfl)
theorem dX0_alterRow_23 : decode cX0_alterRow 23 = .ok (.istore 4, 2) := dk_54 4 (dk_at dksX0_alterRow_1 0 rfl rfl)
theorem dX0_alterRow_25 : decode cX0_alterRow 25 = .ok (.aload_n 0, 1) := dk_42 (dk_at dksX0_alterRow_1 2 rfl rfl)
theorem dX0_alterRow_26 : decode cX0_alterRow 26 = .ok (.getfield 94, 3) := dk_180 0 94 (dk_at dksX0_alterRow_1 3 rfl rfl)
theorem dX0_alterRow_29 : decode cX0_alterRow 29 = .ok (.iload_n 1, 1) := dk_27 (dk_at dksX0_alterRow_1 6 rfl rfl)
theorem dX0_alterRow_30 : decode cX0_alterRow 30 = .ok (.aaload, 1) := dk_50 (dk_at dksX0_alterRow_1 7 rfl rfl)
theorem dX0_alterRow_31 : decode cX0_alterRow 31 = .ok (.getfield 324, 3) := dk_180 1 68 (dk_at dksX0_alterRow_1 8 rfl rfl)
theorem dX0_alterRow_34 : decode cX0_alterRow 34 = .ok (.iload_n 2, 1) := dk_28 (dk_at dksX0_alterRow_1 11 rfl rfl)
theorem dX0_alterRow_35 : decode cX0_alterRow 35 = .ok (.iload_n 3, 1) := dk_29 (dk_at dksX0_alterRow_1 12 rfl rfl)
theorem dX0_alterRow_36 : decode cX0_alterRow 36 = .ok (.iastore, 1) := dk_79 (dk_at dksX0_alterRow_1 13 rfl rfl)
theorem dX0_alterRow_37 : decode cX0_alterRow 37 = .ok (.iload 4, 2) := dk_21 4 (dk_at dksX0_alterRow_1 14 rfl rfl)
theorem dX0_alterRow_39 : decode cX0_alterRow 39 = .ok (.ireturn, 1) := dk_172 (dk_at dksX0_alterRow_1 16 rfl rfl)
abbrev cX0_prove : ByteArray := prog_1_method_47_code
def yX0_prove : MethodName := ⟨RX0, "prove", "()I"⟩
def dkwX0_prove_2 : List UInt8 := [172]
abbrev dktX0_prove_2 : List UInt8 := dkwX0_prove_2 ++ []
def dkwX0_prove_1 : List UInt8 := [182, 1, 71, 153, 0, 13, 42, 180, 0, 101, 180, 1, 72, 167, 0, 4, 3, 181, 1, 62, 42, 180, 1, 62]
abbrev dktX0_prove_1 : List UInt8 := dkwX0_prove_1 ++ dktX0_prove_2
def dkwX0_prove_0 : List UInt8 := [42, 180, 0, 39, 42, 180, 0, 22, 180, 0, 238, 182, 1, 33, 42, 42, 180, 0, 101, 42, 180, 0, 39]
abbrev dktX0_prove_0 : List UInt8 := dkwX0_prove_0 ++ dktX0_prove_1
theorem dksX0_prove_0 : cX0_prove.data.toList.drop 0 = dktX0_prove_0 := by decide +kernel
theorem dksX0_prove_1 : cX0_prove.data.toList.drop 23 = dktX0_prove_1 := dk_seg dksX0_prove_0 23 rfl rfl
theorem dksX0_prove_2 : cX0_prove.data.toList.drop 47 = dktX0_prove_2 := dk_seg dksX0_prove_1 24 rfl rfl
theorem dX0_prove_0 : decode cX0_prove 0 = .ok (.aload_n 0, 1) := dk_42 (dk_at dksX0_prove_0 0 rfl rfl)
theorem dX0_prove_1 : decode cX0_prove 1 = .ok (.getfield 39, 3) := dk_180 0 39 (dk_at dksX0_prove_0 1 rfl rfl)
theorem dX0_prove_4 : decode cX0_prove 4 = .ok (.aload_n 0, 1) := dk_42 (dk_at dksX0_prove_0 4 rfl rfl)
theorem dX0_prove_5 : decode cX0_prove 5 = .ok (.getfield 22, 3) := dk_180 0 22 (dk_at dksX0_prove_0 5 rfl rfl)
theorem dX0_prove_8 : decode cX0_prove 8 = .ok (.getfield 238, 3) := dk_180 0 238 (dk_at dksX0_prove_0 8 rfl rfl)
theorem dX0_prove_11 : decode cX0_prove 11 = .ok (.invokevirtual 289, 3) := dk_182 1 33 (dk_at dksX0_prove_0 11 rfl rfl)
theorem dX0_prove_14 : decode cX0_prove 14 = .ok (.aload_n 0, 1) := dk_42 (dk_at dksX0_prove_0 14 rfl rfl)
theorem dX0_prove_15 : decode cX0_prove 15 = .ok (.aload_n 0, 1) := dk_42 (dk_at dksX0_prove_0 15 rfl rfl)
theorem dX0_prove_16 : decode cX0_prove 16 = .ok (.getfield 101, 3) := dk_180 0 101 (dk_at dksX0_prove_0 16 rfl rfl)
theorem dX0_prove_19 : decode cX0_prove 19 = .ok (.aload_n 0, 1) := dk_42 (dk_at dksX0_prove_0 19 rfl rfl)
theorem dX0_prove_20 : decode cX0_prove 20 = .ok (.getfield 39, 3) := dk_180 0 39 (dk_at dksX0_prove_0 20 rfl rfl)
theorem dX0_prove_23 : decode cX0_prove 23 = .ok (.invokevirtual 327, 3) := dk_182 1 71 (dk_at dksX0_prove_1 0 rfl rfl)
theorem dX0_prove_26 : decode cX0_prove 26 = .ok (.ifCond .eq 13, 3) := dk_153 0 13 (dk_at dksX0_prove_1 3 rfl rfl)
theorem dX0_prove_29 : decode cX0_prove 29 = .ok (.aload_n 0, 1) := dk_42 (dk_at dksX0_prove_1 6 rfl rfl)
theorem dX0_prove_30 : decode cX0_prove 30 = .ok (.getfield 101, 3) := dk_180 0 101 (dk_at dksX0_prove_1 7 rfl rfl)
theorem dX0_prove_33 : decode cX0_prove 33 = .ok (.getfield 328, 3) := dk_180 1 72 (dk_at dksX0_prove_1 10 rfl rfl)
theorem dX0_prove_36 : decode cX0_prove 36 = .ok (.goto 4, 3) := dk_167 0 4 (dk_at dksX0_prove_1 13 rfl rfl)
theorem dX0_prove_39 : decode cX0_prove 39 = .ok (.iconst 0, 1) := dk_3 (dk_at dksX0_prove_1 16 rfl rfl)
theorem dX0_prove_40 : decode cX0_prove 40 = .ok (.putfield 318, 3) := dk_181 1 62 (dk_at dksX0_prove_1 17 rfl rfl)
theorem dX0_prove_43 : decode cX0_prove 43 = .ok (.aload_n 0, 1) := dk_42 (dk_at dksX0_prove_1 20 rfl rfl)
theorem dX0_prove_44 : decode cX0_prove 44 = .ok (.getfield 318, 3) := dk_180 1 62 (dk_at dksX0_prove_1 21 rfl rfl)
theorem dX0_prove_47 : decode cX0_prove 47 = .ok (.ireturn, 1) := dk_172 (dk_at dksX0_prove_2 0 rfl rfl)
abbrev cX0_judge : ByteArray := prog_1_method_48_code
def yX0_judge : MethodName := ⟨RX0, "judge", "()I"⟩
def dkwX0_judge_3 : List UInt8 := [4, 96, 167, 0, 4, 3, 172]
abbrev dktX0_judge_3 : List UInt8 := dkwX0_judge_3 ++ []
def dkwX0_judge_2 : List UInt8 := [167, 0, 30, 42, 180, 0, 108, 180, 1, 77, 42, 180, 1, 62, 162, 0, 15, 42, 180, 0, 108, 180, 1, 77]
abbrev dktX0_judge_2 : List UInt8 := dkwX0_judge_2 ++ dktX0_judge_3
def dkwX0_judge_1 : List UInt8 := [180, 0, 108, 42, 180, 0, 39, 182, 1, 76, 60, 27, 154, 0, 13, 42, 180, 0, 108, 180, 1, 73]
abbrev dktX0_judge_1 : List UInt8 := dkwX0_judge_1 ++ dktX0_judge_2
def dkwX0_judge_0 : List UInt8 := [42, 180, 0, 39, 42, 180, 0, 22, 180, 0, 238, 182, 1, 33, 42, 180, 0, 108, 3, 181, 1, 73, 42]
abbrev dktX0_judge_0 : List UInt8 := dkwX0_judge_0 ++ dktX0_judge_1
theorem dksX0_judge_0 : cX0_judge.data.toList.drop 0 = dktX0_judge_0 := by decide +kernel
theorem dksX0_judge_1 : cX0_judge.data.toList.drop 23 = dktX0_judge_1 := dk_seg dksX0_judge_0 23 rfl rfl
theorem dksX0_judge_2 : cX0_judge.data.toList.drop 45 = dktX0_judge_2 := dk_seg dksX0_judge_1 22 rfl rfl
theorem dksX0_judge_3 : cX0_judge.data.toList.drop 69 = dktX0_judge_3 := dk_seg dksX0_judge_2 24 rfl rfl
theorem dX0_judge_0 : decode cX0_judge 0 = .ok (.aload_n 0, 1) := dk_42 (dk_at dksX0_judge_0 0 rfl rfl)
theorem dX0_judge_1 : decode cX0_judge 1 = .ok (.getfield 39, 3) := dk_180 0 39 (dk_at dksX0_judge_0 1 rfl rfl)
theorem dX0_judge_4 : decode cX0_judge 4 = .ok (.aload_n 0, 1) := dk_42 (dk_at dksX0_judge_0 4 rfl rfl)
theorem dX0_judge_5 : decode cX0_judge 5 = .ok (.getfield 22, 3) := dk_180 0 22 (dk_at dksX0_judge_0 5 rfl rfl)
theorem dX0_judge_8 : decode cX0_judge 8 = .ok (.getfield 238, 3) := dk_180 0 238 (dk_at dksX0_judge_0 8 rfl rfl)
theorem dX0_judge_11 : decode cX0_judge 11 = .ok (.invokevirtual 289, 3) := dk_182 1 33 (dk_at dksX0_judge_0 11 rfl rfl)
theorem dX0_judge_14 : decode cX0_judge 14 = .ok (.aload_n 0, 1) := dk_42 (dk_at dksX0_judge_0 14 rfl rfl)
theorem dX0_judge_15 : decode cX0_judge 15 = .ok (.getfield 108, 3) := dk_180 0 108 (dk_at dksX0_judge_0 15 rfl rfl)
theorem dX0_judge_18 : decode cX0_judge 18 = .ok (.iconst 0, 1) := dk_3 (dk_at dksX0_judge_0 18 rfl rfl)
theorem dX0_judge_19 : decode cX0_judge 19 = .ok (.putfield 329, 3) := dk_181 1 73 (dk_at dksX0_judge_0 19 rfl rfl)
theorem dX0_judge_22 : decode cX0_judge 22 = .ok (.aload_n 0, 1) := dk_42 (dk_at dksX0_judge_0 22 rfl rfl)
theorem dX0_judge_23 : decode cX0_judge 23 = .ok (.getfield 108, 3) := dk_180 0 108 (dk_at dksX0_judge_1 0 rfl rfl)
theorem dX0_judge_26 : decode cX0_judge 26 = .ok (.aload_n 0, 1) := dk_42 (dk_at dksX0_judge_1 3 rfl rfl)
theorem dX0_judge_27 : decode cX0_judge 27 = .ok (.getfield 39, 3) := dk_180 0 39 (dk_at dksX0_judge_1 4 rfl rfl)
theorem dX0_judge_30 : decode cX0_judge 30 = .ok (.invokevirtual 332, 3) := dk_182 1 76 (dk_at dksX0_judge_1 7 rfl rfl)
theorem dX0_judge_33 : decode cX0_judge 33 = .ok (.istore_n 1, 1) := dk_60 (dk_at dksX0_judge_1 10 rfl rfl)
theorem dX0_judge_34 : decode cX0_judge 34 = .ok (.iload_n 1, 1) := dk_27 (dk_at dksX0_judge_1 11 rfl rfl)
theorem dX0_judge_35 : decode cX0_judge 35 = .ok (.ifCond .ne 13, 3) := dk_154 0 13 (dk_at dksX0_judge_1 12 rfl rfl)
theorem dX0_judge_38 : decode cX0_judge 38 = .ok (.aload_n 0, 1) := dk_42 (dk_at dksX0_judge_1 15 rfl rfl)
theorem dX0_judge_39 : decode cX0_judge 39 = .ok (.getfield 108, 3) := dk_180 0 108 (dk_at dksX0_judge_1 16 rfl rfl)
theorem dX0_judge_42 : decode cX0_judge 42 = .ok (.getfield 329, 3) := dk_180 1 73 (dk_at dksX0_judge_1 19 rfl rfl)
theorem dX0_judge_45 : decode cX0_judge 45 = .ok (.goto 30, 3) := dk_167 0 30 (dk_at dksX0_judge_2 0 rfl rfl)
theorem dX0_judge_48 : decode cX0_judge 48 = .ok (.aload_n 0, 1) := dk_42 (dk_at dksX0_judge_2 3 rfl rfl)
theorem dX0_judge_49 : decode cX0_judge 49 = .ok (.getfield 108, 3) := dk_180 0 108 (dk_at dksX0_judge_2 4 rfl rfl)
theorem dX0_judge_52 : decode cX0_judge 52 = .ok (.getfield 333, 3) := dk_180 1 77 (dk_at dksX0_judge_2 7 rfl rfl)
theorem dX0_judge_55 : decode cX0_judge 55 = .ok (.aload_n 0, 1) := dk_42 (dk_at dksX0_judge_2 10 rfl rfl)
theorem dX0_judge_56 : decode cX0_judge 56 = .ok (.getfield 318, 3) := dk_180 1 62 (dk_at dksX0_judge_2 11 rfl rfl)
theorem dX0_judge_59 : decode cX0_judge 59 = .ok (.if_icmp .ge 15, 3) := dk_162 0 15 (dk_at dksX0_judge_2 14 rfl rfl)
theorem dX0_judge_62 : decode cX0_judge 62 = .ok (.aload_n 0, 1) := dk_42 (dk_at dksX0_judge_2 17 rfl rfl)
theorem dX0_judge_63 : decode cX0_judge 63 = .ok (.getfield 108, 3) := dk_180 0 108 (dk_at dksX0_judge_2 18 rfl rfl)
theorem dX0_judge_66 : decode cX0_judge 66 = .ok (.getfield 333, 3) := dk_180 1 77 (dk_at dksX0_judge_2 21 rfl rfl)
theorem dX0_judge_69 : decode cX0_judge 69 = .ok (.iconst 1, 1) := dk_4 (dk_at dksX0_judge_3 0 rfl rfl)
theorem dX0_judge_70 : decode cX0_judge 70 = .ok (.iadd, 1) := dk_96 (dk_at dksX0_judge_3 1 rfl rfl)
theorem dX0_judge_71 : decode cX0_judge 71 = .ok (.goto 4, 3) := dk_167 0 4 (dk_at dksX0_judge_3 2 rfl rfl)
theorem dX0_judge_74 : decode cX0_judge 74 = .ok (.iconst 0, 1) := dk_3 (dk_at dksX0_judge_3 5 rfl rfl)
theorem dX0_judge_75 : decode cX0_judge 75 = .ok (.ireturn, 1) := dk_172 (dk_at dksX0_judge_3 6 rfl rfl)
abbrev cX0_outs : ByteArray := prog_1_method_51_code
def yX0_outs : MethodName := ⟨RX0, "outs", "(IIII)I"⟩
def dkwX0_outs_2 : List UInt8 := [21, 4, 182, 1, 98, 21, 4, 172, 58, 5, 16, 245, 172, 58, 5, 16, 243, 172, 58, 5, 16, 244, 172]
abbrev dktX0_outs_2 : List UInt8 := dkwX0_outs_2 ++ []
def dkwX0_outs_1 : List UInt8 := [154, 0, 5, 2, 172, 42, 42, 42, 180, 0, 115, 27, 50, 182, 1, 86, 182, 1, 90, 184, 1, 94, 28, 29]
abbrev dktX0_outs_1 : List UInt8 := dkwX0_outs_1 ++ dktX0_outs_2
def dkwX0_outs_0 : List UInt8 := [27, 184, 1, 83, 153, 0, 23, 29, 184, 0, 215, 153, 0, 16, 21, 4, 3, 16, 24, 29, 100, 184, 0, 143]
abbrev dktX0_outs_0 : List UInt8 := dkwX0_outs_0 ++ dktX0_outs_1
theorem dksX0_outs_0 : cX0_outs.data.toList.drop 0 = dktX0_outs_0 := by decide +kernel
theorem dksX0_outs_1 : cX0_outs.data.toList.drop 24 = dktX0_outs_1 := dk_seg dksX0_outs_0 24 rfl rfl
theorem dksX0_outs_2 : cX0_outs.data.toList.drop 48 = dktX0_outs_2 := dk_seg dksX0_outs_1 24 rfl rfl
theorem dX0_outs_0 : decode cX0_outs 0 = .ok (.iload_n 1, 1) := dk_27 (dk_at dksX0_outs_0 0 rfl rfl)
theorem dX0_outs_1 : decode cX0_outs 1 = .ok (.invokestatic 339, 3) := dk_184 1 83 (dk_at dksX0_outs_0 1 rfl rfl)
theorem dX0_outs_4 : decode cX0_outs 4 = .ok (.ifCond .eq 23, 3) := dk_153 0 23 (dk_at dksX0_outs_0 4 rfl rfl)
theorem dX0_outs_7 : decode cX0_outs 7 = .ok (.iload_n 3, 1) := dk_29 (dk_at dksX0_outs_0 7 rfl rfl)
theorem dX0_outs_8 : decode cX0_outs 8 = .ok (.invokestatic 215, 3) := dk_184 0 215 (dk_at dksX0_outs_0 8 rfl rfl)
theorem dX0_outs_11 : decode cX0_outs 11 = .ok (.ifCond .eq 16, 3) := dk_153 0 16 (dk_at dksX0_outs_0 11 rfl rfl)
theorem dX0_outs_14 : decode cX0_outs 14 = .ok (.iload 4, 2) := dk_21 4 (dk_at dksX0_outs_0 14 rfl rfl)
theorem dX0_outs_16 : decode cX0_outs 16 = .ok (.iconst 0, 1) := dk_3 (dk_at dksX0_outs_0 16 rfl rfl)
theorem dX0_outs_17 : decode cX0_outs 17 = .ok (.bipush 24, 2) := dk_16 24 (dk_at dksX0_outs_0 17 rfl rfl)
theorem dX0_outs_19 : decode cX0_outs 19 = .ok (.iload_n 3, 1) := dk_29 (dk_at dksX0_outs_0 19 rfl rfl)
theorem dX0_outs_20 : decode cX0_outs 20 = .ok (.isub, 1) := dk_100 (dk_at dksX0_outs_0 20 rfl rfl)
theorem dX0_outs_21 : decode cX0_outs 21 = .ok (.invokestatic 143, 3) := dk_184 0 143 (dk_at dksX0_outs_0 21 rfl rfl)
theorem dX0_outs_24 : decode cX0_outs 24 = .ok (.ifCond .ne 5, 3) := dk_154 0 5 (dk_at dksX0_outs_1 0 rfl rfl)
theorem dX0_outs_27 : decode cX0_outs 27 = .ok (.iconst (-1), 1) := dk_2 (dk_at dksX0_outs_1 3 rfl rfl)
theorem dX0_outs_28 : decode cX0_outs 28 = .ok (.ireturn, 1) := dk_172 (dk_at dksX0_outs_1 4 rfl rfl)
theorem dX0_outs_29 : decode cX0_outs 29 = .ok (.aload_n 0, 1) := dk_42 (dk_at dksX0_outs_1 5 rfl rfl)
theorem dX0_outs_30 : decode cX0_outs 30 = .ok (.aload_n 0, 1) := dk_42 (dk_at dksX0_outs_1 6 rfl rfl)
theorem dX0_outs_31 : decode cX0_outs 31 = .ok (.aload_n 0, 1) := dk_42 (dk_at dksX0_outs_1 7 rfl rfl)
theorem dX0_outs_32 : decode cX0_outs 32 = .ok (.getfield 115, 3) := dk_180 0 115 (dk_at dksX0_outs_1 8 rfl rfl)
theorem dX0_outs_35 : decode cX0_outs 35 = .ok (.iload_n 1, 1) := dk_27 (dk_at dksX0_outs_1 11 rfl rfl)
theorem dX0_outs_36 : decode cX0_outs 36 = .ok (.aaload, 1) := dk_50 (dk_at dksX0_outs_1 12 rfl rfl)
theorem dX0_outs_37 : decode cX0_outs 37 = .ok (.invokevirtual 342, 3) := dk_182 1 86 (dk_at dksX0_outs_1 13 rfl rfl)
theorem dX0_outs_40 : decode cX0_outs 40 = .ok (.invokevirtual 346, 3) := dk_182 1 90 (dk_at dksX0_outs_1 16 rfl rfl)
theorem dX0_outs_43 : decode cX0_outs 43 = .ok (.invokestatic 350, 3) := dk_184 1 94 (dk_at dksX0_outs_1 19 rfl rfl)
theorem dX0_outs_46 : decode cX0_outs 46 = .ok (.iload_n 2, 1) := dk_28 (dk_at dksX0_outs_1 22 rfl rfl)
theorem dX0_outs_47 : decode cX0_outs 47 = .ok (.iload_n 3, 1) := dk_29 (dk_at dksX0_outs_1 23 rfl rfl)
theorem dX0_outs_48 : decode cX0_outs 48 = .ok (.iload 4, 2) := dk_21 4 (dk_at dksX0_outs_2 0 rfl rfl)
theorem dX0_outs_50 : decode cX0_outs 50 = .ok (.invokevirtual 354, 3) := dk_182 1 98 (dk_at dksX0_outs_2 2 rfl rfl)
theorem dX0_outs_53 : decode cX0_outs 53 = .ok (.iload 4, 2) := dk_21 4 (dk_at dksX0_outs_2 5 rfl rfl)
theorem dX0_outs_55 : decode cX0_outs 55 = .ok (.ireturn, 1) := dk_172 (dk_at dksX0_outs_2 7 rfl rfl)
theorem dX0_outs_56 : decode cX0_outs 56 = .ok (.astore 5, 2) := dk_58 5 (dk_at dksX0_outs_2 8 rfl rfl)
theorem dX0_outs_58 : decode cX0_outs 58 = .ok (.bipush (-11), 2) := dk_16 245 (dk_at dksX0_outs_2 10 rfl rfl)
theorem dX0_outs_60 : decode cX0_outs 60 = .ok (.ireturn, 1) := dk_172 (dk_at dksX0_outs_2 12 rfl rfl)
theorem dX0_outs_61 : decode cX0_outs 61 = .ok (.astore 5, 2) := dk_58 5 (dk_at dksX0_outs_2 13 rfl rfl)
theorem dX0_outs_63 : decode cX0_outs 63 = .ok (.bipush (-13), 2) := dk_16 243 (dk_at dksX0_outs_2 15 rfl rfl)
theorem dX0_outs_65 : decode cX0_outs 65 = .ok (.ireturn, 1) := dk_172 (dk_at dksX0_outs_2 17 rfl rfl)
theorem dX0_outs_66 : decode cX0_outs 66 = .ok (.astore 5, 2) := dk_58 5 (dk_at dksX0_outs_2 18 rfl rfl)
theorem dX0_outs_68 : decode cX0_outs 68 = .ok (.bipush (-12), 2) := dk_16 244 (dk_at dksX0_outs_2 20 rfl rfl)
theorem dX0_outs_70 : decode cX0_outs 70 = .ok (.ireturn, 1) := dk_172 (dk_at dksX0_outs_2 22 rfl rfl)
abbrev cX0_isSheet : ByteArray := prog_1_method_52_code
def yX0_isSheet : MethodName := ⟨RX0, "isSheet", "(I)Z"⟩
def dkwX0_isSheet_0 : List UInt8 := [26, 3, 6, 184, 0, 143, 172]
abbrev dktX0_isSheet_0 : List UInt8 := dkwX0_isSheet_0 ++ []
theorem dksX0_isSheet_0 : cX0_isSheet.data.toList.drop 0 = dktX0_isSheet_0 := by decide +kernel
theorem dX0_isSheet_0 : decode cX0_isSheet 0 = .ok (.iload_n 0, 1) := dk_26 (dk_at dksX0_isSheet_0 0 rfl rfl)
theorem dX0_isSheet_1 : decode cX0_isSheet 1 = .ok (.iconst 0, 1) := dk_3 (dk_at dksX0_isSheet_0 1 rfl rfl)
theorem dX0_isSheet_2 : decode cX0_isSheet 2 = .ok (.iconst 3, 1) := dk_6 (dk_at dksX0_isSheet_0 2 rfl rfl)
theorem dX0_isSheet_3 : decode cX0_isSheet 3 = .ok (.invokestatic 143, 3) := dk_184 0 143 (dk_at dksX0_isSheet_0 3 rfl rfl)
theorem dX0_isSheet_6 : decode cX0_isSheet 6 = .ok (.ireturn, 1) := dk_172 (dk_at dksX0_isSheet_0 6 rfl rfl)
abbrev cX0_there : ByteArray := prog_1_method_55_code
def yX0_there : MethodName := ⟨RX0, "there", "(Ljava/lang/Object;)Ljava/lang/Object;"⟩
def dkwX0_there_0 : List UInt8 := [43, 199, 0, 8, 42, 180, 0, 129, 191, 43, 176]
abbrev dktX0_there_0 : List UInt8 := dkwX0_there_0 ++ []
theorem dksX0_there_0 : cX0_there.data.toList.drop 0 = dktX0_there_0 := by decide +kernel
theorem dX0_there_0 : decode cX0_there 0 = .ok (.aload_n 1, 1) := dk_43 (dk_at dksX0_there_0 0 rfl rfl)
theorem dX0_there_1 : decode cX0_there 1 = .ok (.ifnonnull 8, 3) := dk_199 0 8 (dk_at dksX0_there_0 1 rfl rfl)
theorem dX0_there_4 : decode cX0_there 4 = .ok (.aload_n 0, 1) := dk_42 (dk_at dksX0_there_0 4 rfl rfl)
theorem dX0_there_5 : decode cX0_there 5 = .ok (.getfield 129, 3) := dk_180 0 129 (dk_at dksX0_there_0 5 rfl rfl)
theorem dX0_there_8 : decode cX0_there 8 = .ok (.athrow, 1) := dk_191 (dk_at dksX0_there_0 8 rfl rfl)
theorem dX0_there_9 : decode cX0_there 9 = .ok (.aload_n 1, 1) := dk_43 (dk_at dksX0_there_0 9 rfl rfl)
theorem dX0_there_10 : decode cX0_there 10 = .ok (.areturn, 1) := dk_176 (dk_at dksX0_there_0 10 rfl rfl)
abbrev cX0_shorts : ByteArray := prog_1_method_49_code
def yX0_shorts : MethodName := ⟨RX0, "shorts", "(Ljava/lang/Object;)[S"⟩
theorem dX0_shorts_0 : decode cX0_shorts 0 = .ok (.aload_n 0, 1) := by decide +kernel
theorem dX0_shorts_1 : decode cX0_shorts 1 = .ok (.checkcast 334, 3) := by decide +kernel
theorem dX0_shorts_4 : decode cX0_shorts 4 = .ok (.areturn, 1) := by decide +kernel
abbrev cX0_outsOf : ByteArray := prog_1_method_50_code
def yX0_outsOf : MethodName := ⟨RX0, "outsOf", "([SIII)V"⟩
def dkwX0_outsOf_2 : List UInt8 := [21, 5, 96, 53, 184, 0, 196, 184, 0, 186, 79, 132, 5, 1, 167, 255, 218, 177]
abbrev dktX0_outsOf_2 : List UInt8 := dkwX0_outsOf_2 ++ []
def dkwX0_outsOf_1 : List UInt8 := [21, 5, 21, 4, 162, 0, 37, 42, 180, 0, 22, 180, 0, 220, 29, 21, 5, 96, 16, 236, 16, 30, 43, 28]
abbrev dktX0_outsOf_1 : List UInt8 := dkwX0_outsOf_1 ++ dktX0_outsOf_2
def dkwX0_outsOf_0 : List UInt8 := [42, 28, 43, 190, 4, 96, 182, 1, 80, 42, 21, 4, 43, 190, 28, 100, 4, 96, 182, 1, 80, 3, 54, 5]
abbrev dktX0_outsOf_0 : List UInt8 := dkwX0_outsOf_0 ++ dktX0_outsOf_1
theorem dksX0_outsOf_0 : cX0_outsOf.data.toList.drop 0 = dktX0_outsOf_0 := by decide +kernel
theorem dksX0_outsOf_1 : cX0_outsOf.data.toList.drop 24 = dktX0_outsOf_1 := dk_seg dksX0_outsOf_0 24 rfl rfl
theorem dksX0_outsOf_2 : cX0_outsOf.data.toList.drop 48 = dktX0_outsOf_2 := dk_seg dksX0_outsOf_1 24 rfl rfl
theorem dX0_outsOf_0 : decode cX0_outsOf 0 = .ok (.aload_n 0, 1) := dk_42 (dk_at dksX0_outsOf_0 0 rfl rfl)
theorem dX0_outsOf_1 : decode cX0_outsOf 1 = .ok (.iload_n 2, 1) := dk_28 (dk_at dksX0_outsOf_0 1 rfl rfl)
theorem dX0_outsOf_2 : decode cX0_outsOf 2 = .ok (.aload_n 1, 1) := dk_43 (dk_at dksX0_outsOf_0 2 rfl rfl)
theorem dX0_outsOf_3 : decode cX0_outsOf 3 = .ok (.arraylength, 1) := dk_190 (dk_at dksX0_outsOf_0 3 rfl rfl)
theorem dX0_outsOf_4 : decode cX0_outsOf 4 = .ok (.iconst 1, 1) := dk_4 (dk_at dksX0_outsOf_0 4 rfl rfl)
theorem dX0_outsOf_5 : decode cX0_outsOf 5 = .ok (.iadd, 1) := dk_96 (dk_at dksX0_outsOf_0 5 rfl rfl)
theorem dX0_outsOf_6 : decode cX0_outsOf 6 = .ok (.invokevirtual 336, 3) := dk_182 1 80 (dk_at dksX0_outsOf_0 6 rfl rfl)
theorem dX0_outsOf_9 : decode cX0_outsOf 9 = .ok (.aload_n 0, 1) := dk_42 (dk_at dksX0_outsOf_0 9 rfl rfl)
theorem dX0_outsOf_10 : decode cX0_outsOf 10 = .ok (.iload 4, 2) := dk_21 4 (dk_at dksX0_outsOf_0 10 rfl rfl)
theorem dX0_outsOf_12 : decode cX0_outsOf 12 = .ok (.aload_n 1, 1) := dk_43 (dk_at dksX0_outsOf_0 12 rfl rfl)
theorem dX0_outsOf_13 : decode cX0_outsOf 13 = .ok (.arraylength, 1) := dk_190 (dk_at dksX0_outsOf_0 13 rfl rfl)
theorem dX0_outsOf_14 : decode cX0_outsOf 14 = .ok (.iload_n 2, 1) := dk_28 (dk_at dksX0_outsOf_0 14 rfl rfl)
theorem dX0_outsOf_15 : decode cX0_outsOf 15 = .ok (.isub, 1) := dk_100 (dk_at dksX0_outsOf_0 15 rfl rfl)
theorem dX0_outsOf_16 : decode cX0_outsOf 16 = .ok (.iconst 1, 1) := dk_4 (dk_at dksX0_outsOf_0 16 rfl rfl)
theorem dX0_outsOf_17 : decode cX0_outsOf 17 = .ok (.iadd, 1) := dk_96 (dk_at dksX0_outsOf_0 17 rfl rfl)
theorem dX0_outsOf_18 : decode cX0_outsOf 18 = .ok (.invokevirtual 336, 3) := dk_182 1 80 (dk_at dksX0_outsOf_0 18 rfl rfl)
theorem dX0_outsOf_21 : decode cX0_outsOf 21 = .ok (.iconst 0, 1) := dk_3 (dk_at dksX0_outsOf_0 21 rfl rfl)
theorem dX0_outsOf_22 : decode cX0_outsOf 22 = .ok (.istore 5, 2) := dk_54 5 (dk_at dksX0_outsOf_0 22 rfl rfl)
theorem dX0_outsOf_24 : decode cX0_outsOf 24 = .ok (.iload 5, 2) := dk_21 5 (dk_at dksX0_outsOf_1 0 rfl rfl)
theorem dX0_outsOf_26 : decode cX0_outsOf 26 = .ok (.iload 4, 2) := dk_21 4 (dk_at dksX0_outsOf_1 2 rfl rfl)
theorem dX0_outsOf_28 : decode cX0_outsOf 28 = .ok (.if_icmp .ge 37, 3) := dk_162 0 37 (dk_at dksX0_outsOf_1 4 rfl rfl)
theorem dX0_outsOf_31 : decode cX0_outsOf 31 = .ok (.aload_n 0, 1) := dk_42 (dk_at dksX0_outsOf_1 7 rfl rfl)
theorem dX0_outsOf_32 : decode cX0_outsOf 32 = .ok (.getfield 22, 3) := dk_180 0 22 (dk_at dksX0_outsOf_1 8 rfl rfl)
theorem dX0_outsOf_35 : decode cX0_outsOf 35 = .ok (.getfield 220, 3) := dk_180 0 220 (dk_at dksX0_outsOf_1 11 rfl rfl)
theorem dX0_outsOf_38 : decode cX0_outsOf 38 = .ok (.iload_n 3, 1) := dk_29 (dk_at dksX0_outsOf_1 14 rfl rfl)
theorem dX0_outsOf_39 : decode cX0_outsOf 39 = .ok (.iload 5, 2) := dk_21 5 (dk_at dksX0_outsOf_1 15 rfl rfl)
theorem dX0_outsOf_41 : decode cX0_outsOf 41 = .ok (.iadd, 1) := dk_96 (dk_at dksX0_outsOf_1 17 rfl rfl)
theorem dX0_outsOf_42 : decode cX0_outsOf 42 = .ok (.bipush (-20), 2) := dk_16 236 (dk_at dksX0_outsOf_1 18 rfl rfl)
theorem dX0_outsOf_44 : decode cX0_outsOf 44 = .ok (.bipush 30, 2) := dk_16 30 (dk_at dksX0_outsOf_1 20 rfl rfl)
theorem dX0_outsOf_46 : decode cX0_outsOf 46 = .ok (.aload_n 1, 1) := dk_43 (dk_at dksX0_outsOf_1 22 rfl rfl)
theorem dX0_outsOf_47 : decode cX0_outsOf 47 = .ok (.iload_n 2, 1) := dk_28 (dk_at dksX0_outsOf_1 23 rfl rfl)
theorem dX0_outsOf_48 : decode cX0_outsOf 48 = .ok (.iload 5, 2) := dk_21 5 (dk_at dksX0_outsOf_2 0 rfl rfl)
theorem dX0_outsOf_50 : decode cX0_outsOf 50 = .ok (.iadd, 1) := dk_96 (dk_at dksX0_outsOf_2 2 rfl rfl)
theorem dX0_outsOf_51 : decode cX0_outsOf 51 = .ok (.saload, 1) := dk_53 (dk_at dksX0_outsOf_2 3 rfl rfl)
theorem dX0_outsOf_52 : decode cX0_outsOf 52 = .ok (.invokestatic 196, 3) := dk_184 0 196 (dk_at dksX0_outsOf_2 4 rfl rfl)
theorem dX0_outsOf_55 : decode cX0_outsOf 55 = .ok (.invokestatic 186, 3) := dk_184 0 186 (dk_at dksX0_outsOf_2 7 rfl rfl)
theorem dX0_outsOf_58 : decode cX0_outsOf 58 = .ok (.iastore, 1) := dk_79 (dk_at dksX0_outsOf_2 10 rfl rfl)
theorem dX0_outsOf_59 : decode cX0_outsOf 59 = .ok (.iinc 5 1, 3) := dk_132 5 1 (dk_at dksX0_outsOf_2 11 rfl rfl)
theorem dX0_outsOf_62 : decode cX0_outsOf 62 = .ok (.goto (-38), 3) := dk_167 255 218 (dk_at dksX0_outsOf_2 14 rfl rfl)
theorem dX0_outsOf_65 : decode cX0_outsOf 65 = .ok (.return_, 1) := dk_177 (dk_at dksX0_outsOf_2 17 rfl rfl)
abbrev cX0_within : ByteArray := prog_1_method_54_code
def yX0_within : MethodName := ⟨RX0, "within", "(II)V"⟩
def dkwX0_within_0 : List UInt8 := [27, 155, 0, 8, 27, 28, 161, 0, 8, 42, 180, 0, 122, 191, 177]
abbrev dktX0_within_0 : List UInt8 := dkwX0_within_0 ++ []
theorem dksX0_within_0 : cX0_within.data.toList.drop 0 = dktX0_within_0 := by decide +kernel
theorem dX0_within_0 : decode cX0_within 0 = .ok (.iload_n 1, 1) := dk_27 (dk_at dksX0_within_0 0 rfl rfl)
theorem dX0_within_1 : decode cX0_within 1 = .ok (.ifCond .lt 8, 3) := dk_155 0 8 (dk_at dksX0_within_0 1 rfl rfl)
theorem dX0_within_4 : decode cX0_within 4 = .ok (.iload_n 1, 1) := dk_27 (dk_at dksX0_within_0 4 rfl rfl)
theorem dX0_within_5 : decode cX0_within 5 = .ok (.iload_n 2, 1) := dk_28 (dk_at dksX0_within_0 5 rfl rfl)
theorem dX0_within_6 : decode cX0_within 6 = .ok (.if_icmp .lt 8, 3) := dk_161 0 8 (dk_at dksX0_within_0 6 rfl rfl)
theorem dX0_within_9 : decode cX0_within 9 = .ok (.aload_n 0, 1) := dk_42 (dk_at dksX0_within_0 9 rfl rfl)
theorem dX0_within_10 : decode cX0_within 10 = .ok (.getfield 122, 3) := dk_180 0 122 (dk_at dksX0_within_0 10 rfl rfl)
theorem dX0_within_13 : decode cX0_within 13 = .ok (.athrow, 1) := dk_191 (dk_at dksX0_within_0 13 rfl rfl)
theorem dX0_within_14 : decode cX0_within 14 = .ok (.return_, 1) := dk_177 (dk_at dksX0_within_0 14 rfl rfl)
abbrev cX0_sheet : ByteArray := prog_1_method_56_code
def yX0_sheet : MethodName := ⟨RX0, "sheet", "(III)I"⟩
def dkwX0_sheet_1 : List UInt8 := [164, 0, 5, 2, 172, 42, 180, 0, 115, 27, 50, 28, 29, 182, 1, 108, 4, 172, 58, 4, 16, 242, 172]
abbrev dktX0_sheet_1 : List UInt8 := dkwX0_sheet_1 ++ []
def dkwX0_sheet_0 : List UInt8 := [27, 184, 1, 83, 153, 0, 22, 28, 2, 6, 184, 0, 143, 153, 0, 13, 28, 155, 0, 11, 29, 16, 40]
abbrev dktX0_sheet_0 : List UInt8 := dkwX0_sheet_0 ++ dktX0_sheet_1
theorem dksX0_sheet_0 : cX0_sheet.data.toList.drop 0 = dktX0_sheet_0 := by decide +kernel
theorem dksX0_sheet_1 : cX0_sheet.data.toList.drop 23 = dktX0_sheet_1 := dk_seg dksX0_sheet_0 23 rfl rfl
theorem dX0_sheet_0 : decode cX0_sheet 0 = .ok (.iload_n 1, 1) := dk_27 (dk_at dksX0_sheet_0 0 rfl rfl)
theorem dX0_sheet_1 : decode cX0_sheet 1 = .ok (.invokestatic 339, 3) := dk_184 1 83 (dk_at dksX0_sheet_0 1 rfl rfl)
theorem dX0_sheet_4 : decode cX0_sheet 4 = .ok (.ifCond .eq 22, 3) := dk_153 0 22 (dk_at dksX0_sheet_0 4 rfl rfl)
theorem dX0_sheet_7 : decode cX0_sheet 7 = .ok (.iload_n 2, 1) := dk_28 (dk_at dksX0_sheet_0 7 rfl rfl)
theorem dX0_sheet_8 : decode cX0_sheet 8 = .ok (.iconst (-1), 1) := dk_2 (dk_at dksX0_sheet_0 8 rfl rfl)
theorem dX0_sheet_9 : decode cX0_sheet 9 = .ok (.iconst 3, 1) := dk_6 (dk_at dksX0_sheet_0 9 rfl rfl)
theorem dX0_sheet_10 : decode cX0_sheet 10 = .ok (.invokestatic 143, 3) := dk_184 0 143 (dk_at dksX0_sheet_0 10 rfl rfl)
theorem dX0_sheet_13 : decode cX0_sheet 13 = .ok (.ifCond .eq 13, 3) := dk_153 0 13 (dk_at dksX0_sheet_0 13 rfl rfl)
theorem dX0_sheet_16 : decode cX0_sheet 16 = .ok (.iload_n 2, 1) := dk_28 (dk_at dksX0_sheet_0 16 rfl rfl)
theorem dX0_sheet_17 : decode cX0_sheet 17 = .ok (.ifCond .lt 11, 3) := dk_155 0 11 (dk_at dksX0_sheet_0 17 rfl rfl)
theorem dX0_sheet_20 : decode cX0_sheet 20 = .ok (.iload_n 3, 1) := dk_29 (dk_at dksX0_sheet_0 20 rfl rfl)
theorem dX0_sheet_21 : decode cX0_sheet 21 = .ok (.bipush 40, 2) := dk_16 40 (dk_at dksX0_sheet_0 21 rfl rfl)
theorem dX0_sheet_23 : decode cX0_sheet 23 = .ok (.if_icmp .le 5, 3) := dk_164 0 5 (dk_at dksX0_sheet_1 0 rfl rfl)
theorem dX0_sheet_26 : decode cX0_sheet 26 = .ok (.iconst (-1), 1) := dk_2 (dk_at dksX0_sheet_1 3 rfl rfl)
theorem dX0_sheet_27 : decode cX0_sheet 27 = .ok (.ireturn, 1) := dk_172 (dk_at dksX0_sheet_1 4 rfl rfl)
theorem dX0_sheet_28 : decode cX0_sheet 28 = .ok (.aload_n 0, 1) := dk_42 (dk_at dksX0_sheet_1 5 rfl rfl)
theorem dX0_sheet_29 : decode cX0_sheet 29 = .ok (.getfield 115, 3) := dk_180 0 115 (dk_at dksX0_sheet_1 6 rfl rfl)
theorem dX0_sheet_32 : decode cX0_sheet 32 = .ok (.iload_n 1, 1) := dk_27 (dk_at dksX0_sheet_1 9 rfl rfl)
theorem dX0_sheet_33 : decode cX0_sheet 33 = .ok (.aaload, 1) := dk_50 (dk_at dksX0_sheet_1 10 rfl rfl)
theorem dX0_sheet_34 : decode cX0_sheet 34 = .ok (.iload_n 2, 1) := dk_28 (dk_at dksX0_sheet_1 11 rfl rfl)
theorem dX0_sheet_35 : decode cX0_sheet 35 = .ok (.iload_n 3, 1) := dk_29 (dk_at dksX0_sheet_1 12 rfl rfl)
theorem dX0_sheet_36 : decode cX0_sheet 36 = .ok (.invokevirtual 364, 3) := dk_182 1 108 (dk_at dksX0_sheet_1 13 rfl rfl)
theorem dX0_sheet_39 : decode cX0_sheet 39 = .ok (.iconst 1, 1) := dk_4 (dk_at dksX0_sheet_1 16 rfl rfl)
theorem dX0_sheet_40 : decode cX0_sheet 40 = .ok (.ireturn, 1) := dk_172 (dk_at dksX0_sheet_1 17 rfl rfl)
theorem dX0_sheet_41 : decode cX0_sheet 41 = .ok (.astore 4, 2) := dk_58 4 (dk_at dksX0_sheet_1 18 rfl rfl)
theorem dX0_sheet_43 : decode cX0_sheet 43 = .ok (.bipush (-14), 2) := dk_16 242 (dk_at dksX0_sheet_1 20 rfl rfl)
theorem dX0_sheet_45 : decode cX0_sheet 45 = .ok (.ireturn, 1) := dk_172 (dk_at dksX0_sheet_1 22 rfl rfl)
abbrev cX0_put : ByteArray := prog_1_method_58_code
def yX0_put : MethodName := ⟨RX0, "put", "(III)I"⟩
def dkwX0_put_1 : List UInt8 := [29, 182, 1, 117, 4, 172, 58, 4, 16, 245, 172, 58, 4, 16, 244, 172]
abbrev dktX0_put_1 : List UInt8 := dkwX0_put_1 ++ []
def dkwX0_put_0 : List UInt8 := [27, 184, 1, 83, 154, 0, 5, 2, 172, 42, 42, 42, 180, 0, 115, 27, 50, 182, 1, 86, 182, 1, 90, 28]
abbrev dktX0_put_0 : List UInt8 := dkwX0_put_0 ++ dktX0_put_1
theorem dksX0_put_0 : cX0_put.data.toList.drop 0 = dktX0_put_0 := by decide +kernel
theorem dksX0_put_1 : cX0_put.data.toList.drop 24 = dktX0_put_1 := dk_seg dksX0_put_0 24 rfl rfl
theorem dX0_put_0 : decode cX0_put 0 = .ok (.iload_n 1, 1) := dk_27 (dk_at dksX0_put_0 0 rfl rfl)
theorem dX0_put_1 : decode cX0_put 1 = .ok (.invokestatic 339, 3) := dk_184 1 83 (dk_at dksX0_put_0 1 rfl rfl)
theorem dX0_put_4 : decode cX0_put 4 = .ok (.ifCond .ne 5, 3) := dk_154 0 5 (dk_at dksX0_put_0 4 rfl rfl)
theorem dX0_put_7 : decode cX0_put 7 = .ok (.iconst (-1), 1) := dk_2 (dk_at dksX0_put_0 7 rfl rfl)
theorem dX0_put_8 : decode cX0_put 8 = .ok (.ireturn, 1) := dk_172 (dk_at dksX0_put_0 8 rfl rfl)
theorem dX0_put_9 : decode cX0_put 9 = .ok (.aload_n 0, 1) := dk_42 (dk_at dksX0_put_0 9 rfl rfl)
theorem dX0_put_10 : decode cX0_put 10 = .ok (.aload_n 0, 1) := dk_42 (dk_at dksX0_put_0 10 rfl rfl)
theorem dX0_put_11 : decode cX0_put 11 = .ok (.aload_n 0, 1) := dk_42 (dk_at dksX0_put_0 11 rfl rfl)
theorem dX0_put_12 : decode cX0_put 12 = .ok (.getfield 115, 3) := dk_180 0 115 (dk_at dksX0_put_0 12 rfl rfl)
theorem dX0_put_15 : decode cX0_put 15 = .ok (.iload_n 1, 1) := dk_27 (dk_at dksX0_put_0 15 rfl rfl)
theorem dX0_put_16 : decode cX0_put 16 = .ok (.aaload, 1) := dk_50 (dk_at dksX0_put_0 16 rfl rfl)
theorem dX0_put_17 : decode cX0_put 17 = .ok (.invokevirtual 342, 3) := dk_182 1 86 (dk_at dksX0_put_0 17 rfl rfl)
theorem dX0_put_20 : decode cX0_put 20 = .ok (.invokevirtual 346, 3) := dk_182 1 90 (dk_at dksX0_put_0 20 rfl rfl)
theorem dX0_put_23 : decode cX0_put 23 = .ok (.iload_n 2, 1) := dk_28 (dk_at dksX0_put_0 23 rfl rfl)
theorem dX0_put_24 : decode cX0_put 24 = .ok (.iload_n 3, 1) := dk_29 (dk_at dksX0_put_1 0 rfl rfl)
theorem dX0_put_25 : decode cX0_put 25 = .ok (.invokevirtual 373, 3) := dk_182 1 117 (dk_at dksX0_put_1 1 rfl rfl)
theorem dX0_put_28 : decode cX0_put 28 = .ok (.iconst 1, 1) := dk_4 (dk_at dksX0_put_1 4 rfl rfl)
theorem dX0_put_29 : decode cX0_put 29 = .ok (.ireturn, 1) := dk_172 (dk_at dksX0_put_1 5 rfl rfl)
theorem dX0_put_30 : decode cX0_put 30 = .ok (.astore 4, 2) := dk_58 4 (dk_at dksX0_put_1 6 rfl rfl)
theorem dX0_put_32 : decode cX0_put 32 = .ok (.bipush (-11), 2) := dk_16 245 (dk_at dksX0_put_1 8 rfl rfl)
theorem dX0_put_34 : decode cX0_put 34 = .ok (.ireturn, 1) := dk_172 (dk_at dksX0_put_1 10 rfl rfl)
theorem dX0_put_35 : decode cX0_put 35 = .ok (.astore 4, 2) := dk_58 4 (dk_at dksX0_put_1 11 rfl rfl)
theorem dX0_put_37 : decode cX0_put 37 = .ok (.bipush (-12), 2) := dk_16 244 (dk_at dksX0_put_1 13 rfl rfl)
theorem dX0_put_39 : decode cX0_put 39 = .ok (.ireturn, 1) := dk_172 (dk_at dksX0_put_1 15 rfl rfl)
abbrev cX0_set : ByteArray := prog_1_method_57_code
def yX0_set : MethodName := ⟨RX0, "set", "(Ljava/lang/Object;II)V"⟩
def dkwX0_set_3 : List UInt8 := [177]
abbrev dktX0_set_3 : List UInt8 := dkwX0_set_3 ++ []
def dkwX0_set_2 : List UInt8 := [193, 1, 105, 153, 0, 14, 43, 192, 1, 105, 28, 29, 133, 80, 167, 0, 10, 43, 192, 1, 107, 28, 29, 79]
abbrev dktX0_set_2 : List UInt8 := dkwX0_set_2 ++ dktX0_set_3
def dkwX0_set_1 : List UInt8 := [167, 0, 46, 43, 193, 1, 78, 153, 0, 14, 43, 192, 1, 78, 28, 29, 147, 86, 167, 0, 28, 43]
abbrev dktX0_set_1 : List UInt8 := dkwX0_set_1 ++ dktX0_set_2
def dkwX0_set_0 : List UInt8 := [42, 28, 43, 184, 1, 113, 182, 1, 80, 43, 193, 1, 104, 153, 0, 14, 43, 192, 1, 104, 28, 29, 145, 84]
abbrev dktX0_set_0 : List UInt8 := dkwX0_set_0 ++ dktX0_set_1
theorem dksX0_set_0 : cX0_set.data.toList.drop 0 = dktX0_set_0 := by decide +kernel
theorem dksX0_set_1 : cX0_set.data.toList.drop 24 = dktX0_set_1 := dk_seg dksX0_set_0 24 rfl rfl
theorem dksX0_set_2 : cX0_set.data.toList.drop 46 = dktX0_set_2 := dk_seg dksX0_set_1 22 rfl rfl
theorem dksX0_set_3 : cX0_set.data.toList.drop 70 = dktX0_set_3 := dk_seg dksX0_set_2 24 rfl rfl
theorem dX0_set_0 : decode cX0_set 0 = .ok (.aload_n 0, 1) := dk_42 (dk_at dksX0_set_0 0 rfl rfl)
theorem dX0_set_1 : decode cX0_set 1 = .ok (.iload_n 2, 1) := dk_28 (dk_at dksX0_set_0 1 rfl rfl)
theorem dX0_set_2 : decode cX0_set 2 = .ok (.aload_n 1, 1) := dk_43 (dk_at dksX0_set_0 2 rfl rfl)
theorem dX0_set_3 : decode cX0_set 3 = .ok (.invokestatic 369, 3) := dk_184 1 113 (dk_at dksX0_set_0 3 rfl rfl)
theorem dX0_set_6 : decode cX0_set 6 = .ok (.invokevirtual 336, 3) := dk_182 1 80 (dk_at dksX0_set_0 6 rfl rfl)
theorem dX0_set_9 : decode cX0_set 9 = .ok (.aload_n 1, 1) := dk_43 (dk_at dksX0_set_0 9 rfl rfl)
theorem dX0_set_10 : decode cX0_set 10 = .ok (.instanceof 360, 3) := dk_193 1 104 (dk_at dksX0_set_0 10 rfl rfl)
theorem dX0_set_13 : decode cX0_set 13 = .ok (.ifCond .eq 14, 3) := dk_153 0 14 (dk_at dksX0_set_0 13 rfl rfl)
theorem dX0_set_16 : decode cX0_set 16 = .ok (.aload_n 1, 1) := dk_43 (dk_at dksX0_set_0 16 rfl rfl)
theorem dX0_set_17 : decode cX0_set 17 = .ok (.checkcast 360, 3) := dk_192 1 104 (dk_at dksX0_set_0 17 rfl rfl)
theorem dX0_set_20 : decode cX0_set 20 = .ok (.iload_n 2, 1) := dk_28 (dk_at dksX0_set_0 20 rfl rfl)
theorem dX0_set_21 : decode cX0_set 21 = .ok (.iload_n 3, 1) := dk_29 (dk_at dksX0_set_0 21 rfl rfl)
theorem dX0_set_22 : decode cX0_set 22 = .ok (.i2b, 1) := dk_145 (dk_at dksX0_set_0 22 rfl rfl)
theorem dX0_set_23 : decode cX0_set 23 = .ok (.bastore, 1) := dk_84 (dk_at dksX0_set_0 23 rfl rfl)
theorem dX0_set_24 : decode cX0_set 24 = .ok (.goto 46, 3) := dk_167 0 46 (dk_at dksX0_set_1 0 rfl rfl)
theorem dX0_set_27 : decode cX0_set 27 = .ok (.aload_n 1, 1) := dk_43 (dk_at dksX0_set_1 3 rfl rfl)
theorem dX0_set_28 : decode cX0_set 28 = .ok (.instanceof 334, 3) := dk_193 1 78 (dk_at dksX0_set_1 4 rfl rfl)
theorem dX0_set_31 : decode cX0_set 31 = .ok (.ifCond .eq 14, 3) := dk_153 0 14 (dk_at dksX0_set_1 7 rfl rfl)
theorem dX0_set_34 : decode cX0_set 34 = .ok (.aload_n 1, 1) := dk_43 (dk_at dksX0_set_1 10 rfl rfl)
theorem dX0_set_35 : decode cX0_set 35 = .ok (.checkcast 334, 3) := dk_192 1 78 (dk_at dksX0_set_1 11 rfl rfl)
theorem dX0_set_38 : decode cX0_set 38 = .ok (.iload_n 2, 1) := dk_28 (dk_at dksX0_set_1 14 rfl rfl)
theorem dX0_set_39 : decode cX0_set 39 = .ok (.iload_n 3, 1) := dk_29 (dk_at dksX0_set_1 15 rfl rfl)
theorem dX0_set_40 : decode cX0_set 40 = .ok (.i2s, 1) := dk_147 (dk_at dksX0_set_1 16 rfl rfl)
theorem dX0_set_41 : decode cX0_set 41 = .ok (.sastore, 1) := dk_86 (dk_at dksX0_set_1 17 rfl rfl)
theorem dX0_set_42 : decode cX0_set 42 = .ok (.goto 28, 3) := dk_167 0 28 (dk_at dksX0_set_1 18 rfl rfl)
theorem dX0_set_45 : decode cX0_set 45 = .ok (.aload_n 1, 1) := dk_43 (dk_at dksX0_set_1 21 rfl rfl)
theorem dX0_set_46 : decode cX0_set 46 = .ok (.instanceof 361, 3) := dk_193 1 105 (dk_at dksX0_set_2 0 rfl rfl)
theorem dX0_set_49 : decode cX0_set 49 = .ok (.ifCond .eq 14, 3) := dk_153 0 14 (dk_at dksX0_set_2 3 rfl rfl)
theorem dX0_set_52 : decode cX0_set 52 = .ok (.aload_n 1, 1) := dk_43 (dk_at dksX0_set_2 6 rfl rfl)
theorem dX0_set_53 : decode cX0_set 53 = .ok (.checkcast 361, 3) := dk_192 1 105 (dk_at dksX0_set_2 7 rfl rfl)
theorem dX0_set_56 : decode cX0_set 56 = .ok (.iload_n 2, 1) := dk_28 (dk_at dksX0_set_2 10 rfl rfl)
theorem dX0_set_57 : decode cX0_set 57 = .ok (.iload_n 3, 1) := dk_29 (dk_at dksX0_set_2 11 rfl rfl)
theorem dX0_set_58 : decode cX0_set 58 = .ok (.i2l, 1) := dk_133 (dk_at dksX0_set_2 12 rfl rfl)
theorem dX0_set_59 : decode cX0_set 59 = .ok (.lastore, 1) := dk_80 (dk_at dksX0_set_2 13 rfl rfl)
theorem dX0_set_60 : decode cX0_set 60 = .ok (.goto 10, 3) := dk_167 0 10 (dk_at dksX0_set_2 14 rfl rfl)
theorem dX0_set_63 : decode cX0_set 63 = .ok (.aload_n 1, 1) := dk_43 (dk_at dksX0_set_2 17 rfl rfl)
theorem dX0_set_64 : decode cX0_set 64 = .ok (.checkcast 363, 3) := dk_192 1 107 (dk_at dksX0_set_2 18 rfl rfl)
theorem dX0_set_67 : decode cX0_set 67 = .ok (.iload_n 2, 1) := dk_28 (dk_at dksX0_set_2 21 rfl rfl)
theorem dX0_set_68 : decode cX0_set 68 = .ok (.iload_n 3, 1) := dk_29 (dk_at dksX0_set_2 22 rfl rfl)
theorem dX0_set_69 : decode cX0_set 69 = .ok (.iastore, 1) := dk_79 (dk_at dksX0_set_2 23 rfl rfl)
theorem dX0_set_70 : decode cX0_set 70 = .ok (.return_, 1) := dk_177 (dk_at dksX0_set_3 0 rfl rfl)
abbrev cX0_lengthOf : ByteArray := prog_1_method_53_code
def yX0_lengthOf : MethodName := ⟨RX0, "lengthOf", "(Ljava/lang/Object;)I"⟩
def dkwX0_lengthOf_1 : List UInt8 := [190, 172, 42, 193, 1, 105, 153, 0, 11, 42, 192, 1, 105, 190, 167, 0, 8, 42, 192, 1, 107, 190, 172]
abbrev dktX0_lengthOf_1 : List UInt8 := dkwX0_lengthOf_1 ++ []
def dkwX0_lengthOf_0 : List UInt8 := [42, 193, 1, 104, 153, 0, 9, 42, 192, 1, 104, 190, 172, 42, 193, 1, 78, 153, 0, 9, 42, 192, 1, 78]
abbrev dktX0_lengthOf_0 : List UInt8 := dkwX0_lengthOf_0 ++ dktX0_lengthOf_1
theorem dksX0_lengthOf_0 : cX0_lengthOf.data.toList.drop 0 = dktX0_lengthOf_0 := by decide +kernel
theorem dksX0_lengthOf_1 : cX0_lengthOf.data.toList.drop 24 = dktX0_lengthOf_1 := dk_seg dksX0_lengthOf_0 24 rfl rfl
theorem dX0_lengthOf_0 : decode cX0_lengthOf 0 = .ok (.aload_n 0, 1) := dk_42 (dk_at dksX0_lengthOf_0 0 rfl rfl)
theorem dX0_lengthOf_1 : decode cX0_lengthOf 1 = .ok (.instanceof 360, 3) := dk_193 1 104 (dk_at dksX0_lengthOf_0 1 rfl rfl)
theorem dX0_lengthOf_4 : decode cX0_lengthOf 4 = .ok (.ifCond .eq 9, 3) := dk_153 0 9 (dk_at dksX0_lengthOf_0 4 rfl rfl)
theorem dX0_lengthOf_7 : decode cX0_lengthOf 7 = .ok (.aload_n 0, 1) := dk_42 (dk_at dksX0_lengthOf_0 7 rfl rfl)
theorem dX0_lengthOf_8 : decode cX0_lengthOf 8 = .ok (.checkcast 360, 3) := dk_192 1 104 (dk_at dksX0_lengthOf_0 8 rfl rfl)
theorem dX0_lengthOf_11 : decode cX0_lengthOf 11 = .ok (.arraylength, 1) := dk_190 (dk_at dksX0_lengthOf_0 11 rfl rfl)
theorem dX0_lengthOf_12 : decode cX0_lengthOf 12 = .ok (.ireturn, 1) := dk_172 (dk_at dksX0_lengthOf_0 12 rfl rfl)
theorem dX0_lengthOf_13 : decode cX0_lengthOf 13 = .ok (.aload_n 0, 1) := dk_42 (dk_at dksX0_lengthOf_0 13 rfl rfl)
theorem dX0_lengthOf_14 : decode cX0_lengthOf 14 = .ok (.instanceof 334, 3) := dk_193 1 78 (dk_at dksX0_lengthOf_0 14 rfl rfl)
theorem dX0_lengthOf_17 : decode cX0_lengthOf 17 = .ok (.ifCond .eq 9, 3) := dk_153 0 9 (dk_at dksX0_lengthOf_0 17 rfl rfl)
theorem dX0_lengthOf_20 : decode cX0_lengthOf 20 = .ok (.aload_n 0, 1) := dk_42 (dk_at dksX0_lengthOf_0 20 rfl rfl)
theorem dX0_lengthOf_21 : decode cX0_lengthOf 21 = .ok (.checkcast 334, 3) := dk_192 1 78 (dk_at dksX0_lengthOf_0 21 rfl rfl)
theorem dX0_lengthOf_24 : decode cX0_lengthOf 24 = .ok (.arraylength, 1) := dk_190 (dk_at dksX0_lengthOf_1 0 rfl rfl)
theorem dX0_lengthOf_25 : decode cX0_lengthOf 25 = .ok (.ireturn, 1) := dk_172 (dk_at dksX0_lengthOf_1 1 rfl rfl)
theorem dX0_lengthOf_26 : decode cX0_lengthOf 26 = .ok (.aload_n 0, 1) := dk_42 (dk_at dksX0_lengthOf_1 2 rfl rfl)
theorem dX0_lengthOf_27 : decode cX0_lengthOf 27 = .ok (.instanceof 361, 3) := dk_193 1 105 (dk_at dksX0_lengthOf_1 3 rfl rfl)
theorem dX0_lengthOf_30 : decode cX0_lengthOf 30 = .ok (.ifCond .eq 11, 3) := dk_153 0 11 (dk_at dksX0_lengthOf_1 6 rfl rfl)
theorem dX0_lengthOf_33 : decode cX0_lengthOf 33 = .ok (.aload_n 0, 1) := dk_42 (dk_at dksX0_lengthOf_1 9 rfl rfl)
theorem dX0_lengthOf_34 : decode cX0_lengthOf 34 = .ok (.checkcast 361, 3) := dk_192 1 105 (dk_at dksX0_lengthOf_1 10 rfl rfl)
theorem dX0_lengthOf_37 : decode cX0_lengthOf 37 = .ok (.arraylength, 1) := dk_190 (dk_at dksX0_lengthOf_1 13 rfl rfl)
theorem dX0_lengthOf_38 : decode cX0_lengthOf 38 = .ok (.goto 8, 3) := dk_167 0 8 (dk_at dksX0_lengthOf_1 14 rfl rfl)
theorem dX0_lengthOf_41 : decode cX0_lengthOf 41 = .ok (.aload_n 0, 1) := dk_42 (dk_at dksX0_lengthOf_1 17 rfl rfl)
theorem dX0_lengthOf_42 : decode cX0_lengthOf 42 = .ok (.checkcast 363, 3) := dk_192 1 107 (dk_at dksX0_lengthOf_1 18 rfl rfl)
theorem dX0_lengthOf_45 : decode cX0_lengthOf 45 = .ok (.arraylength, 1) := dk_190 (dk_at dksX0_lengthOf_1 21 rfl rfl)
theorem dX0_lengthOf_46 : decode cX0_lengthOf 46 = .ok (.ireturn, 1) := dk_172 (dk_at dksX0_lengthOf_1 22 rfl rfl)
abbrev cX0_item : ByteArray := prog_1_method_64_code
def yX0_item : MethodName := ⟨RX0, "item", "(III)I"⟩
def dkwX0_item_2 : List UInt8 := [58, 4, 16, 244, 172]
abbrev dktX0_item_2 : List UInt8 := dkwX0_item_2 ++ []
def dkwX0_item_1 : List UInt8 := [27, 50, 182, 1, 86, 182, 1, 90, 28, 29, 182, 1, 137, 172, 58, 4, 16, 245, 172, 58, 4, 16, 243, 172]
abbrev dktX0_item_1 : List UInt8 := dkwX0_item_1 ++ dktX0_item_2
def dkwX0_item_0 : List UInt8 := [27, 184, 1, 83, 153, 0, 12, 28, 3, 6, 184, 0, 143, 154, 0, 5, 2, 172, 42, 42, 42, 180, 0, 115]
abbrev dktX0_item_0 : List UInt8 := dkwX0_item_0 ++ dktX0_item_1
theorem dksX0_item_0 : cX0_item.data.toList.drop 0 = dktX0_item_0 := by decide +kernel
theorem dksX0_item_1 : cX0_item.data.toList.drop 24 = dktX0_item_1 := dk_seg dksX0_item_0 24 rfl rfl
theorem dksX0_item_2 : cX0_item.data.toList.drop 48 = dktX0_item_2 := dk_seg dksX0_item_1 24 rfl rfl
theorem dX0_item_0 : decode cX0_item 0 = .ok (.iload_n 1, 1) := dk_27 (dk_at dksX0_item_0 0 rfl rfl)
theorem dX0_item_1 : decode cX0_item 1 = .ok (.invokestatic 339, 3) := dk_184 1 83 (dk_at dksX0_item_0 1 rfl rfl)
theorem dX0_item_4 : decode cX0_item 4 = .ok (.ifCond .eq 12, 3) := dk_153 0 12 (dk_at dksX0_item_0 4 rfl rfl)
theorem dX0_item_7 : decode cX0_item 7 = .ok (.iload_n 2, 1) := dk_28 (dk_at dksX0_item_0 7 rfl rfl)
theorem dX0_item_8 : decode cX0_item 8 = .ok (.iconst 0, 1) := dk_3 (dk_at dksX0_item_0 8 rfl rfl)
theorem dX0_item_9 : decode cX0_item 9 = .ok (.iconst 3, 1) := dk_6 (dk_at dksX0_item_0 9 rfl rfl)
theorem dX0_item_10 : decode cX0_item 10 = .ok (.invokestatic 143, 3) := dk_184 0 143 (dk_at dksX0_item_0 10 rfl rfl)
theorem dX0_item_13 : decode cX0_item 13 = .ok (.ifCond .ne 5, 3) := dk_154 0 5 (dk_at dksX0_item_0 13 rfl rfl)
theorem dX0_item_16 : decode cX0_item 16 = .ok (.iconst (-1), 1) := dk_2 (dk_at dksX0_item_0 16 rfl rfl)
theorem dX0_item_17 : decode cX0_item 17 = .ok (.ireturn, 1) := dk_172 (dk_at dksX0_item_0 17 rfl rfl)
theorem dX0_item_18 : decode cX0_item 18 = .ok (.aload_n 0, 1) := dk_42 (dk_at dksX0_item_0 18 rfl rfl)
theorem dX0_item_19 : decode cX0_item 19 = .ok (.aload_n 0, 1) := dk_42 (dk_at dksX0_item_0 19 rfl rfl)
theorem dX0_item_20 : decode cX0_item 20 = .ok (.aload_n 0, 1) := dk_42 (dk_at dksX0_item_0 20 rfl rfl)
theorem dX0_item_21 : decode cX0_item 21 = .ok (.getfield 115, 3) := dk_180 0 115 (dk_at dksX0_item_0 21 rfl rfl)
theorem dX0_item_24 : decode cX0_item 24 = .ok (.iload_n 1, 1) := dk_27 (dk_at dksX0_item_1 0 rfl rfl)
theorem dX0_item_25 : decode cX0_item 25 = .ok (.aaload, 1) := dk_50 (dk_at dksX0_item_1 1 rfl rfl)
theorem dX0_item_26 : decode cX0_item 26 = .ok (.invokevirtual 342, 3) := dk_182 1 86 (dk_at dksX0_item_1 2 rfl rfl)
theorem dX0_item_29 : decode cX0_item 29 = .ok (.invokevirtual 346, 3) := dk_182 1 90 (dk_at dksX0_item_1 5 rfl rfl)
theorem dX0_item_32 : decode cX0_item 32 = .ok (.iload_n 2, 1) := dk_28 (dk_at dksX0_item_1 8 rfl rfl)
theorem dX0_item_33 : decode cX0_item 33 = .ok (.iload_n 3, 1) := dk_29 (dk_at dksX0_item_1 9 rfl rfl)
theorem dX0_item_34 : decode cX0_item 34 = .ok (.invokevirtual 393, 3) := dk_182 1 137 (dk_at dksX0_item_1 10 rfl rfl)
theorem dX0_item_37 : decode cX0_item 37 = .ok (.ireturn, 1) := dk_172 (dk_at dksX0_item_1 13 rfl rfl)
theorem dX0_item_38 : decode cX0_item 38 = .ok (.astore 4, 2) := dk_58 4 (dk_at dksX0_item_1 14 rfl rfl)
theorem dX0_item_40 : decode cX0_item 40 = .ok (.bipush (-11), 2) := dk_16 245 (dk_at dksX0_item_1 16 rfl rfl)
theorem dX0_item_42 : decode cX0_item 42 = .ok (.ireturn, 1) := dk_172 (dk_at dksX0_item_1 18 rfl rfl)
theorem dX0_item_43 : decode cX0_item 43 = .ok (.astore 4, 2) := dk_58 4 (dk_at dksX0_item_1 19 rfl rfl)
theorem dX0_item_45 : decode cX0_item 45 = .ok (.bipush (-13), 2) := dk_16 243 (dk_at dksX0_item_1 21 rfl rfl)
theorem dX0_item_47 : decode cX0_item 47 = .ok (.ireturn, 1) := dk_172 (dk_at dksX0_item_1 23 rfl rfl)
theorem dX0_item_48 : decode cX0_item 48 = .ok (.astore 4, 2) := dk_58 4 (dk_at dksX0_item_2 0 rfl rfl)
theorem dX0_item_50 : decode cX0_item 50 = .ok (.bipush (-12), 2) := dk_16 244 (dk_at dksX0_item_2 2 rfl rfl)
theorem dX0_item_52 : decode cX0_item 52 = .ok (.ireturn, 1) := dk_172 (dk_at dksX0_item_2 4 rfl rfl)
abbrev cX0_itemOf : ByteArray := prog_1_method_63_code
def yX0_itemOf : MethodName := ⟨RX0, "itemOf", "(Ljava/lang/Object;II)I"⟩
def dkwX0_itemOf_3 : List UInt8 := [192, 1, 107, 29, 182, 1, 129, 172, 42, 43, 192, 1, 105, 29, 182, 1, 133, 172]
abbrev dktX0_itemOf_3 : List UInt8 := dkwX0_itemOf_3 ++ []
def dkwX0_itemOf_2 : List UInt8 := [42, 43, 192, 1, 104, 29, 182, 1, 121, 172, 42, 43, 192, 1, 78, 29, 182, 1, 125, 172, 42, 43]
abbrev dktX0_itemOf_2 : List UInt8 := dkwX0_itemOf_2 ++ dktX0_itemOf_3
def dkwX0_itemOf_1 : List UInt8 := [170, 0, 0, 0, 0, 0, 57, 0, 0, 0, 0, 0, 0, 0, 2, 0, 0, 0, 27, 0, 0, 0, 37, 0, 0, 0, 47]
abbrev dktX0_itemOf_1 : List UInt8 := dkwX0_itemOf_1 ++ dktX0_itemOf_2
def dkwX0_itemOf_0 : List UInt8 := [28]
abbrev dktX0_itemOf_0 : List UInt8 := dkwX0_itemOf_0 ++ dktX0_itemOf_1
theorem dksX0_itemOf_0 : cX0_itemOf.data.toList.drop 0 = dktX0_itemOf_0 := by decide +kernel
theorem dksX0_itemOf_1 : cX0_itemOf.data.toList.drop 1 = dktX0_itemOf_1 := dk_seg dksX0_itemOf_0 1 rfl rfl
theorem dksX0_itemOf_2 : cX0_itemOf.data.toList.drop 28 = dktX0_itemOf_2 := dk_seg dksX0_itemOf_1 27 rfl rfl
theorem dksX0_itemOf_3 : cX0_itemOf.data.toList.drop 50 = dktX0_itemOf_3 := dk_seg dksX0_itemOf_2 22 rfl rfl
theorem dX0_itemOf_0 : decode cX0_itemOf 0 = .ok (.iload_n 2, 1) := dk_28 (dk_at dksX0_itemOf_0 0 rfl rfl)
theorem dX0_itemOf_1 : decode cX0_itemOf 1 = .ok (.tableswitch 57 0 2 #[27, 37, 47], 27) := by decide +kernel
theorem dX0_itemOf_28 : decode cX0_itemOf 28 = .ok (.aload_n 0, 1) := dk_42 (dk_at dksX0_itemOf_2 0 rfl rfl)
theorem dX0_itemOf_29 : decode cX0_itemOf 29 = .ok (.aload_n 1, 1) := dk_43 (dk_at dksX0_itemOf_2 1 rfl rfl)
theorem dX0_itemOf_30 : decode cX0_itemOf 30 = .ok (.checkcast 360, 3) := dk_192 1 104 (dk_at dksX0_itemOf_2 2 rfl rfl)
theorem dX0_itemOf_33 : decode cX0_itemOf 33 = .ok (.iload_n 3, 1) := dk_29 (dk_at dksX0_itemOf_2 5 rfl rfl)
theorem dX0_itemOf_34 : decode cX0_itemOf 34 = .ok (.invokevirtual 377, 3) := dk_182 1 121 (dk_at dksX0_itemOf_2 6 rfl rfl)
theorem dX0_itemOf_37 : decode cX0_itemOf 37 = .ok (.ireturn, 1) := dk_172 (dk_at dksX0_itemOf_2 9 rfl rfl)
theorem dX0_itemOf_38 : decode cX0_itemOf 38 = .ok (.aload_n 0, 1) := dk_42 (dk_at dksX0_itemOf_2 10 rfl rfl)
theorem dX0_itemOf_39 : decode cX0_itemOf 39 = .ok (.aload_n 1, 1) := dk_43 (dk_at dksX0_itemOf_2 11 rfl rfl)
theorem dX0_itemOf_40 : decode cX0_itemOf 40 = .ok (.checkcast 334, 3) := dk_192 1 78 (dk_at dksX0_itemOf_2 12 rfl rfl)
theorem dX0_itemOf_43 : decode cX0_itemOf 43 = .ok (.iload_n 3, 1) := dk_29 (dk_at dksX0_itemOf_2 15 rfl rfl)
theorem dX0_itemOf_44 : decode cX0_itemOf 44 = .ok (.invokevirtual 381, 3) := dk_182 1 125 (dk_at dksX0_itemOf_2 16 rfl rfl)
theorem dX0_itemOf_47 : decode cX0_itemOf 47 = .ok (.ireturn, 1) := dk_172 (dk_at dksX0_itemOf_2 19 rfl rfl)
theorem dX0_itemOf_48 : decode cX0_itemOf 48 = .ok (.aload_n 0, 1) := dk_42 (dk_at dksX0_itemOf_2 20 rfl rfl)
theorem dX0_itemOf_49 : decode cX0_itemOf 49 = .ok (.aload_n 1, 1) := dk_43 (dk_at dksX0_itemOf_2 21 rfl rfl)
theorem dX0_itemOf_50 : decode cX0_itemOf 50 = .ok (.checkcast 363, 3) := dk_192 1 107 (dk_at dksX0_itemOf_3 0 rfl rfl)
theorem dX0_itemOf_53 : decode cX0_itemOf 53 = .ok (.iload_n 3, 1) := dk_29 (dk_at dksX0_itemOf_3 3 rfl rfl)
theorem dX0_itemOf_54 : decode cX0_itemOf 54 = .ok (.invokevirtual 385, 3) := dk_182 1 129 (dk_at dksX0_itemOf_3 4 rfl rfl)
theorem dX0_itemOf_57 : decode cX0_itemOf 57 = .ok (.ireturn, 1) := dk_172 (dk_at dksX0_itemOf_3 7 rfl rfl)
theorem dX0_itemOf_58 : decode cX0_itemOf 58 = .ok (.aload_n 0, 1) := dk_42 (dk_at dksX0_itemOf_3 8 rfl rfl)
theorem dX0_itemOf_59 : decode cX0_itemOf 59 = .ok (.aload_n 1, 1) := dk_43 (dk_at dksX0_itemOf_3 9 rfl rfl)
theorem dX0_itemOf_60 : decode cX0_itemOf 60 = .ok (.checkcast 361, 3) := dk_192 1 105 (dk_at dksX0_itemOf_3 10 rfl rfl)
theorem dX0_itemOf_63 : decode cX0_itemOf 63 = .ok (.iload_n 3, 1) := dk_29 (dk_at dksX0_itemOf_3 13 rfl rfl)
theorem dX0_itemOf_64 : decode cX0_itemOf 64 = .ok (.invokevirtual 389, 3) := dk_182 1 133 (dk_at dksX0_itemOf_3 14 rfl rfl)
theorem dX0_itemOf_67 : decode cX0_itemOf 67 = .ok (.ireturn, 1) := dk_172 (dk_at dksX0_itemOf_3 17 rfl rfl)
abbrev cX0_byteAt : ByteArray := prog_1_method_59_code
def yX0_byteAt : MethodName := ⟨RX0, "byteAt", "([BI)I"⟩
def dkwX0_byteAt_0 : List UInt8 := [42, 28, 43, 190, 182, 1, 80, 43, 28, 51, 172]
abbrev dktX0_byteAt_0 : List UInt8 := dkwX0_byteAt_0 ++ []
theorem dksX0_byteAt_0 : cX0_byteAt.data.toList.drop 0 = dktX0_byteAt_0 := by decide +kernel
theorem dX0_byteAt_0 : decode cX0_byteAt 0 = .ok (.aload_n 0, 1) := dk_42 (dk_at dksX0_byteAt_0 0 rfl rfl)
theorem dX0_byteAt_1 : decode cX0_byteAt 1 = .ok (.iload_n 2, 1) := dk_28 (dk_at dksX0_byteAt_0 1 rfl rfl)
theorem dX0_byteAt_2 : decode cX0_byteAt 2 = .ok (.aload_n 1, 1) := dk_43 (dk_at dksX0_byteAt_0 2 rfl rfl)
theorem dX0_byteAt_3 : decode cX0_byteAt 3 = .ok (.arraylength, 1) := dk_190 (dk_at dksX0_byteAt_0 3 rfl rfl)
theorem dX0_byteAt_4 : decode cX0_byteAt 4 = .ok (.invokevirtual 336, 3) := dk_182 1 80 (dk_at dksX0_byteAt_0 4 rfl rfl)
theorem dX0_byteAt_7 : decode cX0_byteAt 7 = .ok (.aload_n 1, 1) := dk_43 (dk_at dksX0_byteAt_0 7 rfl rfl)
theorem dX0_byteAt_8 : decode cX0_byteAt 8 = .ok (.iload_n 2, 1) := dk_28 (dk_at dksX0_byteAt_0 8 rfl rfl)
theorem dX0_byteAt_9 : decode cX0_byteAt 9 = .ok (.baload, 1) := dk_51 (dk_at dksX0_byteAt_0 9 rfl rfl)
theorem dX0_byteAt_10 : decode cX0_byteAt 10 = .ok (.ireturn, 1) := dk_172 (dk_at dksX0_byteAt_0 10 rfl rfl)
abbrev cX0_shortAt : ByteArray := prog_1_method_60_code
def yX0_shortAt : MethodName := ⟨RX0, "shortAt", "([SI)I"⟩
def dkwX0_shortAt_0 : List UInt8 := [42, 28, 43, 190, 182, 1, 80, 43, 28, 53, 172]
abbrev dktX0_shortAt_0 : List UInt8 := dkwX0_shortAt_0 ++ []
theorem dksX0_shortAt_0 : cX0_shortAt.data.toList.drop 0 = dktX0_shortAt_0 := by decide +kernel
theorem dX0_shortAt_0 : decode cX0_shortAt 0 = .ok (.aload_n 0, 1) := dk_42 (dk_at dksX0_shortAt_0 0 rfl rfl)
theorem dX0_shortAt_1 : decode cX0_shortAt 1 = .ok (.iload_n 2, 1) := dk_28 (dk_at dksX0_shortAt_0 1 rfl rfl)
theorem dX0_shortAt_2 : decode cX0_shortAt 2 = .ok (.aload_n 1, 1) := dk_43 (dk_at dksX0_shortAt_0 2 rfl rfl)
theorem dX0_shortAt_3 : decode cX0_shortAt 3 = .ok (.arraylength, 1) := dk_190 (dk_at dksX0_shortAt_0 3 rfl rfl)
theorem dX0_shortAt_4 : decode cX0_shortAt 4 = .ok (.invokevirtual 336, 3) := dk_182 1 80 (dk_at dksX0_shortAt_0 4 rfl rfl)
theorem dX0_shortAt_7 : decode cX0_shortAt 7 = .ok (.aload_n 1, 1) := dk_43 (dk_at dksX0_shortAt_0 7 rfl rfl)
theorem dX0_shortAt_8 : decode cX0_shortAt 8 = .ok (.iload_n 2, 1) := dk_28 (dk_at dksX0_shortAt_0 8 rfl rfl)
theorem dX0_shortAt_9 : decode cX0_shortAt 9 = .ok (.saload, 1) := dk_53 (dk_at dksX0_shortAt_0 9 rfl rfl)
theorem dX0_shortAt_10 : decode cX0_shortAt 10 = .ok (.ireturn, 1) := dk_172 (dk_at dksX0_shortAt_0 10 rfl rfl)
abbrev cX0_intAt : ByteArray := prog_1_method_61_code
def yX0_intAt : MethodName := ⟨RX0, "intAt", "([II)I"⟩
def dkwX0_intAt_0 : List UInt8 := [42, 28, 43, 190, 182, 1, 80, 43, 28, 46, 172]
abbrev dktX0_intAt_0 : List UInt8 := dkwX0_intAt_0 ++ []
theorem dksX0_intAt_0 : cX0_intAt.data.toList.drop 0 = dktX0_intAt_0 := by decide +kernel
theorem dX0_intAt_0 : decode cX0_intAt 0 = .ok (.aload_n 0, 1) := dk_42 (dk_at dksX0_intAt_0 0 rfl rfl)
theorem dX0_intAt_1 : decode cX0_intAt 1 = .ok (.iload_n 2, 1) := dk_28 (dk_at dksX0_intAt_0 1 rfl rfl)
theorem dX0_intAt_2 : decode cX0_intAt 2 = .ok (.aload_n 1, 1) := dk_43 (dk_at dksX0_intAt_0 2 rfl rfl)
theorem dX0_intAt_3 : decode cX0_intAt 3 = .ok (.arraylength, 1) := dk_190 (dk_at dksX0_intAt_0 3 rfl rfl)
theorem dX0_intAt_4 : decode cX0_intAt 4 = .ok (.invokevirtual 336, 3) := dk_182 1 80 (dk_at dksX0_intAt_0 4 rfl rfl)
theorem dX0_intAt_7 : decode cX0_intAt 7 = .ok (.aload_n 1, 1) := dk_43 (dk_at dksX0_intAt_0 7 rfl rfl)
theorem dX0_intAt_8 : decode cX0_intAt 8 = .ok (.iload_n 2, 1) := dk_28 (dk_at dksX0_intAt_0 8 rfl rfl)
theorem dX0_intAt_9 : decode cX0_intAt 9 = .ok (.iaload, 1) := dk_46 (dk_at dksX0_intAt_0 9 rfl rfl)
theorem dX0_intAt_10 : decode cX0_intAt 10 = .ok (.ireturn, 1) := dk_172 (dk_at dksX0_intAt_0 10 rfl rfl)
abbrev cX0_longAt : ByteArray := prog_1_method_62_code
def yX0_longAt : MethodName := ⟨RX0, "longAt", "([JI)I"⟩
def dkwX0_longAt_0 : List UInt8 := [42, 28, 43, 190, 182, 1, 80, 43, 28, 47, 136, 172]
abbrev dktX0_longAt_0 : List UInt8 := dkwX0_longAt_0 ++ []
theorem dksX0_longAt_0 : cX0_longAt.data.toList.drop 0 = dktX0_longAt_0 := by decide +kernel
theorem dX0_longAt_0 : decode cX0_longAt 0 = .ok (.aload_n 0, 1) := dk_42 (dk_at dksX0_longAt_0 0 rfl rfl)
theorem dX0_longAt_1 : decode cX0_longAt 1 = .ok (.iload_n 2, 1) := dk_28 (dk_at dksX0_longAt_0 1 rfl rfl)
theorem dX0_longAt_2 : decode cX0_longAt 2 = .ok (.aload_n 1, 1) := dk_43 (dk_at dksX0_longAt_0 2 rfl rfl)
theorem dX0_longAt_3 : decode cX0_longAt 3 = .ok (.arraylength, 1) := dk_190 (dk_at dksX0_longAt_0 3 rfl rfl)
theorem dX0_longAt_4 : decode cX0_longAt 4 = .ok (.invokevirtual 336, 3) := dk_182 1 80 (dk_at dksX0_longAt_0 4 rfl rfl)
theorem dX0_longAt_7 : decode cX0_longAt 7 = .ok (.aload_n 1, 1) := dk_43 (dk_at dksX0_longAt_0 7 rfl rfl)
theorem dX0_longAt_8 : decode cX0_longAt 8 = .ok (.iload_n 2, 1) := dk_28 (dk_at dksX0_longAt_0 8 rfl rfl)
theorem dX0_longAt_9 : decode cX0_longAt 9 = .ok (.laload, 1) := dk_47 (dk_at dksX0_longAt_0 9 rfl rfl)
theorem dX0_longAt_10 : decode cX0_longAt 10 = .ok (.l2i, 1) := dk_136 (dk_at dksX0_longAt_0 10 rfl rfl)
theorem dX0_longAt_11 : decode cX0_longAt 11 = .ok (.ireturn, 1) := dk_172 (dk_at dksX0_longAt_0 11 rfl rfl)
abbrev cX0_shelf : ByteArray := prog_1_method_68_code
def yX0_shelf : MethodName := ⟨RX0, "shelf", "(III)I"⟩
def dkwX0_shelf_4 : List UInt8 := [181, 1, 154, 4, 172]
abbrev dktX0_shelf_4 : List UInt8 := dkwX0_shelf_4 ++ []
def dkwX0_shelf_3 : List UInt8 := [180, 0, 139, 27, 50, 28, 4, 160, 0, 15, 42, 180, 0, 115, 29, 50, 182, 1, 86, 167, 0, 4, 1]
abbrev dktX0_shelf_3 : List UInt8 := dkwX0_shelf_3 ++ dktX0_shelf_4
def dkwX0_shelf_2 : List UInt8 := [181, 1, 144, 42, 180, 0, 139, 27, 50, 28, 154, 0, 7, 29, 167, 0, 4, 3, 181, 1, 147, 42]
abbrev dktX0_shelf_2 : List UInt8 := dkwX0_shelf_2 ++ dktX0_shelf_3
def dkwX0_shelf_1 : List UInt8 := [153, 0, 15, 28, 4, 160, 0, 12, 29, 184, 1, 83, 154, 0, 5, 2, 172, 42, 180, 0, 139, 27, 50, 28]
abbrev dktX0_shelf_1 : List UInt8 := dkwX0_shelf_1 ++ dktX0_shelf_2
def dkwX0_shelf_0 : List UInt8 := [27, 184, 1, 157, 153, 0, 35, 28, 3, 5, 184, 0, 143, 153, 0, 26, 28, 154, 0, 10, 29, 184, 0, 215]
abbrev dktX0_shelf_0 : List UInt8 := dkwX0_shelf_0 ++ dktX0_shelf_1
theorem dksX0_shelf_0 : cX0_shelf.data.toList.drop 0 = dktX0_shelf_0 := by decide +kernel
theorem dksX0_shelf_1 : cX0_shelf.data.toList.drop 24 = dktX0_shelf_1 := dk_seg dksX0_shelf_0 24 rfl rfl
theorem dksX0_shelf_2 : cX0_shelf.data.toList.drop 48 = dktX0_shelf_2 := dk_seg dksX0_shelf_1 24 rfl rfl
theorem dksX0_shelf_3 : cX0_shelf.data.toList.drop 70 = dktX0_shelf_3 := dk_seg dksX0_shelf_2 22 rfl rfl
theorem dksX0_shelf_4 : cX0_shelf.data.toList.drop 93 = dktX0_shelf_4 := dk_seg dksX0_shelf_3 23 rfl rfl
theorem dX0_shelf_0 : decode cX0_shelf 0 = .ok (.iload_n 1, 1) := dk_27 (dk_at dksX0_shelf_0 0 rfl rfl)
theorem dX0_shelf_1 : decode cX0_shelf 1 = .ok (.invokestatic 413, 3) := dk_184 1 157 (dk_at dksX0_shelf_0 1 rfl rfl)
theorem dX0_shelf_4 : decode cX0_shelf 4 = .ok (.ifCond .eq 35, 3) := dk_153 0 35 (dk_at dksX0_shelf_0 4 rfl rfl)
theorem dX0_shelf_7 : decode cX0_shelf 7 = .ok (.iload_n 2, 1) := dk_28 (dk_at dksX0_shelf_0 7 rfl rfl)
theorem dX0_shelf_8 : decode cX0_shelf 8 = .ok (.iconst 0, 1) := dk_3 (dk_at dksX0_shelf_0 8 rfl rfl)
theorem dX0_shelf_9 : decode cX0_shelf 9 = .ok (.iconst 2, 1) := dk_5 (dk_at dksX0_shelf_0 9 rfl rfl)
theorem dX0_shelf_10 : decode cX0_shelf 10 = .ok (.invokestatic 143, 3) := dk_184 0 143 (dk_at dksX0_shelf_0 10 rfl rfl)
theorem dX0_shelf_13 : decode cX0_shelf 13 = .ok (.ifCond .eq 26, 3) := dk_153 0 26 (dk_at dksX0_shelf_0 13 rfl rfl)
theorem dX0_shelf_16 : decode cX0_shelf 16 = .ok (.iload_n 2, 1) := dk_28 (dk_at dksX0_shelf_0 16 rfl rfl)
theorem dX0_shelf_17 : decode cX0_shelf 17 = .ok (.ifCond .ne 10, 3) := dk_154 0 10 (dk_at dksX0_shelf_0 17 rfl rfl)
theorem dX0_shelf_20 : decode cX0_shelf 20 = .ok (.iload_n 3, 1) := dk_29 (dk_at dksX0_shelf_0 20 rfl rfl)
theorem dX0_shelf_21 : decode cX0_shelf 21 = .ok (.invokestatic 215, 3) := dk_184 0 215 (dk_at dksX0_shelf_0 21 rfl rfl)
theorem dX0_shelf_24 : decode cX0_shelf 24 = .ok (.ifCond .eq 15, 3) := dk_153 0 15 (dk_at dksX0_shelf_1 0 rfl rfl)
theorem dX0_shelf_27 : decode cX0_shelf 27 = .ok (.iload_n 2, 1) := dk_28 (dk_at dksX0_shelf_1 3 rfl rfl)
theorem dX0_shelf_28 : decode cX0_shelf 28 = .ok (.iconst 1, 1) := dk_4 (dk_at dksX0_shelf_1 4 rfl rfl)
theorem dX0_shelf_29 : decode cX0_shelf 29 = .ok (.if_icmp .ne 12, 3) := dk_160 0 12 (dk_at dksX0_shelf_1 5 rfl rfl)
theorem dX0_shelf_32 : decode cX0_shelf 32 = .ok (.iload_n 3, 1) := dk_29 (dk_at dksX0_shelf_1 8 rfl rfl)
theorem dX0_shelf_33 : decode cX0_shelf 33 = .ok (.invokestatic 339, 3) := dk_184 1 83 (dk_at dksX0_shelf_1 9 rfl rfl)
theorem dX0_shelf_36 : decode cX0_shelf 36 = .ok (.ifCond .ne 5, 3) := dk_154 0 5 (dk_at dksX0_shelf_1 12 rfl rfl)
theorem dX0_shelf_39 : decode cX0_shelf 39 = .ok (.iconst (-1), 1) := dk_2 (dk_at dksX0_shelf_1 15 rfl rfl)
theorem dX0_shelf_40 : decode cX0_shelf 40 = .ok (.ireturn, 1) := dk_172 (dk_at dksX0_shelf_1 16 rfl rfl)
theorem dX0_shelf_41 : decode cX0_shelf 41 = .ok (.aload_n 0, 1) := dk_42 (dk_at dksX0_shelf_1 17 rfl rfl)
theorem dX0_shelf_42 : decode cX0_shelf 42 = .ok (.getfield 139, 3) := dk_180 0 139 (dk_at dksX0_shelf_1 18 rfl rfl)
theorem dX0_shelf_45 : decode cX0_shelf 45 = .ok (.iload_n 1, 1) := dk_27 (dk_at dksX0_shelf_1 21 rfl rfl)
theorem dX0_shelf_46 : decode cX0_shelf 46 = .ok (.aaload, 1) := dk_50 (dk_at dksX0_shelf_1 22 rfl rfl)
theorem dX0_shelf_47 : decode cX0_shelf 47 = .ok (.iload_n 2, 1) := dk_28 (dk_at dksX0_shelf_1 23 rfl rfl)
theorem dX0_shelf_48 : decode cX0_shelf 48 = .ok (.putfield 400, 3) := dk_181 1 144 (dk_at dksX0_shelf_2 0 rfl rfl)
theorem dX0_shelf_51 : decode cX0_shelf 51 = .ok (.aload_n 0, 1) := dk_42 (dk_at dksX0_shelf_2 3 rfl rfl)
theorem dX0_shelf_52 : decode cX0_shelf 52 = .ok (.getfield 139, 3) := dk_180 0 139 (dk_at dksX0_shelf_2 4 rfl rfl)
theorem dX0_shelf_55 : decode cX0_shelf 55 = .ok (.iload_n 1, 1) := dk_27 (dk_at dksX0_shelf_2 7 rfl rfl)
theorem dX0_shelf_56 : decode cX0_shelf 56 = .ok (.aaload, 1) := dk_50 (dk_at dksX0_shelf_2 8 rfl rfl)
theorem dX0_shelf_57 : decode cX0_shelf 57 = .ok (.iload_n 2, 1) := dk_28 (dk_at dksX0_shelf_2 9 rfl rfl)
theorem dX0_shelf_58 : decode cX0_shelf 58 = .ok (.ifCond .ne 7, 3) := dk_154 0 7 (dk_at dksX0_shelf_2 10 rfl rfl)
theorem dX0_shelf_61 : decode cX0_shelf 61 = .ok (.iload_n 3, 1) := dk_29 (dk_at dksX0_shelf_2 13 rfl rfl)
theorem dX0_shelf_62 : decode cX0_shelf 62 = .ok (.goto 4, 3) := dk_167 0 4 (dk_at dksX0_shelf_2 14 rfl rfl)
theorem dX0_shelf_65 : decode cX0_shelf 65 = .ok (.iconst 0, 1) := dk_3 (dk_at dksX0_shelf_2 17 rfl rfl)
theorem dX0_shelf_66 : decode cX0_shelf 66 = .ok (.putfield 403, 3) := dk_181 1 147 (dk_at dksX0_shelf_2 18 rfl rfl)
theorem dX0_shelf_69 : decode cX0_shelf 69 = .ok (.aload_n 0, 1) := dk_42 (dk_at dksX0_shelf_2 21 rfl rfl)
theorem dX0_shelf_70 : decode cX0_shelf 70 = .ok (.getfield 139, 3) := dk_180 0 139 (dk_at dksX0_shelf_3 0 rfl rfl)
theorem dX0_shelf_73 : decode cX0_shelf 73 = .ok (.iload_n 1, 1) := dk_27 (dk_at dksX0_shelf_3 3 rfl rfl)
theorem dX0_shelf_74 : decode cX0_shelf 74 = .ok (.aaload, 1) := dk_50 (dk_at dksX0_shelf_3 4 rfl rfl)
theorem dX0_shelf_75 : decode cX0_shelf 75 = .ok (.iload_n 2, 1) := dk_28 (dk_at dksX0_shelf_3 5 rfl rfl)
theorem dX0_shelf_76 : decode cX0_shelf 76 = .ok (.iconst 1, 1) := dk_4 (dk_at dksX0_shelf_3 6 rfl rfl)
theorem dX0_shelf_77 : decode cX0_shelf 77 = .ok (.if_icmp .ne 15, 3) := dk_160 0 15 (dk_at dksX0_shelf_3 7 rfl rfl)
theorem dX0_shelf_80 : decode cX0_shelf 80 = .ok (.aload_n 0, 1) := dk_42 (dk_at dksX0_shelf_3 10 rfl rfl)
theorem dX0_shelf_81 : decode cX0_shelf 81 = .ok (.getfield 115, 3) := dk_180 0 115 (dk_at dksX0_shelf_3 11 rfl rfl)
theorem dX0_shelf_84 : decode cX0_shelf 84 = .ok (.iload_n 3, 1) := dk_29 (dk_at dksX0_shelf_3 14 rfl rfl)
theorem dX0_shelf_85 : decode cX0_shelf 85 = .ok (.aaload, 1) := dk_50 (dk_at dksX0_shelf_3 15 rfl rfl)
theorem dX0_shelf_86 : decode cX0_shelf 86 = .ok (.invokevirtual 342, 3) := dk_182 1 86 (dk_at dksX0_shelf_3 16 rfl rfl)
theorem dX0_shelf_89 : decode cX0_shelf 89 = .ok (.goto 4, 3) := dk_167 0 4 (dk_at dksX0_shelf_3 19 rfl rfl)
theorem dX0_shelf_92 : decode cX0_shelf 92 = .ok (.aconst_null, 1) := dk_1 (dk_at dksX0_shelf_3 22 rfl rfl)
theorem dX0_shelf_93 : decode cX0_shelf 93 = .ok (.putfield 410, 3) := dk_181 1 154 (dk_at dksX0_shelf_4 0 rfl rfl)
theorem dX0_shelf_96 : decode cX0_shelf 96 = .ok (.iconst 1, 1) := dk_4 (dk_at dksX0_shelf_4 3 rfl rfl)
theorem dX0_shelf_97 : decode cX0_shelf 97 = .ok (.ireturn, 1) := dk_172 (dk_at dksX0_shelf_4 4 rfl rfl)
abbrev cX0_isShelf : ByteArray := prog_1_method_66_code
def yX0_isShelf : MethodName := ⟨RX0, "isShelf", "(I)Z"⟩
def dkwX0_isShelf_0 : List UInt8 := [26, 3, 6, 184, 0, 143, 172]
abbrev dktX0_isShelf_0 : List UInt8 := dkwX0_isShelf_0 ++ []
theorem dksX0_isShelf_0 : cX0_isShelf.data.toList.drop 0 = dktX0_isShelf_0 := by decide +kernel
theorem dX0_isShelf_0 : decode cX0_isShelf 0 = .ok (.iload_n 0, 1) := dk_26 (dk_at dksX0_isShelf_0 0 rfl rfl)
theorem dX0_isShelf_1 : decode cX0_isShelf 1 = .ok (.iconst 0, 1) := dk_3 (dk_at dksX0_isShelf_0 1 rfl rfl)
theorem dX0_isShelf_2 : decode cX0_isShelf 2 = .ok (.iconst 3, 1) := dk_6 (dk_at dksX0_isShelf_0 2 rfl rfl)
theorem dX0_isShelf_3 : decode cX0_isShelf 3 = .ok (.invokestatic 143, 3) := dk_184 0 143 (dk_at dksX0_isShelf_0 3 rfl rfl)
theorem dX0_isShelf_6 : decode cX0_isShelf 6 = .ok (.ireturn, 1) := dk_172 (dk_at dksX0_isShelf_0 6 rfl rfl)
abbrev cX0_taken : ByteArray := prog_1_method_71_code
def yX0_taken : MethodName := ⟨RX0, "taken", "(II)I"⟩
def dkwX0_taken_2 : List UInt8 := [78, 16, 245, 172, 78, 16, 243, 172]
abbrev dktX0_taken_2 : List UInt8 := dkwX0_taken_2 ++ []
def dkwX0_taken_1 : List UInt8 := [154, 0, 5, 2, 172, 42, 42, 42, 180, 0, 139, 27, 50, 182, 1, 184, 182, 1, 90, 28, 184, 1, 188, 172]
abbrev dktX0_taken_1 : List UInt8 := dkwX0_taken_1 ++ dktX0_taken_2
def dkwX0_taken_0 : List UInt8 := [27, 184, 1, 157, 153, 0, 23, 28, 3, 8, 184, 0, 143, 154, 0, 16, 28, 16, 10, 16, 13, 184, 0, 143]
abbrev dktX0_taken_0 : List UInt8 := dkwX0_taken_0 ++ dktX0_taken_1
theorem dksX0_taken_0 : cX0_taken.data.toList.drop 0 = dktX0_taken_0 := by decide +kernel
theorem dksX0_taken_1 : cX0_taken.data.toList.drop 24 = dktX0_taken_1 := dk_seg dksX0_taken_0 24 rfl rfl
theorem dksX0_taken_2 : cX0_taken.data.toList.drop 48 = dktX0_taken_2 := dk_seg dksX0_taken_1 24 rfl rfl
theorem dX0_taken_0 : decode cX0_taken 0 = .ok (.iload_n 1, 1) := dk_27 (dk_at dksX0_taken_0 0 rfl rfl)
theorem dX0_taken_1 : decode cX0_taken 1 = .ok (.invokestatic 413, 3) := dk_184 1 157 (dk_at dksX0_taken_0 1 rfl rfl)
theorem dX0_taken_4 : decode cX0_taken 4 = .ok (.ifCond .eq 23, 3) := dk_153 0 23 (dk_at dksX0_taken_0 4 rfl rfl)
theorem dX0_taken_7 : decode cX0_taken 7 = .ok (.iload_n 2, 1) := dk_28 (dk_at dksX0_taken_0 7 rfl rfl)
theorem dX0_taken_8 : decode cX0_taken 8 = .ok (.iconst 0, 1) := dk_3 (dk_at dksX0_taken_0 8 rfl rfl)
theorem dX0_taken_9 : decode cX0_taken 9 = .ok (.iconst 5, 1) := dk_8 (dk_at dksX0_taken_0 9 rfl rfl)
theorem dX0_taken_10 : decode cX0_taken 10 = .ok (.invokestatic 143, 3) := dk_184 0 143 (dk_at dksX0_taken_0 10 rfl rfl)
theorem dX0_taken_13 : decode cX0_taken 13 = .ok (.ifCond .ne 16, 3) := dk_154 0 16 (dk_at dksX0_taken_0 13 rfl rfl)
theorem dX0_taken_16 : decode cX0_taken 16 = .ok (.iload_n 2, 1) := dk_28 (dk_at dksX0_taken_0 16 rfl rfl)
theorem dX0_taken_17 : decode cX0_taken 17 = .ok (.bipush 10, 2) := dk_16 10 (dk_at dksX0_taken_0 17 rfl rfl)
theorem dX0_taken_19 : decode cX0_taken 19 = .ok (.bipush 13, 2) := dk_16 13 (dk_at dksX0_taken_0 19 rfl rfl)
theorem dX0_taken_21 : decode cX0_taken 21 = .ok (.invokestatic 143, 3) := dk_184 0 143 (dk_at dksX0_taken_0 21 rfl rfl)
theorem dX0_taken_24 : decode cX0_taken 24 = .ok (.ifCond .ne 5, 3) := dk_154 0 5 (dk_at dksX0_taken_1 0 rfl rfl)
theorem dX0_taken_27 : decode cX0_taken 27 = .ok (.iconst (-1), 1) := dk_2 (dk_at dksX0_taken_1 3 rfl rfl)
theorem dX0_taken_28 : decode cX0_taken 28 = .ok (.ireturn, 1) := dk_172 (dk_at dksX0_taken_1 4 rfl rfl)
theorem dX0_taken_29 : decode cX0_taken 29 = .ok (.aload_n 0, 1) := dk_42 (dk_at dksX0_taken_1 5 rfl rfl)
theorem dX0_taken_30 : decode cX0_taken 30 = .ok (.aload_n 0, 1) := dk_42 (dk_at dksX0_taken_1 6 rfl rfl)
theorem dX0_taken_31 : decode cX0_taken 31 = .ok (.aload_n 0, 1) := dk_42 (dk_at dksX0_taken_1 7 rfl rfl)
theorem dX0_taken_32 : decode cX0_taken 32 = .ok (.getfield 139, 3) := dk_180 0 139 (dk_at dksX0_taken_1 8 rfl rfl)
theorem dX0_taken_35 : decode cX0_taken 35 = .ok (.iload_n 1, 1) := dk_27 (dk_at dksX0_taken_1 11 rfl rfl)
theorem dX0_taken_36 : decode cX0_taken 36 = .ok (.aaload, 1) := dk_50 (dk_at dksX0_taken_1 12 rfl rfl)
theorem dX0_taken_37 : decode cX0_taken 37 = .ok (.invokevirtual 440, 3) := dk_182 1 184 (dk_at dksX0_taken_1 13 rfl rfl)
theorem dX0_taken_40 : decode cX0_taken 40 = .ok (.invokevirtual 346, 3) := dk_182 1 90 (dk_at dksX0_taken_1 16 rfl rfl)
theorem dX0_taken_43 : decode cX0_taken 43 = .ok (.iload_n 2, 1) := dk_28 (dk_at dksX0_taken_1 19 rfl rfl)
theorem dX0_taken_44 : decode cX0_taken 44 = .ok (.invokestatic 444, 3) := dk_184 1 188 (dk_at dksX0_taken_1 20 rfl rfl)
theorem dX0_taken_47 : decode cX0_taken 47 = .ok (.ireturn, 1) := dk_172 (dk_at dksX0_taken_1 23 rfl rfl)
theorem dX0_taken_48 : decode cX0_taken 48 = .ok (.astore_n 3, 1) := dk_78 (dk_at dksX0_taken_2 0 rfl rfl)
theorem dX0_taken_49 : decode cX0_taken 49 = .ok (.bipush (-11), 2) := dk_16 245 (dk_at dksX0_taken_2 1 rfl rfl)
theorem dX0_taken_51 : decode cX0_taken 51 = .ok (.ireturn, 1) := dk_172 (dk_at dksX0_taken_2 3 rfl rfl)
theorem dX0_taken_52 : decode cX0_taken 52 = .ok (.astore_n 3, 1) := dk_78 (dk_at dksX0_taken_2 4 rfl rfl)
theorem dX0_taken_53 : decode cX0_taken 53 = .ok (.bipush (-13), 2) := dk_16 243 (dk_at dksX0_taken_2 5 rfl rfl)
theorem dX0_taken_55 : decode cX0_taken 55 = .ok (.ireturn, 1) := dk_172 (dk_at dksX0_taken_2 7 rfl rfl)
abbrev cX0_heldOf : ByteArray := prog_1_method_67_code
def yX0_heldOf : MethodName := ⟨RX0, "heldOf", "(LColdBox$Shelf;)Ljava/lang/Object;"⟩
def dkwX0_heldOf_4 : List UInt8 := [182, 1, 150, 167, 0, 4, 1, 176, 43, 180, 1, 154, 176, 1, 176]
abbrev dktX0_heldOf_4 : List UInt8 := dkwX0_heldOf_4 ++ []
def dkwX0_heldOf_3 : List UInt8 := [180, 0, 159, 182, 0, 162, 43, 180, 1, 147, 42, 180, 0, 22, 180, 0, 179, 43, 180, 1, 147, 46]
abbrev dktX0_heldOf_3 : List UInt8 := dkwX0_heldOf_3 ++ dktX0_heldOf_4
def dkwX0_heldOf_2 : List UInt8 := [43, 180, 1, 147, 184, 0, 215, 153, 0, 43, 42, 43, 180, 1, 147, 42, 180, 0, 22, 180, 0, 238]
abbrev dktX0_heldOf_2 : List UInt8 := dkwX0_heldOf_2 ++ dktX0_heldOf_3
def dkwX0_heldOf_1 : List UInt8 := [171, 0, 0, 0, 0, 0, 0, 85, 0, 0, 0, 2, 0, 0, 0, 0, 0, 0, 0, 28, 0, 0, 0, 1, 0, 0, 0, 80]
abbrev dktX0_heldOf_1 : List UInt8 := dkwX0_heldOf_1 ++ dktX0_heldOf_2
def dkwX0_heldOf_0 : List UInt8 := [43, 180, 1, 144]
abbrev dktX0_heldOf_0 : List UInt8 := dkwX0_heldOf_0 ++ dktX0_heldOf_1
theorem dksX0_heldOf_0 : cX0_heldOf.data.toList.drop 0 = dktX0_heldOf_0 := by decide +kernel
theorem dksX0_heldOf_1 : cX0_heldOf.data.toList.drop 4 = dktX0_heldOf_1 := dk_seg dksX0_heldOf_0 4 rfl rfl
theorem dksX0_heldOf_2 : cX0_heldOf.data.toList.drop 32 = dktX0_heldOf_2 := dk_seg dksX0_heldOf_1 28 rfl rfl
theorem dksX0_heldOf_3 : cX0_heldOf.data.toList.drop 54 = dktX0_heldOf_3 := dk_seg dksX0_heldOf_2 22 rfl rfl
theorem dksX0_heldOf_4 : cX0_heldOf.data.toList.drop 76 = dktX0_heldOf_4 := dk_seg dksX0_heldOf_3 22 rfl rfl
theorem dX0_heldOf_0 : decode cX0_heldOf 0 = .ok (.aload_n 1, 1) := dk_43 (dk_at dksX0_heldOf_0 0 rfl rfl)
theorem dX0_heldOf_1 : decode cX0_heldOf 1 = .ok (.getfield 400, 3) := dk_180 1 144 (dk_at dksX0_heldOf_0 1 rfl rfl)
theorem dX0_heldOf_4 : decode cX0_heldOf 4 = .ok (.lookupswitch 85 #[(0, 28), (1, 80)], 28) := by decide +kernel
theorem dX0_heldOf_32 : decode cX0_heldOf 32 = .ok (.aload_n 1, 1) := dk_43 (dk_at dksX0_heldOf_2 0 rfl rfl)
theorem dX0_heldOf_33 : decode cX0_heldOf 33 = .ok (.getfield 403, 3) := dk_180 1 147 (dk_at dksX0_heldOf_2 1 rfl rfl)
theorem dX0_heldOf_36 : decode cX0_heldOf 36 = .ok (.invokestatic 215, 3) := dk_184 0 215 (dk_at dksX0_heldOf_2 4 rfl rfl)
theorem dX0_heldOf_39 : decode cX0_heldOf 39 = .ok (.ifCond .eq 43, 3) := dk_153 0 43 (dk_at dksX0_heldOf_2 7 rfl rfl)
theorem dX0_heldOf_42 : decode cX0_heldOf 42 = .ok (.aload_n 0, 1) := dk_42 (dk_at dksX0_heldOf_2 10 rfl rfl)
theorem dX0_heldOf_43 : decode cX0_heldOf 43 = .ok (.aload_n 1, 1) := dk_43 (dk_at dksX0_heldOf_2 11 rfl rfl)
theorem dX0_heldOf_44 : decode cX0_heldOf 44 = .ok (.getfield 403, 3) := dk_180 1 147 (dk_at dksX0_heldOf_2 12 rfl rfl)
theorem dX0_heldOf_47 : decode cX0_heldOf 47 = .ok (.aload_n 0, 1) := dk_42 (dk_at dksX0_heldOf_2 15 rfl rfl)
theorem dX0_heldOf_48 : decode cX0_heldOf 48 = .ok (.getfield 22, 3) := dk_180 0 22 (dk_at dksX0_heldOf_2 16 rfl rfl)
theorem dX0_heldOf_51 : decode cX0_heldOf 51 = .ok (.getfield 238, 3) := dk_180 0 238 (dk_at dksX0_heldOf_2 19 rfl rfl)
theorem dX0_heldOf_54 : decode cX0_heldOf 54 = .ok (.getfield 159, 3) := dk_180 0 159 (dk_at dksX0_heldOf_3 0 rfl rfl)
theorem dX0_heldOf_57 : decode cX0_heldOf 57 = .ok (.invokevirtual 162, 3) := dk_182 0 162 (dk_at dksX0_heldOf_3 3 rfl rfl)
theorem dX0_heldOf_60 : decode cX0_heldOf 60 = .ok (.aload_n 1, 1) := dk_43 (dk_at dksX0_heldOf_3 6 rfl rfl)
theorem dX0_heldOf_61 : decode cX0_heldOf 61 = .ok (.getfield 403, 3) := dk_180 1 147 (dk_at dksX0_heldOf_3 7 rfl rfl)
theorem dX0_heldOf_64 : decode cX0_heldOf 64 = .ok (.aload_n 0, 1) := dk_42 (dk_at dksX0_heldOf_3 10 rfl rfl)
theorem dX0_heldOf_65 : decode cX0_heldOf 65 = .ok (.getfield 22, 3) := dk_180 0 22 (dk_at dksX0_heldOf_3 11 rfl rfl)
theorem dX0_heldOf_68 : decode cX0_heldOf 68 = .ok (.getfield 179, 3) := dk_180 0 179 (dk_at dksX0_heldOf_3 14 rfl rfl)
theorem dX0_heldOf_71 : decode cX0_heldOf 71 = .ok (.aload_n 1, 1) := dk_43 (dk_at dksX0_heldOf_3 17 rfl rfl)
theorem dX0_heldOf_72 : decode cX0_heldOf 72 = .ok (.getfield 403, 3) := dk_180 1 147 (dk_at dksX0_heldOf_3 18 rfl rfl)
theorem dX0_heldOf_75 : decode cX0_heldOf 75 = .ok (.iaload, 1) := dk_46 (dk_at dksX0_heldOf_3 21 rfl rfl)
theorem dX0_heldOf_76 : decode cX0_heldOf 76 = .ok (.invokevirtual 406, 3) := dk_182 1 150 (dk_at dksX0_heldOf_4 0 rfl rfl)
theorem dX0_heldOf_79 : decode cX0_heldOf 79 = .ok (.goto 4, 3) := dk_167 0 4 (dk_at dksX0_heldOf_4 3 rfl rfl)
theorem dX0_heldOf_82 : decode cX0_heldOf 82 = .ok (.aconst_null, 1) := dk_1 (dk_at dksX0_heldOf_4 6 rfl rfl)
theorem dX0_heldOf_83 : decode cX0_heldOf 83 = .ok (.areturn, 1) := dk_176 (dk_at dksX0_heldOf_4 7 rfl rfl)
theorem dX0_heldOf_84 : decode cX0_heldOf 84 = .ok (.aload_n 1, 1) := dk_43 (dk_at dksX0_heldOf_4 8 rfl rfl)
theorem dX0_heldOf_85 : decode cX0_heldOf 85 = .ok (.getfield 410, 3) := dk_180 1 154 (dk_at dksX0_heldOf_4 9 rfl rfl)
theorem dX0_heldOf_88 : decode cX0_heldOf 88 = .ok (.areturn, 1) := dk_176 (dk_at dksX0_heldOf_4 12 rfl rfl)
theorem dX0_heldOf_89 : decode cX0_heldOf 89 = .ok (.aconst_null, 1) := dk_1 (dk_at dksX0_heldOf_4 13 rfl rfl)
theorem dX0_heldOf_90 : decode cX0_heldOf 90 = .ok (.areturn, 1) := dk_176 (dk_at dksX0_heldOf_4 14 rfl rfl)
abbrev cX0_castTo : ByteArray := prog_1_method_70_code
def yX0_castTo : MethodName := ⟨RX0, "castTo", "(Ljava/lang/Object;I)I"⟩
def dkwX0_castTo_4 : List UInt8 := [42, 27, 184, 1, 180, 172]
abbrev dktX0_castTo_4 : List UInt8 := dkwX0_castTo_4 ++ []
def dkwX0_castTo_3 : List UInt8 := [42, 192, 1, 171, 182, 1, 173, 172, 42, 192, 1, 174, 182, 1, 176, 172, 42, 192, 1, 177, 182, 1, 179, 172]
abbrev dktX0_castTo_3 : List UInt8 := dkwX0_castTo_3 ++ dktX0_castTo_4
def dkwX0_castTo_2 : List UInt8 := [42, 192, 1, 160, 182, 1, 162, 172, 42, 192, 1, 165, 182, 1, 167, 172, 42, 192, 1, 168, 182, 1, 170, 172]
abbrev dktX0_castTo_2 : List UInt8 := dkwX0_castTo_2 ++ dktX0_castTo_3
def dkwX0_castTo_1 : List UInt8 := [170, 0, 0, 0, 0, 0, 87, 0, 0, 0, 0, 0, 0, 0, 5, 0, 0, 0, 39, 0, 0, 0, 47, 0, 0, 0, 55, 0, 0, 0, 63, 0, 0, 0, 71, 0, 0, 0, 79]
abbrev dktX0_castTo_1 : List UInt8 := dkwX0_castTo_1 ++ dktX0_castTo_2
def dkwX0_castTo_0 : List UInt8 := [27]
abbrev dktX0_castTo_0 : List UInt8 := dkwX0_castTo_0 ++ dktX0_castTo_1
theorem dksX0_castTo_0 : cX0_castTo.data.toList.drop 0 = dktX0_castTo_0 := by decide +kernel
theorem dksX0_castTo_1 : cX0_castTo.data.toList.drop 1 = dktX0_castTo_1 := dk_seg dksX0_castTo_0 1 rfl rfl
theorem dksX0_castTo_2 : cX0_castTo.data.toList.drop 40 = dktX0_castTo_2 := dk_seg dksX0_castTo_1 39 rfl rfl
theorem dksX0_castTo_3 : cX0_castTo.data.toList.drop 64 = dktX0_castTo_3 := dk_seg dksX0_castTo_2 24 rfl rfl
theorem dksX0_castTo_4 : cX0_castTo.data.toList.drop 88 = dktX0_castTo_4 := dk_seg dksX0_castTo_3 24 rfl rfl
theorem dX0_castTo_0 : decode cX0_castTo 0 = .ok (.iload_n 1, 1) := dk_27 (dk_at dksX0_castTo_0 0 rfl rfl)
theorem dX0_castTo_1 : decode cX0_castTo 1 = .ok (.tableswitch 87 0 5 #[39, 47, 55, 63, 71, 79], 39) := by decide +kernel
theorem dX0_castTo_40 : decode cX0_castTo 40 = .ok (.aload_n 0, 1) := dk_42 (dk_at dksX0_castTo_2 0 rfl rfl)
theorem dX0_castTo_41 : decode cX0_castTo 41 = .ok (.checkcast 416, 3) := dk_192 1 160 (dk_at dksX0_castTo_2 1 rfl rfl)
theorem dX0_castTo_44 : decode cX0_castTo 44 = .ok (.invokevirtual 418, 3) := dk_182 1 162 (dk_at dksX0_castTo_2 4 rfl rfl)
theorem dX0_castTo_47 : decode cX0_castTo 47 = .ok (.ireturn, 1) := dk_172 (dk_at dksX0_castTo_2 7 rfl rfl)
theorem dX0_castTo_48 : decode cX0_castTo 48 = .ok (.aload_n 0, 1) := dk_42 (dk_at dksX0_castTo_2 8 rfl rfl)
theorem dX0_castTo_49 : decode cX0_castTo 49 = .ok (.checkcast 421, 3) := dk_192 1 165 (dk_at dksX0_castTo_2 9 rfl rfl)
theorem dX0_castTo_52 : decode cX0_castTo 52 = .ok (.invokevirtual 423, 3) := dk_182 1 167 (dk_at dksX0_castTo_2 12 rfl rfl)
theorem dX0_castTo_55 : decode cX0_castTo 55 = .ok (.ireturn, 1) := dk_172 (dk_at dksX0_castTo_2 15 rfl rfl)
theorem dX0_castTo_56 : decode cX0_castTo 56 = .ok (.aload_n 0, 1) := dk_42 (dk_at dksX0_castTo_2 16 rfl rfl)
theorem dX0_castTo_57 : decode cX0_castTo 57 = .ok (.checkcast 424, 3) := dk_192 1 168 (dk_at dksX0_castTo_2 17 rfl rfl)
theorem dX0_castTo_60 : decode cX0_castTo 60 = .ok (.invokevirtual 426, 3) := dk_182 1 170 (dk_at dksX0_castTo_2 20 rfl rfl)
theorem dX0_castTo_63 : decode cX0_castTo 63 = .ok (.ireturn, 1) := dk_172 (dk_at dksX0_castTo_2 23 rfl rfl)
theorem dX0_castTo_64 : decode cX0_castTo 64 = .ok (.aload_n 0, 1) := dk_42 (dk_at dksX0_castTo_3 0 rfl rfl)
theorem dX0_castTo_65 : decode cX0_castTo 65 = .ok (.checkcast 427, 3) := dk_192 1 171 (dk_at dksX0_castTo_3 1 rfl rfl)
theorem dX0_castTo_68 : decode cX0_castTo 68 = .ok (.invokevirtual 429, 3) := dk_182 1 173 (dk_at dksX0_castTo_3 4 rfl rfl)
theorem dX0_castTo_71 : decode cX0_castTo 71 = .ok (.ireturn, 1) := dk_172 (dk_at dksX0_castTo_3 7 rfl rfl)
theorem dX0_castTo_72 : decode cX0_castTo 72 = .ok (.aload_n 0, 1) := dk_42 (dk_at dksX0_castTo_3 8 rfl rfl)
theorem dX0_castTo_73 : decode cX0_castTo 73 = .ok (.checkcast 430, 3) := dk_192 1 174 (dk_at dksX0_castTo_3 9 rfl rfl)
theorem dX0_castTo_76 : decode cX0_castTo 76 = .ok (.invokevirtual 432, 3) := dk_182 1 176 (dk_at dksX0_castTo_3 12 rfl rfl)
theorem dX0_castTo_79 : decode cX0_castTo 79 = .ok (.ireturn, 1) := dk_172 (dk_at dksX0_castTo_3 15 rfl rfl)
theorem dX0_castTo_80 : decode cX0_castTo 80 = .ok (.aload_n 0, 1) := dk_42 (dk_at dksX0_castTo_3 16 rfl rfl)
theorem dX0_castTo_81 : decode cX0_castTo 81 = .ok (.checkcast 433, 3) := dk_192 1 177 (dk_at dksX0_castTo_3 17 rfl rfl)
theorem dX0_castTo_84 : decode cX0_castTo 84 = .ok (.invokevirtual 435, 3) := dk_182 1 179 (dk_at dksX0_castTo_3 20 rfl rfl)
theorem dX0_castTo_87 : decode cX0_castTo 87 = .ok (.ireturn, 1) := dk_172 (dk_at dksX0_castTo_3 23 rfl rfl)
theorem dX0_castTo_88 : decode cX0_castTo 88 = .ok (.aload_n 0, 1) := dk_42 (dk_at dksX0_castTo_4 0 rfl rfl)
theorem dX0_castTo_89 : decode cX0_castTo 89 = .ok (.iload_n 1, 1) := dk_27 (dk_at dksX0_castTo_4 1 rfl rfl)
theorem dX0_castTo_90 : decode cX0_castTo 90 = .ok (.invokestatic 436, 3) := dk_184 1 180 (dk_at dksX0_castTo_4 2 rfl rfl)
theorem dX0_castTo_93 : decode cX0_castTo 93 = .ok (.ireturn, 1) := dk_172 (dk_at dksX0_castTo_4 5 rfl rfl)
abbrev cX0_rowAs : ByteArray := prog_1_method_69_code
def yX0_rowAs : MethodName := ⟨RX0, "rowAs", "(Ljava/lang/Object;I)I"⟩
def dkwX0_rowAs_2 : List UInt8 := [42, 192, 1, 104, 190, 172, 42, 192, 1, 78, 190, 172, 42, 192, 1, 107, 190, 172, 42, 192, 1, 105, 190, 172]
abbrev dktX0_rowAs_2 : List UInt8 := dkwX0_rowAs_2 ++ []
def dkwX0_rowAs_1 : List UInt8 := [170, 0, 0, 0, 0, 0, 45, 0, 0, 0, 10, 0, 0, 0, 12, 0, 0, 0, 27, 0, 0, 0, 33, 0, 0, 0, 39]
abbrev dktX0_rowAs_1 : List UInt8 := dkwX0_rowAs_1 ++ dktX0_rowAs_2
def dkwX0_rowAs_0 : List UInt8 := [27]
abbrev dktX0_rowAs_0 : List UInt8 := dkwX0_rowAs_0 ++ dktX0_rowAs_1
theorem dksX0_rowAs_0 : cX0_rowAs.data.toList.drop 0 = dktX0_rowAs_0 := by decide +kernel
theorem dksX0_rowAs_1 : cX0_rowAs.data.toList.drop 1 = dktX0_rowAs_1 := dk_seg dksX0_rowAs_0 1 rfl rfl
theorem dksX0_rowAs_2 : cX0_rowAs.data.toList.drop 28 = dktX0_rowAs_2 := dk_seg dksX0_rowAs_1 27 rfl rfl
theorem dX0_rowAs_0 : decode cX0_rowAs 0 = .ok (.iload_n 1, 1) := dk_27 (dk_at dksX0_rowAs_0 0 rfl rfl)
theorem dX0_rowAs_1 : decode cX0_rowAs 1 = .ok (.tableswitch 45 10 12 #[27, 33, 39], 27) := by decide +kernel
theorem dX0_rowAs_28 : decode cX0_rowAs 28 = .ok (.aload_n 0, 1) := dk_42 (dk_at dksX0_rowAs_2 0 rfl rfl)
theorem dX0_rowAs_29 : decode cX0_rowAs 29 = .ok (.checkcast 360, 3) := dk_192 1 104 (dk_at dksX0_rowAs_2 1 rfl rfl)
theorem dX0_rowAs_32 : decode cX0_rowAs 32 = .ok (.arraylength, 1) := dk_190 (dk_at dksX0_rowAs_2 4 rfl rfl)
theorem dX0_rowAs_33 : decode cX0_rowAs 33 = .ok (.ireturn, 1) := dk_172 (dk_at dksX0_rowAs_2 5 rfl rfl)
theorem dX0_rowAs_34 : decode cX0_rowAs 34 = .ok (.aload_n 0, 1) := dk_42 (dk_at dksX0_rowAs_2 6 rfl rfl)
theorem dX0_rowAs_35 : decode cX0_rowAs 35 = .ok (.checkcast 334, 3) := dk_192 1 78 (dk_at dksX0_rowAs_2 7 rfl rfl)
theorem dX0_rowAs_38 : decode cX0_rowAs 38 = .ok (.arraylength, 1) := dk_190 (dk_at dksX0_rowAs_2 10 rfl rfl)
theorem dX0_rowAs_39 : decode cX0_rowAs 39 = .ok (.ireturn, 1) := dk_172 (dk_at dksX0_rowAs_2 11 rfl rfl)
theorem dX0_rowAs_40 : decode cX0_rowAs 40 = .ok (.aload_n 0, 1) := dk_42 (dk_at dksX0_rowAs_2 12 rfl rfl)
theorem dX0_rowAs_41 : decode cX0_rowAs 41 = .ok (.checkcast 363, 3) := dk_192 1 107 (dk_at dksX0_rowAs_2 13 rfl rfl)
theorem dX0_rowAs_44 : decode cX0_rowAs 44 = .ok (.arraylength, 1) := dk_190 (dk_at dksX0_rowAs_2 16 rfl rfl)
theorem dX0_rowAs_45 : decode cX0_rowAs 45 = .ok (.ireturn, 1) := dk_172 (dk_at dksX0_rowAs_2 17 rfl rfl)
theorem dX0_rowAs_46 : decode cX0_rowAs 46 = .ok (.aload_n 0, 1) := dk_42 (dk_at dksX0_rowAs_2 18 rfl rfl)
theorem dX0_rowAs_47 : decode cX0_rowAs 47 = .ok (.checkcast 361, 3) := dk_192 1 105 (dk_at dksX0_rowAs_2 19 rfl rfl)
theorem dX0_rowAs_50 : decode cX0_rowAs 50 = .ok (.arraylength, 1) := dk_190 (dk_at dksX0_rowAs_2 22 rfl rfl)
theorem dX0_rowAs_51 : decode cX0_rowAs 51 = .ok (.ireturn, 1) := dk_172 (dk_at dksX0_rowAs_2 23 rfl rfl)
abbrev cX0_act : ByteArray := prog_1_method_73_code
def yX0_act : MethodName := ⟨RX0, "act", "(III)I"⟩
def dkwX0_act_2 : List UInt8 := [192, 1, 192, 28, 29, 184, 1, 205, 172, 58, 5, 16, 241, 172]
abbrev dktX0_act_2 : List UInt8 := dkwX0_act_2 ++ []
def dkwX0_act_1 : List UInt8 := [42, 180, 0, 139, 27, 50, 182, 1, 184, 58, 4, 25, 4, 193, 1, 192, 154, 0, 5, 3, 172, 25, 4]
abbrev dktX0_act_1 : List UInt8 := dkwX0_act_1 ++ dktX0_act_2
def dkwX0_act_0 : List UInt8 := [42, 3, 181, 1, 141, 27, 184, 1, 157, 153, 0, 12, 28, 3, 6, 184, 0, 143, 154, 0, 5, 3, 172, 42]
abbrev dktX0_act_0 : List UInt8 := dkwX0_act_0 ++ dktX0_act_1
theorem dksX0_act_0 : cX0_act.data.toList.drop 0 = dktX0_act_0 := by decide +kernel
theorem dksX0_act_1 : cX0_act.data.toList.drop 24 = dktX0_act_1 := dk_seg dksX0_act_0 24 rfl rfl
theorem dksX0_act_2 : cX0_act.data.toList.drop 47 = dktX0_act_2 := dk_seg dksX0_act_1 23 rfl rfl
theorem dX0_act_0 : decode cX0_act 0 = .ok (.aload_n 0, 1) := dk_42 (dk_at dksX0_act_0 0 rfl rfl)
theorem dX0_act_1 : decode cX0_act 1 = .ok (.iconst 0, 1) := dk_3 (dk_at dksX0_act_0 1 rfl rfl)
theorem dX0_act_2 : decode cX0_act 2 = .ok (.putfield 397, 3) := dk_181 1 141 (dk_at dksX0_act_0 2 rfl rfl)
theorem dX0_act_5 : decode cX0_act 5 = .ok (.iload_n 1, 1) := dk_27 (dk_at dksX0_act_0 5 rfl rfl)
theorem dX0_act_6 : decode cX0_act 6 = .ok (.invokestatic 413, 3) := dk_184 1 157 (dk_at dksX0_act_0 6 rfl rfl)
theorem dX0_act_9 : decode cX0_act 9 = .ok (.ifCond .eq 12, 3) := dk_153 0 12 (dk_at dksX0_act_0 9 rfl rfl)
theorem dX0_act_12 : decode cX0_act 12 = .ok (.iload_n 2, 1) := dk_28 (dk_at dksX0_act_0 12 rfl rfl)
theorem dX0_act_13 : decode cX0_act 13 = .ok (.iconst 0, 1) := dk_3 (dk_at dksX0_act_0 13 rfl rfl)
theorem dX0_act_14 : decode cX0_act 14 = .ok (.iconst 3, 1) := dk_6 (dk_at dksX0_act_0 14 rfl rfl)
theorem dX0_act_15 : decode cX0_act 15 = .ok (.invokestatic 143, 3) := dk_184 0 143 (dk_at dksX0_act_0 15 rfl rfl)
theorem dX0_act_18 : decode cX0_act 18 = .ok (.ifCond .ne 5, 3) := dk_154 0 5 (dk_at dksX0_act_0 18 rfl rfl)
theorem dX0_act_21 : decode cX0_act 21 = .ok (.iconst 0, 1) := dk_3 (dk_at dksX0_act_0 21 rfl rfl)
theorem dX0_act_22 : decode cX0_act 22 = .ok (.ireturn, 1) := dk_172 (dk_at dksX0_act_0 22 rfl rfl)
theorem dX0_act_23 : decode cX0_act 23 = .ok (.aload_n 0, 1) := dk_42 (dk_at dksX0_act_0 23 rfl rfl)
theorem dX0_act_24 : decode cX0_act 24 = .ok (.aload_n 0, 1) := dk_42 (dk_at dksX0_act_1 0 rfl rfl)
theorem dX0_act_25 : decode cX0_act 25 = .ok (.getfield 139, 3) := dk_180 0 139 (dk_at dksX0_act_1 1 rfl rfl)
theorem dX0_act_28 : decode cX0_act 28 = .ok (.iload_n 1, 1) := dk_27 (dk_at dksX0_act_1 4 rfl rfl)
theorem dX0_act_29 : decode cX0_act 29 = .ok (.aaload, 1) := dk_50 (dk_at dksX0_act_1 5 rfl rfl)
theorem dX0_act_30 : decode cX0_act 30 = .ok (.invokevirtual 440, 3) := dk_182 1 184 (dk_at dksX0_act_1 6 rfl rfl)
theorem dX0_act_33 : decode cX0_act 33 = .ok (.astore 4, 2) := dk_58 4 (dk_at dksX0_act_1 9 rfl rfl)
theorem dX0_act_35 : decode cX0_act 35 = .ok (.aload 4, 2) := dk_25 4 (dk_at dksX0_act_1 11 rfl rfl)
theorem dX0_act_37 : decode cX0_act 37 = .ok (.instanceof 448, 3) := dk_193 1 192 (dk_at dksX0_act_1 13 rfl rfl)
theorem dX0_act_40 : decode cX0_act 40 = .ok (.ifCond .ne 5, 3) := dk_154 0 5 (dk_at dksX0_act_1 16 rfl rfl)
theorem dX0_act_43 : decode cX0_act 43 = .ok (.iconst 0, 1) := dk_3 (dk_at dksX0_act_1 19 rfl rfl)
theorem dX0_act_44 : decode cX0_act 44 = .ok (.ireturn, 1) := dk_172 (dk_at dksX0_act_1 20 rfl rfl)
theorem dX0_act_45 : decode cX0_act 45 = .ok (.aload 4, 2) := dk_25 4 (dk_at dksX0_act_1 21 rfl rfl)
theorem dX0_act_47 : decode cX0_act 47 = .ok (.checkcast 448, 3) := dk_192 1 192 (dk_at dksX0_act_2 0 rfl rfl)
theorem dX0_act_50 : decode cX0_act 50 = .ok (.iload_n 2, 1) := dk_28 (dk_at dksX0_act_2 3 rfl rfl)
theorem dX0_act_51 : decode cX0_act 51 = .ok (.iload_n 3, 1) := dk_29 (dk_at dksX0_act_2 4 rfl rfl)
theorem dX0_act_52 : decode cX0_act 52 = .ok (.invokestatic 461, 3) := dk_184 1 205 (dk_at dksX0_act_2 5 rfl rfl)
theorem dX0_act_55 : decode cX0_act 55 = .ok (.ireturn, 1) := dk_172 (dk_at dksX0_act_2 8 rfl rfl)
theorem dX0_act_56 : decode cX0_act 56 = .ok (.astore 5, 2) := dk_58 5 (dk_at dksX0_act_2 9 rfl rfl)
theorem dX0_act_58 : decode cX0_act 58 = .ok (.bipush (-15), 2) := dk_16 241 (dk_at dksX0_act_2 11 rfl rfl)
theorem dX0_act_60 : decode cX0_act 60 = .ok (.ireturn, 1) := dk_172 (dk_at dksX0_act_2 13 rfl rfl)
abbrev cX0_acted : ByteArray := prog_1_method_72_code
def yX0_acted : MethodName := ⟨RX0, "acted", "(LColdBox$Tells;II)I"⟩
def dkwX0_acted_3 : List UInt8 := [42, 28, 185, 1, 202, 2, 0, 172]
abbrev dktX0_acted_3 : List UInt8 := dkwX0_acted_3 ++ []
def dkwX0_acted_2 : List UInt8 := [42, 28, 185, 1, 191, 2, 0, 172, 42, 28, 185, 1, 196, 2, 0, 172, 42, 28, 185, 1, 199, 2, 0, 172]
abbrev dktX0_acted_2 : List UInt8 := dkwX0_acted_2 ++ dktX0_acted_3
def dkwX0_acted_1 : List UInt8 := [170, 0, 0, 0, 0, 0, 51, 0, 0, 0, 0, 0, 0, 0, 2, 0, 0, 0, 27, 0, 0, 0, 35, 0, 0, 0, 43]
abbrev dktX0_acted_1 : List UInt8 := dkwX0_acted_1 ++ dktX0_acted_2
def dkwX0_acted_0 : List UInt8 := [27]
abbrev dktX0_acted_0 : List UInt8 := dkwX0_acted_0 ++ dktX0_acted_1
theorem dksX0_acted_0 : cX0_acted.data.toList.drop 0 = dktX0_acted_0 := by decide +kernel
theorem dksX0_acted_1 : cX0_acted.data.toList.drop 1 = dktX0_acted_1 := dk_seg dksX0_acted_0 1 rfl rfl
theorem dksX0_acted_2 : cX0_acted.data.toList.drop 28 = dktX0_acted_2 := dk_seg dksX0_acted_1 27 rfl rfl
theorem dksX0_acted_3 : cX0_acted.data.toList.drop 52 = dktX0_acted_3 := dk_seg dksX0_acted_2 24 rfl rfl
theorem dX0_acted_0 : decode cX0_acted 0 = .ok (.iload_n 1, 1) := dk_27 (dk_at dksX0_acted_0 0 rfl rfl)
theorem dX0_acted_1 : decode cX0_acted 1 = .ok (.tableswitch 51 0 2 #[27, 35, 43], 27) := by decide +kernel
theorem dX0_acted_28 : decode cX0_acted 28 = .ok (.aload_n 0, 1) := dk_42 (dk_at dksX0_acted_2 0 rfl rfl)
theorem dX0_acted_29 : decode cX0_acted 29 = .ok (.iload_n 2, 1) := dk_28 (dk_at dksX0_acted_2 1 rfl rfl)
theorem dX0_acted_30 : decode cX0_acted 30 = .ok (.invokeinterface 447 2, 5) := by decide +kernel
theorem dX0_acted_35 : decode cX0_acted 35 = .ok (.ireturn, 1) := dk_172 (dk_at dksX0_acted_2 7 rfl rfl)
theorem dX0_acted_36 : decode cX0_acted 36 = .ok (.aload_n 0, 1) := dk_42 (dk_at dksX0_acted_2 8 rfl rfl)
theorem dX0_acted_37 : decode cX0_acted 37 = .ok (.iload_n 2, 1) := dk_28 (dk_at dksX0_acted_2 9 rfl rfl)
theorem dX0_acted_38 : decode cX0_acted 38 = .ok (.invokeinterface 452 2, 5) := by decide +kernel
theorem dX0_acted_43 : decode cX0_acted 43 = .ok (.ireturn, 1) := dk_172 (dk_at dksX0_acted_2 15 rfl rfl)
theorem dX0_acted_44 : decode cX0_acted 44 = .ok (.aload_n 0, 1) := dk_42 (dk_at dksX0_acted_2 16 rfl rfl)
theorem dX0_acted_45 : decode cX0_acted 45 = .ok (.iload_n 2, 1) := dk_28 (dk_at dksX0_acted_2 17 rfl rfl)
theorem dX0_acted_46 : decode cX0_acted 46 = .ok (.invokeinterface 455 2, 5) := by decide +kernel
theorem dX0_acted_51 : decode cX0_acted 51 = .ok (.ireturn, 1) := dk_172 (dk_at dksX0_acted_2 23 rfl rfl)
theorem dX0_acted_52 : decode cX0_acted 52 = .ok (.aload_n 0, 1) := dk_42 (dk_at dksX0_acted_3 0 rfl rfl)
theorem dX0_acted_53 : decode cX0_acted 53 = .ok (.iload_n 2, 1) := dk_28 (dk_at dksX0_acted_3 1 rfl rfl)
theorem dX0_acted_54 : decode cX0_acted 54 = .ok (.invokeinterface 458 2, 5) := by decide +kernel
theorem dX0_acted_59 : decode cX0_acted 59 = .ok (.ireturn, 1) := dk_172 (dk_at dksX0_acted_3 7 rfl rfl)
abbrev cX0_ran : ByteArray := prog_1_method_65_code
def yX0_ran : MethodName := ⟨RX0, "ran", "(I)V"⟩
def dkwX0_ran_1 : List UInt8 := [4, 96, 181, 1, 141, 177]
abbrev dktX0_ran_1 : List UInt8 := dkwX0_ran_1 ++ []
def dkwX0_ran_0 : List UInt8 := [42, 180, 1, 141, 16, 30, 162, 0, 13, 42, 180, 0, 133, 42, 180, 1, 141, 27, 79, 42, 89, 180, 1, 141]
abbrev dktX0_ran_0 : List UInt8 := dkwX0_ran_0 ++ dktX0_ran_1
theorem dksX0_ran_0 : cX0_ran.data.toList.drop 0 = dktX0_ran_0 := by decide +kernel
theorem dksX0_ran_1 : cX0_ran.data.toList.drop 24 = dktX0_ran_1 := dk_seg dksX0_ran_0 24 rfl rfl
theorem dX0_ran_0 : decode cX0_ran 0 = .ok (.aload_n 0, 1) := dk_42 (dk_at dksX0_ran_0 0 rfl rfl)
theorem dX0_ran_1 : decode cX0_ran 1 = .ok (.getfield 397, 3) := dk_180 1 141 (dk_at dksX0_ran_0 1 rfl rfl)
theorem dX0_ran_4 : decode cX0_ran 4 = .ok (.bipush 30, 2) := dk_16 30 (dk_at dksX0_ran_0 4 rfl rfl)
theorem dX0_ran_6 : decode cX0_ran 6 = .ok (.if_icmp .ge 13, 3) := dk_162 0 13 (dk_at dksX0_ran_0 6 rfl rfl)
theorem dX0_ran_9 : decode cX0_ran 9 = .ok (.aload_n 0, 1) := dk_42 (dk_at dksX0_ran_0 9 rfl rfl)
theorem dX0_ran_10 : decode cX0_ran 10 = .ok (.getfield 133, 3) := dk_180 0 133 (dk_at dksX0_ran_0 10 rfl rfl)
theorem dX0_ran_13 : decode cX0_ran 13 = .ok (.aload_n 0, 1) := dk_42 (dk_at dksX0_ran_0 13 rfl rfl)
theorem dX0_ran_14 : decode cX0_ran 14 = .ok (.getfield 397, 3) := dk_180 1 141 (dk_at dksX0_ran_0 14 rfl rfl)
theorem dX0_ran_17 : decode cX0_ran 17 = .ok (.iload_n 1, 1) := dk_27 (dk_at dksX0_ran_0 17 rfl rfl)
theorem dX0_ran_18 : decode cX0_ran 18 = .ok (.iastore, 1) := dk_79 (dk_at dksX0_ran_0 18 rfl rfl)
theorem dX0_ran_19 : decode cX0_ran 19 = .ok (.aload_n 0, 1) := dk_42 (dk_at dksX0_ran_0 19 rfl rfl)
theorem dX0_ran_20 : decode cX0_ran 20 = .ok (.dup, 1) := dk_89 (dk_at dksX0_ran_0 20 rfl rfl)
theorem dX0_ran_21 : decode cX0_ran 21 = .ok (.getfield 397, 3) := dk_180 1 141 (dk_at dksX0_ran_0 21 rfl rfl)
theorem dX0_ran_24 : decode cX0_ran 24 = .ok (.iconst 1, 1) := dk_4 (dk_at dksX0_ran_1 0 rfl rfl)
theorem dX0_ran_25 : decode cX0_ran 25 = .ok (.iadd, 1) := dk_96 (dk_at dksX0_ran_1 1 rfl rfl)
theorem dX0_ran_26 : decode cX0_ran 26 = .ok (.putfield 397, 3) := dk_181 1 141 (dk_at dksX0_ran_1 2 rfl rfl)
theorem dX0_ran_29 : decode cX0_ran 29 = .ok (.return_, 1) := dk_177 (dk_at dksX0_ran_1 5 rfl rfl)
abbrev cX0_trace : ByteArray := prog_1_method_74_code
def yX0_trace : MethodName := ⟨RX0, "trace", "(I)I"⟩
def dkwX0_trace_1 : List UInt8 := [167, 0, 5, 16, 253, 172]
abbrev dktX0_trace_1 : List UInt8 := dkwX0_trace_1 ++ []
def dkwX0_trace_0 : List UInt8 := [27, 155, 0, 25, 27, 42, 180, 1, 141, 16, 30, 184, 0, 196, 162, 0, 12, 42, 180, 0, 133, 27, 46]
abbrev dktX0_trace_0 : List UInt8 := dkwX0_trace_0 ++ dktX0_trace_1
theorem dksX0_trace_0 : cX0_trace.data.toList.drop 0 = dktX0_trace_0 := by decide +kernel
theorem dksX0_trace_1 : cX0_trace.data.toList.drop 23 = dktX0_trace_1 := dk_seg dksX0_trace_0 23 rfl rfl
theorem dX0_trace_0 : decode cX0_trace 0 = .ok (.iload_n 1, 1) := dk_27 (dk_at dksX0_trace_0 0 rfl rfl)
theorem dX0_trace_1 : decode cX0_trace 1 = .ok (.ifCond .lt 25, 3) := dk_155 0 25 (dk_at dksX0_trace_0 1 rfl rfl)
theorem dX0_trace_4 : decode cX0_trace 4 = .ok (.iload_n 1, 1) := dk_27 (dk_at dksX0_trace_0 4 rfl rfl)
theorem dX0_trace_5 : decode cX0_trace 5 = .ok (.aload_n 0, 1) := dk_42 (dk_at dksX0_trace_0 5 rfl rfl)
theorem dX0_trace_6 : decode cX0_trace 6 = .ok (.getfield 397, 3) := dk_180 1 141 (dk_at dksX0_trace_0 6 rfl rfl)
theorem dX0_trace_9 : decode cX0_trace 9 = .ok (.bipush 30, 2) := dk_16 30 (dk_at dksX0_trace_0 9 rfl rfl)
theorem dX0_trace_11 : decode cX0_trace 11 = .ok (.invokestatic 196, 3) := dk_184 0 196 (dk_at dksX0_trace_0 11 rfl rfl)
theorem dX0_trace_14 : decode cX0_trace 14 = .ok (.if_icmp .ge 12, 3) := dk_162 0 12 (dk_at dksX0_trace_0 14 rfl rfl)
theorem dX0_trace_17 : decode cX0_trace 17 = .ok (.aload_n 0, 1) := dk_42 (dk_at dksX0_trace_0 17 rfl rfl)
theorem dX0_trace_18 : decode cX0_trace 18 = .ok (.getfield 133, 3) := dk_180 0 133 (dk_at dksX0_trace_0 18 rfl rfl)
theorem dX0_trace_21 : decode cX0_trace 21 = .ok (.iload_n 1, 1) := dk_27 (dk_at dksX0_trace_0 21 rfl rfl)
theorem dX0_trace_22 : decode cX0_trace 22 = .ok (.iaload, 1) := dk_46 (dk_at dksX0_trace_0 22 rfl rfl)
theorem dX0_trace_23 : decode cX0_trace 23 = .ok (.goto 5, 3) := dk_167 0 5 (dk_at dksX0_trace_1 0 rfl rfl)
theorem dX0_trace_26 : decode cX0_trace 26 = .ok (.bipush (-3), 2) := dk_16 253 (dk_at dksX0_trace_1 3 rfl rfl)
theorem dX0_trace_28 : decode cX0_trace 28 = .ok (.ireturn, 1) := dk_172 (dk_at dksX0_trace_1 5 rfl rfl)
abbrev cX0_many : ByteArray := prog_1_method_75_code
def yX0_many : MethodName := ⟨RX0, "many", "(I)I"⟩
def dkwX0_many_3 : List UInt8 := [180, 0, 199, 172, 42, 180, 1, 141, 16, 30, 184, 0, 196, 172, 2, 172]
abbrev dktX0_many_3 : List UInt8 := dkwX0_many_3 ++ []
def dkwX0_many_2 : List UInt8 := [42, 180, 0, 22, 180, 0, 212, 172, 42, 180, 0, 22, 180, 1, 53, 172, 42, 180, 1, 62, 172, 42]
abbrev dktX0_many_2 : List UInt8 := dkwX0_many_2 ++ dktX0_many_3
def dkwX0_many_1 : List UInt8 := [170, 0, 0, 0, 0, 0, 71, 0, 0, 0, 0, 0, 0, 0, 4, 0, 0, 0, 35, 0, 0, 0, 43, 0, 0, 0, 51, 0, 0, 0, 56, 0, 0, 0, 61]
abbrev dktX0_many_1 : List UInt8 := dkwX0_many_1 ++ dktX0_many_2
def dkwX0_many_0 : List UInt8 := [27]
abbrev dktX0_many_0 : List UInt8 := dkwX0_many_0 ++ dktX0_many_1
theorem dksX0_many_0 : cX0_many.data.toList.drop 0 = dktX0_many_0 := by decide +kernel
theorem dksX0_many_1 : cX0_many.data.toList.drop 1 = dktX0_many_1 := dk_seg dksX0_many_0 1 rfl rfl
theorem dksX0_many_2 : cX0_many.data.toList.drop 36 = dktX0_many_2 := dk_seg dksX0_many_1 35 rfl rfl
theorem dksX0_many_3 : cX0_many.data.toList.drop 58 = dktX0_many_3 := dk_seg dksX0_many_2 22 rfl rfl
theorem dX0_many_0 : decode cX0_many 0 = .ok (.iload_n 1, 1) := dk_27 (dk_at dksX0_many_0 0 rfl rfl)
theorem dX0_many_1 : decode cX0_many 1 = .ok (.tableswitch 71 0 4 #[35, 43, 51, 56, 61], 35) := by decide +kernel
theorem dX0_many_36 : decode cX0_many 36 = .ok (.aload_n 0, 1) := dk_42 (dk_at dksX0_many_2 0 rfl rfl)
theorem dX0_many_37 : decode cX0_many 37 = .ok (.getfield 22, 3) := dk_180 0 22 (dk_at dksX0_many_2 1 rfl rfl)
theorem dX0_many_40 : decode cX0_many 40 = .ok (.getfield 212, 3) := dk_180 0 212 (dk_at dksX0_many_2 4 rfl rfl)
theorem dX0_many_43 : decode cX0_many 43 = .ok (.ireturn, 1) := dk_172 (dk_at dksX0_many_2 7 rfl rfl)
theorem dX0_many_44 : decode cX0_many 44 = .ok (.aload_n 0, 1) := dk_42 (dk_at dksX0_many_2 8 rfl rfl)
theorem dX0_many_45 : decode cX0_many 45 = .ok (.getfield 22, 3) := dk_180 0 22 (dk_at dksX0_many_2 9 rfl rfl)
theorem dX0_many_48 : decode cX0_many 48 = .ok (.getfield 309, 3) := dk_180 1 53 (dk_at dksX0_many_2 12 rfl rfl)
theorem dX0_many_51 : decode cX0_many 51 = .ok (.ireturn, 1) := dk_172 (dk_at dksX0_many_2 15 rfl rfl)
theorem dX0_many_52 : decode cX0_many 52 = .ok (.aload_n 0, 1) := dk_42 (dk_at dksX0_many_2 16 rfl rfl)
theorem dX0_many_53 : decode cX0_many 53 = .ok (.getfield 318, 3) := dk_180 1 62 (dk_at dksX0_many_2 17 rfl rfl)
theorem dX0_many_56 : decode cX0_many 56 = .ok (.ireturn, 1) := dk_172 (dk_at dksX0_many_2 20 rfl rfl)
theorem dX0_many_57 : decode cX0_many 57 = .ok (.aload_n 0, 1) := dk_42 (dk_at dksX0_many_2 21 rfl rfl)
theorem dX0_many_58 : decode cX0_many 58 = .ok (.getfield 199, 3) := dk_180 0 199 (dk_at dksX0_many_3 0 rfl rfl)
theorem dX0_many_61 : decode cX0_many 61 = .ok (.ireturn, 1) := dk_172 (dk_at dksX0_many_3 3 rfl rfl)
theorem dX0_many_62 : decode cX0_many 62 = .ok (.aload_n 0, 1) := dk_42 (dk_at dksX0_many_3 4 rfl rfl)
theorem dX0_many_63 : decode cX0_many 63 = .ok (.getfield 397, 3) := dk_180 1 141 (dk_at dksX0_many_3 5 rfl rfl)
theorem dX0_many_66 : decode cX0_many 66 = .ok (.bipush 30, 2) := dk_16 30 (dk_at dksX0_many_3 8 rfl rfl)
theorem dX0_many_68 : decode cX0_many 68 = .ok (.invokestatic 196, 3) := dk_184 0 196 (dk_at dksX0_many_3 10 rfl rfl)
theorem dX0_many_71 : decode cX0_many 71 = .ok (.ireturn, 1) := dk_172 (dk_at dksX0_many_3 13 rfl rfl)
theorem dX0_many_72 : decode cX0_many 72 = .ok (.iconst (-1), 1) := dk_2 (dk_at dksX0_many_3 14 rfl rfl)
theorem dX0_many_73 : decode cX0_many 73 = .ok (.ireturn, 1) := dk_172 (dk_at dksX0_many_3 15 rfl rfl)
abbrev cX0_keep : ByteArray := prog_1_method_76_code
def yX0_keep : MethodName := ⟨RX0, "keep", "()I"⟩
def dkwX0_keep_0 : List UInt8 := [42, 180, 0, 26, 42, 180, 0, 22, 182, 1, 211, 42, 4, 181, 1, 213, 4, 172]
abbrev dktX0_keep_0 : List UInt8 := dkwX0_keep_0 ++ []
theorem dksX0_keep_0 : cX0_keep.data.toList.drop 0 = dktX0_keep_0 := by decide +kernel
theorem dX0_keep_0 : decode cX0_keep 0 = .ok (.aload_n 0, 1) := dk_42 (dk_at dksX0_keep_0 0 rfl rfl)
theorem dX0_keep_1 : decode cX0_keep 1 = .ok (.getfield 26, 3) := dk_180 0 26 (dk_at dksX0_keep_0 1 rfl rfl)
theorem dX0_keep_4 : decode cX0_keep 4 = .ok (.aload_n 0, 1) := dk_42 (dk_at dksX0_keep_0 4 rfl rfl)
theorem dX0_keep_5 : decode cX0_keep 5 = .ok (.getfield 22, 3) := dk_180 0 22 (dk_at dksX0_keep_0 5 rfl rfl)
theorem dX0_keep_8 : decode cX0_keep 8 = .ok (.invokevirtual 467, 3) := dk_182 1 211 (dk_at dksX0_keep_0 8 rfl rfl)
theorem dX0_keep_11 : decode cX0_keep 11 = .ok (.aload_n 0, 1) := dk_42 (dk_at dksX0_keep_0 11 rfl rfl)
theorem dX0_keep_12 : decode cX0_keep 12 = .ok (.iconst 1, 1) := dk_4 (dk_at dksX0_keep_0 12 rfl rfl)
theorem dX0_keep_13 : decode cX0_keep 13 = .ok (.putfield 469, 3) := dk_181 1 213 (dk_at dksX0_keep_0 13 rfl rfl)
theorem dX0_keep_16 : decode cX0_keep 16 = .ok (.iconst 1, 1) := dk_4 (dk_at dksX0_keep_0 16 rfl rfl)
theorem dX0_keep_17 : decode cX0_keep 17 = .ok (.ireturn, 1) := dk_172 (dk_at dksX0_keep_0 17 rfl rfl)
abbrev cX0_again : ByteArray := prog_1_method_77_code
def yX0_again : MethodName := ⟨RX0, "again", "()I"⟩
def dkwX0_again_1 : List UInt8 := [180, 0, 22, 180, 0, 238, 180, 0, 155, 172]
abbrev dktX0_again_1 : List UInt8 := dkwX0_again_1 ++ []
def dkwX0_again_0 : List UInt8 := [42, 180, 1, 213, 154, 0, 6, 16, 253, 172, 42, 180, 0, 22, 42, 180, 0, 26, 182, 1, 211, 42]
abbrev dktX0_again_0 : List UInt8 := dkwX0_again_0 ++ dktX0_again_1
theorem dksX0_again_0 : cX0_again.data.toList.drop 0 = dktX0_again_0 := by decide +kernel
theorem dksX0_again_1 : cX0_again.data.toList.drop 22 = dktX0_again_1 := dk_seg dksX0_again_0 22 rfl rfl
theorem dX0_again_0 : decode cX0_again 0 = .ok (.aload_n 0, 1) := dk_42 (dk_at dksX0_again_0 0 rfl rfl)
theorem dX0_again_1 : decode cX0_again 1 = .ok (.getfield 469, 3) := dk_180 1 213 (dk_at dksX0_again_0 1 rfl rfl)
theorem dX0_again_4 : decode cX0_again 4 = .ok (.ifCond .ne 6, 3) := dk_154 0 6 (dk_at dksX0_again_0 4 rfl rfl)
theorem dX0_again_7 : decode cX0_again 7 = .ok (.bipush (-3), 2) := dk_16 253 (dk_at dksX0_again_0 7 rfl rfl)
theorem dX0_again_9 : decode cX0_again 9 = .ok (.ireturn, 1) := dk_172 (dk_at dksX0_again_0 9 rfl rfl)
theorem dX0_again_10 : decode cX0_again 10 = .ok (.aload_n 0, 1) := dk_42 (dk_at dksX0_again_0 10 rfl rfl)
theorem dX0_again_11 : decode cX0_again 11 = .ok (.getfield 22, 3) := dk_180 0 22 (dk_at dksX0_again_0 11 rfl rfl)
theorem dX0_again_14 : decode cX0_again 14 = .ok (.aload_n 0, 1) := dk_42 (dk_at dksX0_again_0 14 rfl rfl)
theorem dX0_again_15 : decode cX0_again 15 = .ok (.getfield 26, 3) := dk_180 0 26 (dk_at dksX0_again_0 15 rfl rfl)
theorem dX0_again_18 : decode cX0_again 18 = .ok (.invokevirtual 467, 3) := dk_182 1 211 (dk_at dksX0_again_0 18 rfl rfl)
theorem dX0_again_21 : decode cX0_again 21 = .ok (.aload_n 0, 1) := dk_42 (dk_at dksX0_again_0 21 rfl rfl)
theorem dX0_again_22 : decode cX0_again 22 = .ok (.getfield 22, 3) := dk_180 0 22 (dk_at dksX0_again_1 0 rfl rfl)
theorem dX0_again_25 : decode cX0_again 25 = .ok (.getfield 238, 3) := dk_180 0 238 (dk_at dksX0_again_1 3 rfl rfl)
theorem dX0_again_28 : decode cX0_again 28 = .ok (.getfield 155, 3) := dk_180 0 155 (dk_at dksX0_again_1 6 rfl rfl)
theorem dX0_again_31 : decode cX0_again 31 = .ok (.ireturn, 1) := dk_172 (dk_at dksX0_again_1 9 rfl rfl)
theorem q83 : (Jvm.Cond.initialized "ColdBox") ∈ lw_all := lw_g (lw_at lw_m1 1 rfl) rfl
theorem q130 : (Jvm.Cond.instantiable "ColdBox" (25 : Nat)) ∈ lw_all := lw_g (lw_at lw_m1 48 rfl) rfl
theorem q132 : (Jvm.Cond.instanceMethod ({ cls := "ColdBox", name := "<init>", desc := "()V" } : Jvm.MethodName)) ∈ lw_all := lw_g (lw_at lw_m1 50 rfl) rfl
theorem q133 : (Jvm.Cond.code ({ cls := "ColdBox", name := "<init>", desc := "()V" } : Jvm.MethodName) prog_1_method_5_code (1 : Nat) (Option.none : Option Jvm.ClassFile.FieldType)) ∈ lw_all := lw_g (lw_at lw_m1 51 rfl) rfl
theorem q134 : (Jvm.Cond.methodLink "ColdBox" (13 : Nat) ({ cls := "java/lang/Object", name := "<init>", desc := "()V" } : Jvm.MethodName)) ∈ lw_all := lw_g (lw_at lw_m1 52 rfl) rfl
theorem q137 : (Jvm.Cond.classLink "ColdBox" (19 : Nat) "ColdBox$Winter") ∈ lw_all := lw_g (lw_at lw_m1 55 rfl) rfl
theorem q139 : (Jvm.Cond.methodLink "ColdBox" (21 : Nat) ({ cls := "ColdBox$Winter", name := "<init>", desc := "()V" } : Jvm.MethodName)) ∈ lw_all := lw_g (lw_at lw_m1 57 rfl) rfl
theorem q152 : (Jvm.Cond.fieldLinkNest "ColdBox" (241 : Nat) "ColdBox$Body" "length" "I" "ColdBox") ∈ lw_tbl := lw_at lw_m1 70 rfl
theorem q154 : (Jvm.Cond.fieldLinkNest "ColdBox" (166 : Nat) "ColdBox$Body" "fat" "I" "ColdBox") ∈ lw_tbl := lw_at lw_m1 72 rfl
theorem q156 : (Jvm.Cond.fieldLinkNest "ColdBox" (176 : Nat) "ColdBox$Body" "water" "I" "ColdBox") ∈ lw_tbl := lw_at lw_m1 74 rfl
theorem q158 : (Jvm.Cond.fieldLinkNest "ColdBox" (244 : Nat) "ColdBox$Body" "rest" "I" "ColdBox") ∈ lw_tbl := lw_at lw_m1 76 rfl
theorem q160 : (Jvm.Cond.fieldLinkNest "ColdBox" (189 : Nat) "ColdBox$Body" "eyes" "I" "ColdBox") ∈ lw_tbl := lw_at lw_m1 78 rfl
theorem q165 : (Jvm.Cond.fieldLinkNest "ColdBox" (159 : Nat) "ColdBox$Body" "place" "I" "ColdBox") ∈ lw_tbl := lw_at lw_m1 83 rfl
theorem q168 : (Jvm.Cond.fieldLinkNest "ColdBox" (155 : Nat) "ColdBox$Body" "week" "I" "ColdBox") ∈ lw_tbl := lw_at lw_m1 86 rfl
theorem q186 : (Jvm.Cond.fieldLinkNest "ColdBox" (212 : Nat) "ColdBox$Winter" "clauses" "I" "ColdBox") ∈ lw_tbl := lw_at lw_m1 104 rfl
theorem q189 : (Jvm.Cond.fieldLinkNest "ColdBox" (309 : Nat) "ColdBox$Winter" "many" "I" "ColdBox") ∈ lw_tbl := lw_at lw_m1 107 rfl
theorem q191 : (Jvm.Cond.fieldLinkNest "ColdBox" (305 : Nat) "ColdBox$Winter" "z" "I" "ColdBox") ∈ lw_tbl := lw_at lw_m1 109 rfl
theorem q193 : (Jvm.Cond.fieldLinkNest "ColdBox" (220 : Nat) "ColdBox$Winter" "out" "[I" "ColdBox") ∈ lw_tbl := lw_at lw_m1 111 rfl
theorem q195 : (Jvm.Cond.fieldLinkNest "ColdBox" (179 : Nat) "ColdBox$Winter" "air" "[I" "ColdBox") ∈ lw_tbl := lw_at lw_m1 113 rfl
theorem q197 : (Jvm.Cond.fieldLinkNest "ColdBox" (232 : Nat) "ColdBox$Winter" "rule" "[I" "ColdBox") ∈ lw_tbl := lw_at lw_m1 115 rfl
theorem q199 : (Jvm.Cond.fieldLinkNest "ColdBox" (310 : Nat) "ColdBox$Winter" "length" "[I" "ColdBox") ∈ lw_tbl := lw_at lw_m1 117 rfl
theorem q201 : (Jvm.Cond.fieldLinkNest "ColdBox" (312 : Nat) "ColdBox$Winter" "weight" "[I" "ColdBox") ∈ lw_tbl := lw_at lw_m1 119 rfl
theorem q207 : (Jvm.Cond.fieldLinkNest "ColdBox" (269 : Nat) "ColdBox$Winter" "conds" "[LColdBox$Cond;" "ColdBox") ∈ lw_tbl := lw_at lw_m1 125 rfl
theorem q209 : (Jvm.Cond.fieldLinkNest "ColdBox" (238 : Nat) "ColdBox$Winter" "body" "LColdBox$Body;" "ColdBox") ∈ lw_tbl := lw_at lw_m1 127 rfl
theorem q233 : (Jvm.Cond.classLink "ColdBox" (32 : Nat) "ColdBox$Body") ∈ lw_all := lw_g (lw_at lw_m1 151 rfl) rfl
theorem q234 : (Jvm.Cond.methodLinkNest "ColdBox" (34 : Nat) ({ cls := "ColdBox$Body", name := "<init>", desc := "()V" } : Jvm.MethodName) "ColdBox") ∈ lw_tbl := lw_at lw_m1 152 rfl
theorem q235 : (Jvm.Cond.classLink "ColdBox" (42 : Nat) "ColdBox$Nature") ∈ lw_all := lw_g (lw_at lw_m1 153 rfl) rfl
theorem q237 : (Jvm.Cond.classLink "ColdBox" (44 : Nat) "ColdBox$Plain") ∈ lw_all := lw_g (lw_at lw_m1 155 rfl) rfl
theorem q239 : (Jvm.Cond.methodLinkNest "ColdBox" (46 : Nat) ({ cls := "ColdBox$Plain", name := "<init>", desc := "(LColdBox;)V" } : Jvm.MethodName) "ColdBox") ∈ lw_tbl := lw_at lw_m1 157 rfl
theorem q253 : (Jvm.Cond.classLink "ColdBox" (49 : Nat) "ColdBox$Deep") ∈ lw_all := lw_g (lw_at lw_m1 171 rfl) rfl
theorem q255 : (Jvm.Cond.methodLinkNest "ColdBox" (51 : Nat) ({ cls := "ColdBox$Deep", name := "<init>", desc := "(LColdBox;)V" } : Jvm.MethodName) "ColdBox") ∈ lw_tbl := lw_at lw_m1 173 rfl
theorem q265 : (Jvm.Cond.classLink "ColdBox" (52 : Nat) "ColdBox$Mild") ∈ lw_all := lw_g (lw_at lw_m1 183 rfl) rfl
theorem q267 : (Jvm.Cond.methodLinkNest "ColdBox" (54 : Nat) ({ cls := "ColdBox$Mild", name := "<init>", desc := "(LColdBox;)V" } : Jvm.MethodName) "ColdBox") ∈ lw_tbl := lw_at lw_m1 185 rfl
theorem q277 : (Jvm.Cond.classLink "ColdBox" (55 : Nat) "ColdBox$Awake") ∈ lw_all := lw_g (lw_at lw_m1 195 rfl) rfl
theorem q279 : (Jvm.Cond.methodLinkNest "ColdBox" (57 : Nat) ({ cls := "ColdBox$Awake", name := "<init>", desc := "(LColdBox;)V" } : Jvm.MethodName) "ColdBox") ∈ lw_tbl := lw_at lw_m1 197 rfl
theorem q290 : (Jvm.Cond.classLink "ColdBox" (58 : Nat) "ColdBox$Frosted") ∈ lw_all := lw_g (lw_at lw_m1 208 rfl) rfl
theorem q292 : (Jvm.Cond.methodLinkNest "ColdBox" (60 : Nat) ({ cls := "ColdBox$Frosted", name := "<init>", desc := "(LColdBox;)V" } : Jvm.MethodName) "ColdBox") ∈ lw_tbl := lw_at lw_m1 210 rfl
theorem q303 : (Jvm.Cond.classLink "ColdBox" (61 : Nat) "ColdBox$Drying") ∈ lw_all := lw_g (lw_at lw_m1 221 rfl) rfl
theorem q305 : (Jvm.Cond.methodLinkNest "ColdBox" (63 : Nat) ({ cls := "ColdBox$Drying", name := "<init>", desc := "(LColdBox;)V" } : Jvm.MethodName) "ColdBox") ∈ lw_tbl := lw_at lw_m1 223 rfl
theorem q315 : (Jvm.Cond.classLink "ColdBox" (72 : Nat) "ColdBox$Reader") ∈ lw_all := lw_g (lw_at lw_m1 233 rfl) rfl
theorem q317 : (Jvm.Cond.methodLink "ColdBox" (74 : Nat) ({ cls := "ColdBox$Reader", name := "<init>", desc := "(LColdBox$Winter;)V" } : Jvm.MethodName)) ∈ lw_all := lw_g (lw_at lw_m1 235 rfl) rfl
theorem q390 : (Jvm.Cond.fieldLinkNest "ColdBox" (208 : Nat) "ColdBox$Fault" "place" "I" "ColdBox") ∈ lw_tbl := lw_at lw_m2 68 rfl
theorem q435 : (Jvm.Cond.classLink "ColdBox" (85 : Nat) "ColdBox$Plainly") ∈ lw_all := lw_g (lw_at lw_m2 113 rfl) rfl
theorem q437 : (Jvm.Cond.methodLinkNest "ColdBox" (87 : Nat) ({ cls := "ColdBox$Plainly", name := "<init>", desc := "(LColdBox;)V" } : Jvm.MethodName) "ColdBox") ∈ lw_tbl := lw_at lw_m2 115 rfl
theorem q450 : (Jvm.Cond.fieldLink "ColdBox" (286 : Nat) "ColdBox$Plainly" "many" "I") ∈ lw_all := lw_g (lw_at lw_m2 128 rfl) rfl
theorem q452 : (Jvm.Cond.fieldLink "ColdBox" (328 : Nat) "ColdBox$Shows" "many" "I") ∈ lw_all := lw_g (lw_at lw_m2 130 rfl) rfl
theorem q453 : (Jvm.Cond.fieldLink "ColdBox" (333 : Nat) "ColdBox$Judges" "many" "I") ∈ lw_all := lw_g (lw_at lw_m2 131 rfl) rfl
theorem q462 : (Jvm.Cond.classLink "ColdBox" (92 : Nat) "ColdBox$Row") ∈ lw_all := lw_g (lw_at lw_m2 140 rfl) rfl
theorem q464 : (Jvm.Cond.classLink "ColdBox" (98 : Nat) "ColdBox$Shows") ∈ lw_all := lw_g (lw_at lw_m2 142 rfl) rfl
theorem q466 : (Jvm.Cond.methodLinkNest "ColdBox" (100 : Nat) ({ cls := "ColdBox$Shows", name := "<init>", desc := "(LColdBox;)V" } : Jvm.MethodName) "ColdBox") ∈ lw_tbl := lw_at lw_m2 144 rfl
theorem q476 : (Jvm.Cond.classLink "ColdBox" (105 : Nat) "ColdBox$Judges") ∈ lw_all := lw_g (lw_at lw_m2 154 rfl) rfl
theorem q478 : (Jvm.Cond.methodLinkNest "ColdBox" (107 : Nat) ({ cls := "ColdBox$Judges", name := "<init>", desc := "(LColdBox;)V" } : Jvm.MethodName) "ColdBox") ∈ lw_tbl := lw_at lw_m2 156 rfl
theorem q483 : (Jvm.Cond.fieldLinkNest "ColdBox" (329 : Nat) "ColdBox$Judges" "wrong" "I" "ColdBox") ∈ lw_tbl := lw_at lw_m2 161 rfl
theorem q492 : (Jvm.Cond.classLink "ColdBox" (112 : Nat) "ColdBox$Sheet") ∈ lw_all := lw_g (lw_at lw_m2 170 rfl) rfl
theorem q495 : (Jvm.Cond.methodLinkNest "ColdBox" (114 : Nat) ({ cls := "ColdBox$Sheet", name := "<init>", desc := "()V" } : Jvm.MethodName) "ColdBox") ∈ lw_tbl := lw_at lw_m2 173 rfl
theorem q515 : (Jvm.Cond.classLink "ColdBox" (119 : Nat) "ColdBox$Beyond") ∈ lw_all := lw_g (lw_at lw_m2 193 rfl) rfl
theorem q524 : (Jvm.Cond.methodLink "ColdBox" (121 : Nat) ({ cls := "ColdBox$Beyond", name := "<init>", desc := "()V" } : Jvm.MethodName)) ∈ lw_all := lw_g (lw_at lw_m2 202 rfl) rfl
theorem q530 : (Jvm.Cond.classLink "ColdBox" (126 : Nat) "ColdBox$Nothing") ∈ lw_all := lw_g (lw_at lw_m2 208 rfl) rfl
theorem q539 : (Jvm.Cond.methodLink "ColdBox" (128 : Nat) ({ cls := "ColdBox$Nothing", name := "<init>", desc := "()V" } : Jvm.MethodName)) ∈ lw_all := lw_g (lw_at lw_m2 217 rfl) rfl
theorem q545 : (Jvm.Cond.classLink "ColdBox" (136 : Nat) "ColdBox$Shelf") ∈ lw_all := lw_g (lw_at lw_m2 223 rfl) rfl
theorem q548 : (Jvm.Cond.methodLinkNest "ColdBox" (138 : Nat) ({ cls := "ColdBox$Shelf", name := "<init>", desc := "()V" } : Jvm.MethodName) "ColdBox") ∈ lw_tbl := lw_at lw_m2 226 rfl
theorem q553 : (Jvm.Cond.fieldLinkNest "ColdBox" (400 : Nat) "ColdBox$Shelf" "what" "I" "ColdBox") ∈ lw_tbl := lw_at lw_m2 231 rfl
theorem q554 : (Jvm.Cond.fieldLinkNest "ColdBox" (403 : Nat) "ColdBox$Shelf" "number" "I" "ColdBox") ∈ lw_tbl := lw_at lw_m2 232 rfl
theorem q555 : (Jvm.Cond.fieldLinkNest "ColdBox" (410 : Nat) "ColdBox$Shelf" "row" "Ljava/lang/Object;" "ColdBox") ∈ lw_tbl := lw_at lw_m2 233 rfl
theorem q565 : (Jvm.Cond.fieldLink "ColdBox" (22 : Nat) "ColdBox" "d" "LColdBox$Winter;") ∈ lw_all := lw_g (lw_at lw_m3 3 rfl) rfl
theorem q566 : (Jvm.Cond.fieldLink "ColdBox" (26 : Nat) "ColdBox" "kept" "LColdBox$Winter;") ∈ lw_all := lw_g (lw_at lw_m3 4 rfl) rfl
theorem q567 : (Jvm.Cond.fieldLink "ColdBox" (29 : Nat) "ColdBox" "draft" "LColdBox$Winter;") ∈ lw_all := lw_g (lw_at lw_m3 5 rfl) rfl
theorem q568 : (Jvm.Cond.fieldLink "ColdBox" (35 : Nat) "ColdBox" "tried" "LColdBox$Body;") ∈ lw_all := lw_g (lw_at lw_m3 6 rfl) rfl
theorem q569 : (Jvm.Cond.fieldLink "ColdBox" (39 : Nat) "ColdBox" "other" "LColdBox$Body;") ∈ lw_all := lw_g (lw_at lw_m3 7 rfl) rfl
theorem q570 : (Jvm.Cond.fieldLink "ColdBox" (469 : Nat) "ColdBox" "isKept" "Z") ∈ lw_all := lw_g (lw_at lw_m3 8 rfl) rfl
theorem q571 : (Jvm.Cond.fieldLink "ColdBox" (64 : Nat) "ColdBox" "natures" "[LColdBox$Nature;") ∈ lw_all := lw_g (lw_at lw_m3 9 rfl) rfl
theorem q572 : (Jvm.Cond.fieldLink "ColdBox" (68 : Nat) "ColdBox" "tape" "[B") ∈ lw_all := lw_g (lw_at lw_m3 10 rfl) rfl
theorem q573 : (Jvm.Cond.fieldLink "ColdBox" (199 : Nat) "ColdBox" "taped" "I") ∈ lw_all := lw_g (lw_at lw_m3 11 rfl) rfl
theorem q574 : (Jvm.Cond.fieldLink "ColdBox" (77 : Nat) "ColdBox" "reader" "LColdBox$Reader;") ∈ lw_all := lw_g (lw_at lw_m3 12 rfl) rfl
theorem q575 : (Jvm.Cond.fieldLink "ColdBox" (81 : Nat) "ColdBox" "facts" "[I") ∈ lw_all := lw_g (lw_at lw_m3 13 rfl) rfl
theorem q576 : (Jvm.Cond.fieldLink "ColdBox" (88 : Nat) "ColdBox" "plainly" "LColdBox$Plainly;") ∈ lw_all := lw_g (lw_at lw_m3 14 rfl) rfl
theorem q577 : (Jvm.Cond.fieldLink "ColdBox" (298 : Nat) "ColdBox" "bestLeft" "I") ∈ lw_all := lw_g (lw_at lw_m3 15 rfl) rfl
theorem q578 : (Jvm.Cond.fieldLink "ColdBox" (295 : Nat) "ColdBox" "bestEyes" "I") ∈ lw_all := lw_g (lw_at lw_m3 16 rfl) rfl
theorem q579 : (Jvm.Cond.fieldLink "ColdBox" (292 : Nat) "ColdBox" "bestDigits" "I") ∈ lw_all := lw_g (lw_at lw_m3 17 rfl) rfl
theorem q581 : (Jvm.Cond.fieldLink "ColdBox" (94 : Nat) "ColdBox" "rows" "[LColdBox$Row;") ∈ lw_all := lw_g (lw_at lw_m3 19 rfl) rfl
theorem q583 : (Jvm.Cond.fieldLink "ColdBox" (318 : Nat) "ColdBox" "rowMany" "I") ∈ lw_all := lw_g (lw_at lw_m3 21 rfl) rfl
theorem q584 : (Jvm.Cond.fieldLink "ColdBox" (101 : Nat) "ColdBox" "shows" "LColdBox$Shows;") ∈ lw_all := lw_g (lw_at lw_m3 22 rfl) rfl
theorem q585 : (Jvm.Cond.fieldLink "ColdBox" (108 : Nat) "ColdBox" "judges" "LColdBox$Judges;") ∈ lw_all := lw_g (lw_at lw_m3 23 rfl) rfl
theorem q586 : (Jvm.Cond.fieldLink "ColdBox" (115 : Nat) "ColdBox" "sheets" "[LColdBox$Sheet;") ∈ lw_all := lw_g (lw_at lw_m3 24 rfl) rfl
theorem q587 : (Jvm.Cond.fieldLink "ColdBox" (122 : Nat) "ColdBox" "beyond" "LColdBox$Beyond;") ∈ lw_all := lw_g (lw_at lw_m3 25 rfl) rfl
theorem q588 : (Jvm.Cond.fieldLink "ColdBox" (129 : Nat) "ColdBox" "nothing" "LColdBox$Nothing;") ∈ lw_all := lw_g (lw_at lw_m3 26 rfl) rfl
theorem q589 : (Jvm.Cond.fieldLink "ColdBox" (133 : Nat) "ColdBox" "traced" "[I") ∈ lw_all := lw_g (lw_at lw_m3 27 rfl) rfl
theorem q590 : (Jvm.Cond.fieldLink "ColdBox" (397 : Nat) "ColdBox" "bodies" "I") ∈ lw_all := lw_g (lw_at lw_m3 28 rfl) rfl
theorem q591 : (Jvm.Cond.fieldLink "ColdBox" (139 : Nat) "ColdBox" "shelves" "[LColdBox$Shelf;") ∈ lw_all := lw_g (lw_at lw_m3 29 rfl) rfl
theorem q592 : (Jvm.Cond.laysFinal "ColdBox" "ColdBox" "d" "LColdBox$Winter;") ∈ lw_all := lw_g (lw_at lw_m3 30 rfl) rfl
theorem q593 : (Jvm.Cond.soleField "ColdBox" "d") ∈ lw_all := lw_g (lw_at lw_m3 31 rfl) rfl
theorem q594 : (Jvm.Cond.laysFinal "ColdBox" "ColdBox" "kept" "LColdBox$Winter;") ∈ lw_all := lw_g (lw_at lw_m3 32 rfl) rfl
theorem q595 : (Jvm.Cond.soleField "ColdBox" "kept") ∈ lw_all := lw_g (lw_at lw_m3 33 rfl) rfl
theorem q596 : (Jvm.Cond.laysFinal "ColdBox" "ColdBox" "draft" "LColdBox$Winter;") ∈ lw_all := lw_g (lw_at lw_m3 34 rfl) rfl
theorem q597 : (Jvm.Cond.soleField "ColdBox" "draft") ∈ lw_all := lw_g (lw_at lw_m3 35 rfl) rfl
theorem q598 : (Jvm.Cond.laysFinal "ColdBox" "ColdBox" "tried" "LColdBox$Body;") ∈ lw_all := lw_g (lw_at lw_m3 36 rfl) rfl
theorem q599 : (Jvm.Cond.soleField "ColdBox" "tried") ∈ lw_all := lw_g (lw_at lw_m3 37 rfl) rfl
theorem q600 : (Jvm.Cond.laysFinal "ColdBox" "ColdBox" "other" "LColdBox$Body;") ∈ lw_all := lw_g (lw_at lw_m3 38 rfl) rfl
theorem q601 : (Jvm.Cond.soleField "ColdBox" "other") ∈ lw_all := lw_g (lw_at lw_m3 39 rfl) rfl
theorem q602 : (Jvm.Cond.lays "ColdBox" "ColdBox" "isKept" "Z") ∈ lw_all := lw_g (lw_at lw_m3 40 rfl) rfl
theorem q603 : (Jvm.Cond.soleField "ColdBox" "isKept") ∈ lw_all := lw_g (lw_at lw_m3 41 rfl) rfl
theorem q604 : (Jvm.Cond.laysFinal "ColdBox" "ColdBox" "natures" "[LColdBox$Nature;") ∈ lw_all := lw_g (lw_at lw_m3 42 rfl) rfl
theorem q605 : (Jvm.Cond.soleField "ColdBox" "natures") ∈ lw_all := lw_g (lw_at lw_m3 43 rfl) rfl
theorem q606 : (Jvm.Cond.laysFinal "ColdBox" "ColdBox" "tape" "[B") ∈ lw_all := lw_g (lw_at lw_m3 44 rfl) rfl
theorem q607 : (Jvm.Cond.soleField "ColdBox" "tape") ∈ lw_all := lw_g (lw_at lw_m3 45 rfl) rfl
theorem q608 : (Jvm.Cond.lays "ColdBox" "ColdBox" "taped" "I") ∈ lw_all := lw_g (lw_at lw_m3 46 rfl) rfl
theorem q609 : (Jvm.Cond.soleField "ColdBox" "taped") ∈ lw_all := lw_g (lw_at lw_m3 47 rfl) rfl
theorem q610 : (Jvm.Cond.laysFinal "ColdBox" "ColdBox" "reader" "LColdBox$Reader;") ∈ lw_all := lw_g (lw_at lw_m3 48 rfl) rfl
theorem q611 : (Jvm.Cond.soleField "ColdBox" "reader") ∈ lw_all := lw_g (lw_at lw_m3 49 rfl) rfl
theorem q612 : (Jvm.Cond.laysFinal "ColdBox" "ColdBox" "facts" "[I") ∈ lw_all := lw_g (lw_at lw_m3 50 rfl) rfl
theorem q613 : (Jvm.Cond.soleField "ColdBox" "facts") ∈ lw_all := lw_g (lw_at lw_m3 51 rfl) rfl
theorem q614 : (Jvm.Cond.laysFinal "ColdBox" "ColdBox" "plainly" "LColdBox$Plainly;") ∈ lw_all := lw_g (lw_at lw_m3 52 rfl) rfl
theorem q615 : (Jvm.Cond.soleField "ColdBox" "plainly") ∈ lw_all := lw_g (lw_at lw_m3 53 rfl) rfl
theorem q616 : (Jvm.Cond.lays "ColdBox" "ColdBox" "bestLeft" "I") ∈ lw_all := lw_g (lw_at lw_m3 54 rfl) rfl
theorem q617 : (Jvm.Cond.soleField "ColdBox" "bestLeft") ∈ lw_all := lw_g (lw_at lw_m3 55 rfl) rfl
theorem q618 : (Jvm.Cond.lays "ColdBox" "ColdBox" "bestEyes" "I") ∈ lw_all := lw_g (lw_at lw_m3 56 rfl) rfl
theorem q619 : (Jvm.Cond.soleField "ColdBox" "bestEyes") ∈ lw_all := lw_g (lw_at lw_m3 57 rfl) rfl
theorem q620 : (Jvm.Cond.lays "ColdBox" "ColdBox" "bestDigits" "I") ∈ lw_all := lw_g (lw_at lw_m3 58 rfl) rfl
theorem q621 : (Jvm.Cond.soleField "ColdBox" "bestDigits") ∈ lw_all := lw_g (lw_at lw_m3 59 rfl) rfl
theorem q622 : (Jvm.Cond.laysFinal "ColdBox" "ColdBox" "rows" "[LColdBox$Row;") ∈ lw_all := lw_g (lw_at lw_m3 60 rfl) rfl
theorem q623 : (Jvm.Cond.soleField "ColdBox" "rows") ∈ lw_all := lw_g (lw_at lw_m3 61 rfl) rfl
theorem q624 : (Jvm.Cond.lays "ColdBox" "ColdBox" "rowMany" "I") ∈ lw_all := lw_g (lw_at lw_m3 62 rfl) rfl
theorem q625 : (Jvm.Cond.soleField "ColdBox" "rowMany") ∈ lw_all := lw_g (lw_at lw_m3 63 rfl) rfl
theorem q626 : (Jvm.Cond.laysFinal "ColdBox" "ColdBox" "shows" "LColdBox$Shows;") ∈ lw_all := lw_g (lw_at lw_m3 64 rfl) rfl
theorem q627 : (Jvm.Cond.soleField "ColdBox" "shows") ∈ lw_all := lw_g (lw_at lw_m3 65 rfl) rfl
theorem q628 : (Jvm.Cond.laysFinal "ColdBox" "ColdBox" "judges" "LColdBox$Judges;") ∈ lw_all := lw_g (lw_at lw_m3 66 rfl) rfl
theorem q629 : (Jvm.Cond.soleField "ColdBox" "judges") ∈ lw_all := lw_g (lw_at lw_m3 67 rfl) rfl
theorem q630 : (Jvm.Cond.laysFinal "ColdBox" "ColdBox" "sheets" "[LColdBox$Sheet;") ∈ lw_all := lw_g (lw_at lw_m3 68 rfl) rfl
theorem q631 : (Jvm.Cond.soleField "ColdBox" "sheets") ∈ lw_all := lw_g (lw_at lw_m3 69 rfl) rfl
theorem q632 : (Jvm.Cond.laysFinal "ColdBox" "ColdBox" "beyond" "LColdBox$Beyond;") ∈ lw_all := lw_g (lw_at lw_m3 70 rfl) rfl
theorem q633 : (Jvm.Cond.soleField "ColdBox" "beyond") ∈ lw_all := lw_g (lw_at lw_m3 71 rfl) rfl
theorem q634 : (Jvm.Cond.laysFinal "ColdBox" "ColdBox" "nothing" "LColdBox$Nothing;") ∈ lw_all := lw_g (lw_at lw_m3 72 rfl) rfl
theorem q635 : (Jvm.Cond.soleField "ColdBox" "nothing") ∈ lw_all := lw_g (lw_at lw_m3 73 rfl) rfl
theorem q636 : (Jvm.Cond.laysFinal "ColdBox" "ColdBox" "traced" "[I") ∈ lw_all := lw_g (lw_at lw_m3 74 rfl) rfl
theorem q637 : (Jvm.Cond.soleField "ColdBox" "traced") ∈ lw_all := lw_g (lw_at lw_m3 75 rfl) rfl
theorem q638 : (Jvm.Cond.lays "ColdBox" "ColdBox" "bodies" "I") ∈ lw_all := lw_g (lw_at lw_m3 76 rfl) rfl
theorem q639 : (Jvm.Cond.soleField "ColdBox" "bodies") ∈ lw_all := lw_g (lw_at lw_m3 77 rfl) rfl
theorem q640 : (Jvm.Cond.laysFinal "ColdBox" "ColdBox" "shelves" "[LColdBox$Shelf;") ∈ lw_all := lw_g (lw_at lw_m3 78 rfl) rfl
theorem q641 : (Jvm.Cond.soleField "ColdBox" "shelves") ∈ lw_all := lw_g (lw_at lw_m3 79 rfl) rfl
theorem q642 : (Jvm.Cond.superclass "ColdBox" "java/lang/Object") ∈ lw_all := lw_g (lw_at lw_m3 80 rfl) rfl
theorem q644 : (Jvm.Cond.instanceMethod ({ cls := "ColdBox", name := "feed", desc := "(JI)I" } : Jvm.MethodName)) ∈ lw_all := lw_g (lw_at lw_m3 82 rfl) rfl
theorem q645 : (Jvm.Cond.selects "ColdBox" ({ cls := "ColdBox", name := "feed", desc := "(JI)I" } : Jvm.MethodName) ({ cls := "ColdBox", name := "feed", desc := "(JI)I" } : Jvm.MethodName)) ∈ lw_all := lw_g (lw_at lw_m3 83 rfl) rfl
theorem q646 : (Jvm.Cond.code ({ cls := "ColdBox", name := "feed", desc := "(JI)I" } : Jvm.MethodName) prog_1_method_10_code (5 : Nat) (Option.some Jvm.ClassFile.FieldType.int)) ∈ lw_all := lw_g (lw_at lw_m3 84 rfl) rfl
theorem q647 : (Jvm.Cond.methodLink "ColdBox" (143 : Nat) ({ cls := "ColdBox", name := "in", desc := "(III)Z" } : Jvm.MethodName)) ∈ lw_all := lw_g (lw_at lw_m3 85 rfl) rfl
theorem q648 : (Jvm.Cond.static ({ cls := "ColdBox", name := "in", desc := "(III)Z" } : Jvm.MethodName)) ∈ lw_all := lw_g (lw_at lw_m3 86 rfl) rfl
theorem q649 : (Jvm.Cond.code ({ cls := "ColdBox", name := "in", desc := "(III)Z" } : Jvm.MethodName) prog_1_method_1_code (3 : Nat) (Option.some Jvm.ClassFile.FieldType.boolean)) ∈ lw_all := lw_g (lw_at lw_m3 87 rfl) rfl
theorem q651 : (Jvm.Cond.instanceMethod ({ cls := "ColdBox", name := "plan", desc := "()I" } : Jvm.MethodName)) ∈ lw_all := lw_g (lw_at lw_m3 89 rfl) rfl
theorem q652 : (Jvm.Cond.selects "ColdBox" ({ cls := "ColdBox", name := "plan", desc := "()I" } : Jvm.MethodName) ({ cls := "ColdBox", name := "plan", desc := "()I" } : Jvm.MethodName)) ∈ lw_all := lw_g (lw_at lw_m3 90 rfl) rfl
theorem q653 : (Jvm.Cond.codeWith ({ cls := "ColdBox", name := "plan", desc := "()I" } : Jvm.MethodName) prog_1_method_11_code (3 : Nat) (Option.some Jvm.ClassFile.FieldType.int) [((10 : Nat), (22 : Nat), (25 : Nat), (206 : Nat))]) ∈ lw_all := lw_g (lw_at lw_m3 91 rfl) rfl
theorem q654 : (Jvm.Cond.classLink "ColdBox" (206 : Nat) "ColdBox$Fault") ∈ lw_all := lw_g (lw_at lw_m3 92 rfl) rfl
theorem q655 : (Jvm.Cond.methodLink "ColdBox" (202 : Nat) ({ cls := "ColdBox$Reader", name := "read", desc := "([BI)V" } : Jvm.MethodName)) ∈ lw_all := lw_g (lw_at lw_m3 93 rfl) rfl
theorem q844 : (Jvm.Cond.methodLink "ColdBox" (209 : Nat) ({ cls := "ColdBox$Winter", name := "becomePlan", desc := "(LColdBox$Winter;)V" } : Jvm.MethodName)) ∈ lw_all := lw_g (lw_at lw_m4 42 rfl) rfl
theorem q855 : (Jvm.Cond.instanceMethod ({ cls := "ColdBox", name := "out", desc := "(II)I" } : Jvm.MethodName)) ∈ lw_all := lw_g (lw_at lw_m4 53 rfl) rfl
theorem q856 : (Jvm.Cond.selects "ColdBox" ({ cls := "ColdBox", name := "out", desc := "(II)I" } : Jvm.MethodName) ({ cls := "ColdBox", name := "out", desc := "(II)I" } : Jvm.MethodName)) ∈ lw_all := lw_g (lw_at lw_m4 54 rfl) rfl
theorem q857 : (Jvm.Cond.code ({ cls := "ColdBox", name := "out", desc := "(II)I" } : Jvm.MethodName) prog_1_method_12_code (4 : Nat) (Option.some Jvm.ClassFile.FieldType.int)) ∈ lw_all := lw_g (lw_at lw_m4 55 rfl) rfl
theorem q858 : (Jvm.Cond.methodLink "ColdBox" (215 : Nat) ({ cls := "ColdBox", name := "isWeek", desc := "(I)Z" } : Jvm.MethodName)) ∈ lw_all := lw_g (lw_at lw_m4 56 rfl) rfl
theorem q859 : (Jvm.Cond.static ({ cls := "ColdBox", name := "isWeek", desc := "(I)Z" } : Jvm.MethodName)) ∈ lw_all := lw_g (lw_at lw_m4 57 rfl) rfl
theorem q860 : (Jvm.Cond.code ({ cls := "ColdBox", name := "isWeek", desc := "(I)Z" } : Jvm.MethodName) prog_1_method_6_code (1 : Nat) (Option.some Jvm.ClassFile.FieldType.boolean)) ∈ lw_all := lw_g (lw_at lw_m4 58 rfl) rfl
theorem q861 : (Jvm.Cond.constant "ColdBox" (219 : Nat) (-2147483648 : Int32)) ∈ lw_all := lw_g (lw_at lw_m4 59 rfl) rfl
theorem q863 : (Jvm.Cond.instanceMethod ({ cls := "ColdBox", name := "air", desc := "(II)I" } : Jvm.MethodName)) ∈ lw_all := lw_g (lw_at lw_m4 61 rfl) rfl
theorem q864 : (Jvm.Cond.selects "ColdBox" ({ cls := "ColdBox", name := "air", desc := "(II)I" } : Jvm.MethodName) ({ cls := "ColdBox", name := "air", desc := "(II)I" } : Jvm.MethodName)) ∈ lw_all := lw_g (lw_at lw_m4 62 rfl) rfl
theorem q865 : (Jvm.Cond.code ({ cls := "ColdBox", name := "air", desc := "(II)I" } : Jvm.MethodName) prog_1_method_13_code (4 : Nat) (Option.some Jvm.ClassFile.FieldType.int)) ∈ lw_all := lw_g (lw_at lw_m4 63 rfl) rfl
theorem q867 : (Jvm.Cond.instanceMethod ({ cls := "ColdBox", name := "weekOf", desc := "(III)I" } : Jvm.MethodName)) ∈ lw_all := lw_g (lw_at lw_m4 65 rfl) rfl
theorem q868 : (Jvm.Cond.selects "ColdBox" ({ cls := "ColdBox", name := "weekOf", desc := "(III)I" } : Jvm.MethodName) ({ cls := "ColdBox", name := "weekOf", desc := "(III)I" } : Jvm.MethodName)) ∈ lw_all := lw_g (lw_at lw_m4 66 rfl) rfl
theorem q869 : (Jvm.Cond.code ({ cls := "ColdBox", name := "weekOf", desc := "(III)I" } : Jvm.MethodName) prog_1_method_14_code (4 : Nat) (Option.some Jvm.ClassFile.FieldType.int)) ∈ lw_all := lw_g (lw_at lw_m4 67 rfl) rfl
theorem q870 : (Jvm.Cond.methodLink "ColdBox" (223 : Nat) ({ cls := "ColdBox", name := "isPlace", desc := "(I)Z" } : Jvm.MethodName)) ∈ lw_all := lw_g (lw_at lw_m4 68 rfl) rfl
theorem q871 : (Jvm.Cond.static ({ cls := "ColdBox", name := "isPlace", desc := "(I)Z" } : Jvm.MethodName)) ∈ lw_all := lw_g (lw_at lw_m4 69 rfl) rfl
theorem q872 : (Jvm.Cond.code ({ cls := "ColdBox", name := "isPlace", desc := "(I)Z" } : Jvm.MethodName) prog_1_method_7_code (1 : Nat) (Option.some Jvm.ClassFile.FieldType.boolean)) ∈ lw_all := lw_g (lw_at lw_m4 70 rfl) rfl
theorem q873 : (Jvm.Cond.methodLink "ColdBox" (169 : Nat) ({ cls := "ColdBox$Winter", name := "warmth", desc := "(II)I" } : Jvm.MethodName)) ∈ lw_all := lw_g (lw_at lw_m4 71 rfl) rfl
theorem q877 : (Jvm.Cond.methodLink "ColdBox" (147 : Nat) ({ cls := "ColdBox$Winter", name := "kindOf", desc := "(II)I" } : Jvm.MethodName)) ∈ lw_all := lw_g (lw_at lw_m4 75 rfl) rfl
theorem q883 : (Jvm.Cond.instanceMethod ({ cls := "ColdBox", name := "rule", desc := "(II)I" } : Jvm.MethodName)) ∈ lw_all := lw_g (lw_at lw_m4 81 rfl) rfl
theorem q884 : (Jvm.Cond.selects "ColdBox" ({ cls := "ColdBox", name := "rule", desc := "(II)I" } : Jvm.MethodName) ({ cls := "ColdBox", name := "rule", desc := "(II)I" } : Jvm.MethodName)) ∈ lw_all := lw_g (lw_at lw_m4 82 rfl) rfl
theorem q885 : (Jvm.Cond.code ({ cls := "ColdBox", name := "rule", desc := "(II)I" } : Jvm.MethodName) prog_1_method_17_code (4 : Nat) (Option.some Jvm.ClassFile.FieldType.int)) ∈ lw_all := lw_g (lw_at lw_m4 83 rfl) rfl
theorem q886 : (Jvm.Cond.methodLink "ColdBox" (226 : Nat) ({ cls := "ColdBox", name := "leastOf", desc := "(I)I" } : Jvm.MethodName)) ∈ lw_all := lw_g (lw_at lw_m4 84 rfl) rfl
theorem q887 : (Jvm.Cond.static ({ cls := "ColdBox", name := "leastOf", desc := "(I)I" } : Jvm.MethodName)) ∈ lw_all := lw_g (lw_at lw_m4 85 rfl) rfl
theorem q888 : (Jvm.Cond.code ({ cls := "ColdBox", name := "leastOf", desc := "(I)I" } : Jvm.MethodName) prog_1_method_15_code (1 : Nat) (Option.some Jvm.ClassFile.FieldType.int)) ∈ lw_all := lw_g (lw_at lw_m4 86 rfl) rfl
theorem q889 : (Jvm.Cond.methodLink "ColdBox" (229 : Nat) ({ cls := "ColdBox", name := "mostOf", desc := "(I)I" } : Jvm.MethodName)) ∈ lw_all := lw_g (lw_at lw_m4 87 rfl) rfl
theorem q890 : (Jvm.Cond.static ({ cls := "ColdBox", name := "mostOf", desc := "(I)I" } : Jvm.MethodName)) ∈ lw_all := lw_g (lw_at lw_m4 88 rfl) rfl
theorem q891 : (Jvm.Cond.code ({ cls := "ColdBox", name := "mostOf", desc := "(I)I" } : Jvm.MethodName) prog_1_method_16_code (1 : Nat) (Option.some Jvm.ClassFile.FieldType.int)) ∈ lw_all := lw_g (lw_at lw_m4 89 rfl) rfl
theorem q893 : (Jvm.Cond.instanceMethod ({ cls := "ColdBox", name := "rate", desc := "(I)I" } : Jvm.MethodName)) ∈ lw_all := lw_g (lw_at lw_m4 91 rfl) rfl
theorem q894 : (Jvm.Cond.selects "ColdBox" ({ cls := "ColdBox", name := "rate", desc := "(I)I" } : Jvm.MethodName) ({ cls := "ColdBox", name := "rate", desc := "(I)I" } : Jvm.MethodName)) ∈ lw_all := lw_g (lw_at lw_m4 92 rfl) rfl
theorem q895 : (Jvm.Cond.code ({ cls := "ColdBox", name := "rate", desc := "(I)I" } : Jvm.MethodName) prog_1_method_18_code (2 : Nat) (Option.some Jvm.ClassFile.FieldType.int)) ∈ lw_all := lw_g (lw_at lw_m4 93 rfl) rfl
theorem q896 : (Jvm.Cond.methodLink "ColdBox" (235 : Nat) ({ cls := "ColdBox$Winter", name := "rate", desc := "(I)I" } : Jvm.MethodName)) ∈ lw_all := lw_g (lw_at lw_m4 94 rfl) rfl
theorem q901 : (Jvm.Cond.instanceMethod ({ cls := "ColdBox", name := "body", desc := "(II)I" } : Jvm.MethodName)) ∈ lw_all := lw_g (lw_at lw_m4 99 rfl) rfl
theorem q902 : (Jvm.Cond.selects "ColdBox" ({ cls := "ColdBox", name := "body", desc := "(II)I" } : Jvm.MethodName) ({ cls := "ColdBox", name := "body", desc := "(II)I" } : Jvm.MethodName)) ∈ lw_all := lw_g (lw_at lw_m4 100 rfl) rfl
theorem q903 : (Jvm.Cond.code ({ cls := "ColdBox", name := "body", desc := "(II)I" } : Jvm.MethodName) prog_1_method_21_code (4 : Nat) (Option.some Jvm.ClassFile.FieldType.int)) ∈ lw_all := lw_g (lw_at lw_m4 101 rfl) rfl
theorem q904 : (Jvm.Cond.methodLink "ColdBox" (247 : Nat) ({ cls := "ColdBox", name := "isBody", desc := "(II)Z" } : Jvm.MethodName)) ∈ lw_all := lw_g (lw_at lw_m4 102 rfl) rfl
theorem q905 : (Jvm.Cond.privateMethod ({ cls := "ColdBox", name := "isBody", desc := "(II)Z" } : Jvm.MethodName)) ∈ lw_tbl := lw_at lw_m4 103 rfl
theorem q906 : (Jvm.Cond.instanceMethod ({ cls := "ColdBox", name := "isBody", desc := "(II)Z" } : Jvm.MethodName)) ∈ lw_all := lw_g (lw_at lw_m4 104 rfl) rfl
theorem q907 : (Jvm.Cond.code ({ cls := "ColdBox", name := "isBody", desc := "(II)Z" } : Jvm.MethodName) prog_1_method_19_code (3 : Nat) (Option.some Jvm.ClassFile.FieldType.boolean)) ∈ lw_all := lw_g (lw_at lw_m4 105 rfl) rfl
theorem q908 : (Jvm.Cond.methodLink "ColdBox" (251 : Nat) ({ cls := "ColdBox", name := "part", desc := "(I)I" } : Jvm.MethodName)) ∈ lw_all := lw_g (lw_at lw_m4 106 rfl) rfl
theorem q909 : (Jvm.Cond.privateMethod ({ cls := "ColdBox", name := "part", desc := "(I)I" } : Jvm.MethodName)) ∈ lw_tbl := lw_at lw_m4 107 rfl
theorem q910 : (Jvm.Cond.instanceMethod ({ cls := "ColdBox", name := "part", desc := "(I)I" } : Jvm.MethodName)) ∈ lw_all := lw_g (lw_at lw_m4 108 rfl) rfl
theorem q911 : (Jvm.Cond.code ({ cls := "ColdBox", name := "part", desc := "(I)I" } : Jvm.MethodName) prog_1_method_20_code (3 : Nat) (Option.some Jvm.ClassFile.FieldType.int)) ∈ lw_all := lw_g (lw_at lw_m4 109 rfl) rfl
theorem q913 : (Jvm.Cond.instanceMethod ({ cls := "ColdBox", name := "bodyOf", desc := "(I)I" } : Jvm.MethodName)) ∈ lw_all := lw_g (lw_at lw_m4 111 rfl) rfl
theorem q914 : (Jvm.Cond.selects "ColdBox" ({ cls := "ColdBox", name := "bodyOf", desc := "(I)I" } : Jvm.MethodName) ({ cls := "ColdBox", name := "bodyOf", desc := "(I)I" } : Jvm.MethodName)) ∈ lw_all := lw_g (lw_at lw_m4 112 rfl) rfl
theorem q915 : (Jvm.Cond.code ({ cls := "ColdBox", name := "bodyOf", desc := "(I)I" } : Jvm.MethodName) prog_1_method_23_code (2 : Nat) (Option.some Jvm.ClassFile.FieldType.int)) ∈ lw_all := lw_g (lw_at lw_m4 113 rfl) rfl
theorem q916 : (Jvm.Cond.methodLink "ColdBox" (256 : Nat) ({ cls := "ColdBox$Body", name := "weight", desc := "()I" } : Jvm.MethodName)) ∈ lw_all := lw_g (lw_at lw_m4 114 rfl) rfl
theorem q920 : (Jvm.Cond.methodLink "ColdBox" (151 : Nat) ({ cls := "ColdBox$Body", name := "isAlive", desc := "()Z" } : Jvm.MethodName)) ∈ lw_all := lw_g (lw_at lw_m4 118 rfl) rfl
theorem q924 : (Jvm.Cond.methodLink "ColdBox" (259 : Nat) ({ cls := "ColdBox", name := "ratio", desc := "(II)I" } : Jvm.MethodName)) ∈ lw_all := lw_g (lw_at lw_m4 122 rfl) rfl
theorem q925 : (Jvm.Cond.static ({ cls := "ColdBox", name := "ratio", desc := "(II)I" } : Jvm.MethodName)) ∈ lw_all := lw_g (lw_at lw_m4 123 rfl) rfl
theorem q926 : (Jvm.Cond.code ({ cls := "ColdBox", name := "ratio", desc := "(II)I" } : Jvm.MethodName) prog_1_method_22_code (4 : Nat) (Option.some Jvm.ClassFile.FieldType.int)) ∈ lw_all := lw_g (lw_at lw_m4 124 rfl) rfl
theorem q927 : (Jvm.Cond.constantLong "ColdBox" (254 : Nat) (1000000 : Int64)) ∈ lw_all := lw_g (lw_at lw_m4 125 rfl) rfl
theorem q929 : (Jvm.Cond.instanceMethod ({ cls := "ColdBox", name := "uses", desc := "(II)I" } : Jvm.MethodName)) ∈ lw_all := lw_g (lw_at lw_m4 127 rfl) rfl
theorem q930 : (Jvm.Cond.selects "ColdBox" ({ cls := "ColdBox", name := "uses", desc := "(II)I" } : Jvm.MethodName) ({ cls := "ColdBox", name := "uses", desc := "(II)I" } : Jvm.MethodName)) ∈ lw_all := lw_g (lw_at lw_m4 128 rfl) rfl
theorem q931 : (Jvm.Cond.code ({ cls := "ColdBox", name := "uses", desc := "(II)I" } : Jvm.MethodName) prog_1_method_24_code (3 : Nat) (Option.some Jvm.ClassFile.FieldType.int)) ∈ lw_all := lw_g (lw_at lw_m4 129 rfl) rfl
theorem q932 : (Jvm.Cond.methodLink "ColdBox" (162 : Nat) ({ cls := "ColdBox", name := "natureOf", desc := "(II)LColdBox$Nature;" } : Jvm.MethodName)) ∈ lw_all := lw_g (lw_at lw_m4 130 rfl) rfl
theorem q933 : (Jvm.Cond.privateMethod ({ cls := "ColdBox", name := "natureOf", desc := "(II)LColdBox$Nature;" } : Jvm.MethodName)) ∈ lw_tbl := lw_at lw_m4 131 rfl
theorem q934 : (Jvm.Cond.instanceMethod ({ cls := "ColdBox", name := "natureOf", desc := "(II)LColdBox$Nature;" } : Jvm.MethodName)) ∈ lw_all := lw_g (lw_at lw_m4 132 rfl) rfl
theorem q935 : (Jvm.Cond.code ({ cls := "ColdBox", name := "natureOf", desc := "(II)LColdBox$Nature;" } : Jvm.MethodName) prog_1_method_8_code (3 : Nat) (Option.some (Jvm.ClassFile.FieldType.object "ColdBox$Nature"))) ∈ lw_all := lw_g (lw_at lw_m4 133 rfl) rfl
theorem q936 : (Jvm.Cond.methodLink "ColdBox" (172 : Nat) ({ cls := "ColdBox$Nature", name := "uses", desc := "(LColdBox$Body;I)I" } : Jvm.MethodName)) ∈ lw_all := lw_g (lw_at lw_m4 134 rfl) rfl
theorem q959 : (Jvm.Cond.instanceMethod ({ cls := "ColdBox", name := "dries", desc := "(II)I" } : Jvm.MethodName)) ∈ lw_all := lw_g (lw_at lw_m4 157 rfl) rfl
theorem q960 : (Jvm.Cond.selects "ColdBox" ({ cls := "ColdBox", name := "dries", desc := "(II)I" } : Jvm.MethodName) ({ cls := "ColdBox", name := "dries", desc := "(II)I" } : Jvm.MethodName)) ∈ lw_all := lw_g (lw_at lw_m4 158 rfl) rfl
theorem q961 : (Jvm.Cond.code ({ cls := "ColdBox", name := "dries", desc := "(II)I" } : Jvm.MethodName) prog_1_method_25_code (3 : Nat) (Option.some Jvm.ClassFile.FieldType.int)) ∈ lw_all := lw_g (lw_at lw_m4 159 rfl) rfl
theorem q962 : (Jvm.Cond.methodLink "ColdBox" (182 : Nat) ({ cls := "ColdBox$Nature", name := "dries", desc := "(I)I" } : Jvm.MethodName)) ∈ lw_all := lw_g (lw_at lw_m4 160 rfl) rfl
theorem q989 : (Jvm.Cond.instanceMethod ({ cls := "ColdBox", name := "goes", desc := "(I)I" } : Jvm.MethodName)) ∈ lw_all := lw_g (lw_at lw_m4 187 rfl) rfl
theorem q990 : (Jvm.Cond.selects "ColdBox" ({ cls := "ColdBox", name := "goes", desc := "(I)I" } : Jvm.MethodName) ({ cls := "ColdBox", name := "goes", desc := "(I)I" } : Jvm.MethodName)) ∈ lw_all := lw_g (lw_at lw_m4 188 rfl) rfl
theorem q991 : (Jvm.Cond.code ({ cls := "ColdBox", name := "goes", desc := "(I)I" } : Jvm.MethodName) prog_1_method_26_code (3 : Nat) (Option.some Jvm.ClassFile.FieldType.int)) ∈ lw_all := lw_g (lw_at lw_m4 189 rfl) rfl
theorem q992 : (Jvm.Cond.methodLink "ColdBox" (262 : Nat) ({ cls := "ColdBox", name := "passes", desc := "(LColdBox$Body;)V" } : Jvm.MethodName)) ∈ lw_all := lw_g (lw_at lw_m4 190 rfl) rfl
theorem q993 : (Jvm.Cond.privateMethod ({ cls := "ColdBox", name := "passes", desc := "(LColdBox$Body;)V" } : Jvm.MethodName)) ∈ lw_tbl := lw_at lw_m4 191 rfl
theorem q994 : (Jvm.Cond.instanceMethod ({ cls := "ColdBox", name := "passes", desc := "(LColdBox$Body;)V" } : Jvm.MethodName)) ∈ lw_all := lw_g (lw_at lw_m4 192 rfl) rfl
theorem q995 : (Jvm.Cond.code ({ cls := "ColdBox", name := "passes", desc := "(LColdBox$Body;)V" } : Jvm.MethodName) prog_1_method_9_code (4 : Nat) (Option.none : Option Jvm.ClassFile.FieldType)) ∈ lw_all := lw_g (lw_at lw_m4 193 rfl) rfl
theorem q996 : (Jvm.Cond.methodLink "ColdBox" (186 : Nat) ({ cls := "java/lang/Math", name := "max", desc := "(II)I" } : Jvm.MethodName)) ∈ lw_all := lw_g (lw_at lw_m4 194 rfl) rfl
theorem q999 : (Jvm.Cond.methodLink "ColdBox" (192 : Nat) ({ cls := "ColdBox$Nature", name := "harms", desc := "()I" } : Jvm.MethodName)) ∈ lw_all := lw_g (lw_at lw_m4 197 rfl) rfl
theorem q1014 : (Jvm.Cond.methodLink "ColdBox" (196 : Nat) ({ cls := "java/lang/Math", name := "min", desc := "(II)I" } : Jvm.MethodName)) ∈ lw_all := lw_g (lw_at lw_m4 212 rfl) rfl
theorem q1018 : (Jvm.Cond.instanceMethod ({ cls := "ColdBox", name := "begin", desc := "(I)I" } : Jvm.MethodName)) ∈ lw_all := lw_g (lw_at lw_m4 216 rfl) rfl
theorem q1019 : (Jvm.Cond.selects "ColdBox" ({ cls := "ColdBox", name := "begin", desc := "(I)I" } : Jvm.MethodName) ({ cls := "ColdBox", name := "begin", desc := "(I)I" } : Jvm.MethodName)) ∈ lw_all := lw_g (lw_at lw_m4 217 rfl) rfl
theorem q1020 : (Jvm.Cond.code ({ cls := "ColdBox", name := "begin", desc := "(I)I" } : Jvm.MethodName) prog_1_method_27_code (3 : Nat) (Option.some Jvm.ClassFile.FieldType.int)) ∈ lw_all := lw_g (lw_at lw_m4 218 rfl) rfl
theorem q1022 : (Jvm.Cond.instanceMethod ({ cls := "ColdBox", name := "says", desc := "()I" } : Jvm.MethodName)) ∈ lw_all := lw_g (lw_at lw_m4 220 rfl) rfl
theorem q1023 : (Jvm.Cond.selects "ColdBox" ({ cls := "ColdBox", name := "says", desc := "()I" } : Jvm.MethodName) ({ cls := "ColdBox", name := "says", desc := "()I" } : Jvm.MethodName)) ∈ lw_all := lw_g (lw_at lw_m4 221 rfl) rfl
theorem q1024 : (Jvm.Cond.code ({ cls := "ColdBox", name := "says", desc := "()I" } : Jvm.MethodName) prog_1_method_30_code (2 : Nat) (Option.some Jvm.ClassFile.FieldType.int)) ∈ lw_all := lw_g (lw_at lw_m4 222 rfl) rfl
theorem q1025 : (Jvm.Cond.methodLink "ColdBox" (279 : Nat) ({ cls := "ColdBox", name := "clauseOf", desc := "(LColdBox$Body;I)I" } : Jvm.MethodName)) ∈ lw_all := lw_g (lw_at lw_m4 223 rfl) rfl
theorem q1026 : (Jvm.Cond.privateMethod ({ cls := "ColdBox", name := "clauseOf", desc := "(LColdBox$Body;I)I" } : Jvm.MethodName)) ∈ lw_tbl := lw_at lw_m4 224 rfl
theorem q1027 : (Jvm.Cond.instanceMethod ({ cls := "ColdBox", name := "clauseOf", desc := "(LColdBox$Body;I)I" } : Jvm.MethodName)) ∈ lw_all := lw_g (lw_at lw_m4 225 rfl) rfl
theorem q1028 : (Jvm.Cond.code ({ cls := "ColdBox", name := "clauseOf", desc := "(LColdBox$Body;I)I" } : Jvm.MethodName) prog_1_method_29_code (4 : Nat) (Option.some Jvm.ClassFile.FieldType.int)) ∈ lw_all := lw_g (lw_at lw_m4 226 rfl) rfl
theorem q1029 : (Jvm.Cond.methodLink "ColdBox" (266 : Nat) ({ cls := "ColdBox", name := "lossOf", desc := "(II)I" } : Jvm.MethodName)) ∈ lw_all := lw_g (lw_at lw_m4 227 rfl) rfl
theorem q1030 : (Jvm.Cond.static ({ cls := "ColdBox", name := "lossOf", desc := "(II)I" } : Jvm.MethodName)) ∈ lw_all := lw_g (lw_at lw_m4 228 rfl) rfl
theorem q1031 : (Jvm.Cond.code ({ cls := "ColdBox", name := "lossOf", desc := "(II)I" } : Jvm.MethodName) prog_1_method_28_code (2 : Nat) (Option.some Jvm.ClassFile.FieldType.int)) ∈ lw_all := lw_g (lw_at lw_m4 229 rfl) rfl
theorem q1032 : (Jvm.Cond.methodLink "ColdBox" (273 : Nat) ({ cls := "ColdBox$Cond", name := "holds", desc := "([I)Z" } : Jvm.MethodName)) ∈ lw_all := lw_g (lw_at lw_m4 230 rfl) rfl
theorem q1054 : (Jvm.Cond.instanceMethod ({ cls := "ColdBox", name := "lie", desc := "()I" } : Jvm.MethodName)) ∈ lw_all := lw_g (lw_at lw_m5 12 rfl) rfl
theorem q1055 : (Jvm.Cond.selects "ColdBox" ({ cls := "ColdBox", name := "lie", desc := "()I" } : Jvm.MethodName) ({ cls := "ColdBox", name := "lie", desc := "()I" } : Jvm.MethodName)) ∈ lw_all := lw_g (lw_at lw_m5 13 rfl) rfl
theorem q1056 : (Jvm.Cond.code ({ cls := "ColdBox", name := "lie", desc := "()I" } : Jvm.MethodName) prog_1_method_31_code (2 : Nat) (Option.some Jvm.ClassFile.FieldType.int)) ∈ lw_all := lw_g (lw_at lw_m5 14 rfl) rfl
theorem q1057 : (Jvm.Cond.methodLink "ColdBox" (282 : Nat) ({ cls := "ColdBox$Plainly", name := "goes", desc := "(LColdBox$Body;)Z" } : Jvm.MethodName)) ∈ lw_all := lw_g (lw_at lw_m5 15 rfl) rfl
theorem q1082 : (Jvm.Cond.privateMethod ({ cls := "ColdBox", name := "rowAt", desc := "(I)LColdBox$Row;" } : Jvm.MethodName)) ∈ lw_tbl := lw_at lw_m5 40 rfl
theorem q1083 : (Jvm.Cond.instanceMethod ({ cls := "ColdBox", name := "rowAt", desc := "(I)LColdBox$Row;" } : Jvm.MethodName)) ∈ lw_all := lw_g (lw_at lw_m5 41 rfl) rfl
theorem q1084 : (Jvm.Cond.code ({ cls := "ColdBox", name := "rowAt", desc := "(I)LColdBox$Row;" } : Jvm.MethodName) prog_1_method_43_code (2 : Nat) (Option.some (Jvm.ClassFile.FieldType.object "ColdBox$Row"))) ∈ lw_all := lw_g (lw_at lw_m5 42 rfl) rfl
theorem q1086 : (Jvm.Cond.methodLinkNest "ColdBox" (317 : Nat) ({ cls := "ColdBox$Row", name := "<init>", desc := "()V" } : Jvm.MethodName) "ColdBox") ∈ lw_tbl := lw_at lw_m5 44 rfl
theorem q1093 : (Jvm.Cond.fieldLinkNest "ColdBox" (324 : Nat) "ColdBox$Row" "told" "[I" "ColdBox") ∈ lw_tbl := lw_at lw_m5 51 rfl
theorem q1099 : (Jvm.Cond.instanceMethod ({ cls := "ColdBox", name := "would", desc := "(I)I" } : Jvm.MethodName)) ∈ lw_all := lw_g (lw_at lw_m5 57 rfl) rfl
theorem q1100 : (Jvm.Cond.selects "ColdBox" ({ cls := "ColdBox", name := "would", desc := "(I)I" } : Jvm.MethodName) ({ cls := "ColdBox", name := "would", desc := "(I)I" } : Jvm.MethodName)) ∈ lw_all := lw_g (lw_at lw_m5 58 rfl) rfl
theorem q1101 : (Jvm.Cond.code ({ cls := "ColdBox", name := "would", desc := "(I)I" } : Jvm.MethodName) prog_1_method_32_code (3 : Nat) (Option.some Jvm.ClassFile.FieldType.int)) ∈ lw_all := lw_g (lw_at lw_m5 59 rfl) rfl
theorem q1102 : (Jvm.Cond.methodLink "ColdBox" (289 : Nat) ({ cls := "ColdBox$Body", name := "become", desc := "(LColdBox$Body;)V" } : Jvm.MethodName)) ∈ lw_all := lw_g (lw_at lw_m5 60 rfl) rfl
theorem q1107 : (Jvm.Cond.instanceMethod ({ cls := "ColdBox", name := "lasts", desc := "(I)I" } : Jvm.MethodName)) ∈ lw_all := lw_g (lw_at lw_m5 65 rfl) rfl
theorem q1108 : (Jvm.Cond.selects "ColdBox" ({ cls := "ColdBox", name := "lasts", desc := "(I)I" } : Jvm.MethodName) ({ cls := "ColdBox", name := "lasts", desc := "(I)I" } : Jvm.MethodName)) ∈ lw_all := lw_g (lw_at lw_m5 66 rfl) rfl
theorem q1109 : (Jvm.Cond.code ({ cls := "ColdBox", name := "lasts", desc := "(I)I" } : Jvm.MethodName) prog_1_method_33_code (3 : Nat) (Option.some Jvm.ClassFile.FieldType.int)) ∈ lw_all := lw_g (lw_at lw_m5 67 rfl) rfl
theorem q1111 : (Jvm.Cond.instanceMethod ({ cls := "ColdBox", name := "best", desc := "(II)I" } : Jvm.MethodName)) ∈ lw_all := lw_g (lw_at lw_m5 69 rfl) rfl
theorem q1112 : (Jvm.Cond.selects "ColdBox" ({ cls := "ColdBox", name := "best", desc := "(II)I" } : Jvm.MethodName) ({ cls := "ColdBox", name := "best", desc := "(II)I" } : Jvm.MethodName)) ∈ lw_all := lw_g (lw_at lw_m5 70 rfl) rfl
theorem q1113 : (Jvm.Cond.code ({ cls := "ColdBox", name := "best", desc := "(II)I" } : Jvm.MethodName) prog_1_method_35_code (4 : Nat) (Option.some Jvm.ClassFile.FieldType.int)) ∈ lw_all := lw_g (lw_at lw_m5 71 rfl) rfl
theorem q1114 : (Jvm.Cond.methodLink "ColdBox" (301 : Nat) ({ cls := "ColdBox", name := "tries", desc := "(II)V" } : Jvm.MethodName)) ∈ lw_all := lw_g (lw_at lw_m5 72 rfl) rfl
theorem q1115 : (Jvm.Cond.privateMethod ({ cls := "ColdBox", name := "tries", desc := "(II)V" } : Jvm.MethodName)) ∈ lw_tbl := lw_at lw_m5 73 rfl
theorem q1116 : (Jvm.Cond.instanceMethod ({ cls := "ColdBox", name := "tries", desc := "(II)V" } : Jvm.MethodName)) ∈ lw_all := lw_g (lw_at lw_m5 74 rfl) rfl
theorem q1117 : (Jvm.Cond.code ({ cls := "ColdBox", name := "tries", desc := "(II)V" } : Jvm.MethodName) prog_1_method_34_code (6 : Nat) (Option.none : Option Jvm.ClassFile.FieldType)) ∈ lw_all := lw_g (lw_at lw_m5 75 rfl) rfl
theorem q1119 : (Jvm.Cond.instanceMethod ({ cls := "ColdBox", name := "later", desc := "(II)I" } : Jvm.MethodName)) ∈ lw_all := lw_g (lw_at lw_m5 77 rfl) rfl
theorem q1120 : (Jvm.Cond.selects "ColdBox" ({ cls := "ColdBox", name := "later", desc := "(II)I" } : Jvm.MethodName) ({ cls := "ColdBox", name := "later", desc := "(II)I" } : Jvm.MethodName)) ∈ lw_all := lw_g (lw_at lw_m5 78 rfl) rfl
theorem q1121 : (Jvm.Cond.code ({ cls := "ColdBox", name := "later", desc := "(II)I" } : Jvm.MethodName) prog_1_method_36_code (4 : Nat) (Option.some Jvm.ClassFile.FieldType.int)) ∈ lw_all := lw_g (lw_at lw_m5 79 rfl) rfl
theorem q1123 : (Jvm.Cond.instanceMethod ({ cls := "ColdBox", name := "scale", desc := "(I)I" } : Jvm.MethodName)) ∈ lw_all := lw_g (lw_at lw_m5 81 rfl) rfl
theorem q1124 : (Jvm.Cond.selects "ColdBox" ({ cls := "ColdBox", name := "scale", desc := "(I)I" } : Jvm.MethodName) ({ cls := "ColdBox", name := "scale", desc := "(I)I" } : Jvm.MethodName)) ∈ lw_all := lw_g (lw_at lw_m5 82 rfl) rfl
theorem q1125 : (Jvm.Cond.code ({ cls := "ColdBox", name := "scale", desc := "(I)I" } : Jvm.MethodName) prog_1_method_37_code (2 : Nat) (Option.some Jvm.ClassFile.FieldType.int)) ∈ lw_all := lw_g (lw_at lw_m5 83 rfl) rfl
theorem q1126 : (Jvm.Cond.constant "ColdBox" (308 : Nat) (1103515245 : Int32)) ∈ lw_all := lw_g (lw_at lw_m5 84 rfl) rfl
theorem q1128 : (Jvm.Cond.instanceMethod ({ cls := "ColdBox", name := "seed", desc := "(I)I" } : Jvm.MethodName)) ∈ lw_all := lw_g (lw_at lw_m5 86 rfl) rfl
theorem q1129 : (Jvm.Cond.selects "ColdBox" ({ cls := "ColdBox", name := "seed", desc := "(I)I" } : Jvm.MethodName) ({ cls := "ColdBox", name := "seed", desc := "(I)I" } : Jvm.MethodName)) ∈ lw_all := lw_g (lw_at lw_m5 87 rfl) rfl
theorem q1130 : (Jvm.Cond.code ({ cls := "ColdBox", name := "seed", desc := "(I)I" } : Jvm.MethodName) prog_1_method_38_code (3 : Nat) (Option.some Jvm.ClassFile.FieldType.int)) ∈ lw_all := lw_g (lw_at lw_m5 88 rfl) rfl
theorem q1132 : (Jvm.Cond.instanceMethod ({ cls := "ColdBox", name := "other", desc := "(II)I" } : Jvm.MethodName)) ∈ lw_all := lw_g (lw_at lw_m5 90 rfl) rfl
theorem q1133 : (Jvm.Cond.selects "ColdBox" ({ cls := "ColdBox", name := "other", desc := "(II)I" } : Jvm.MethodName) ({ cls := "ColdBox", name := "other", desc := "(II)I" } : Jvm.MethodName)) ∈ lw_all := lw_g (lw_at lw_m5 91 rfl) rfl
theorem q1134 : (Jvm.Cond.code ({ cls := "ColdBox", name := "other", desc := "(II)I" } : Jvm.MethodName) prog_1_method_39_code (3 : Nat) (Option.some Jvm.ClassFile.FieldType.int)) ∈ lw_all := lw_g (lw_at lw_m5 92 rfl) rfl
theorem q1136 : (Jvm.Cond.instanceMethod ({ cls := "ColdBox", name := "lighter", desc := "()I" } : Jvm.MethodName)) ∈ lw_all := lw_g (lw_at lw_m5 94 rfl) rfl
theorem q1137 : (Jvm.Cond.selects "ColdBox" ({ cls := "ColdBox", name := "lighter", desc := "()I" } : Jvm.MethodName) ({ cls := "ColdBox", name := "lighter", desc := "()I" } : Jvm.MethodName)) ∈ lw_all := lw_g (lw_at lw_m5 95 rfl) rfl
theorem q1138 : (Jvm.Cond.code ({ cls := "ColdBox", name := "lighter", desc := "()I" } : Jvm.MethodName) prog_1_method_41_code (1 : Nat) (Option.some Jvm.ClassFile.FieldType.int)) ∈ lw_all := lw_g (lw_at lw_m5 96 rfl) rfl
theorem q1139 : (Jvm.Cond.methodLink "ColdBox" (314 : Nat) ({ cls := "ColdBox", name := "lighterThan", desc := "(I)I" } : Jvm.MethodName)) ∈ lw_all := lw_g (lw_at lw_m5 97 rfl) rfl
theorem q1140 : (Jvm.Cond.privateMethod ({ cls := "ColdBox", name := "lighterThan", desc := "(I)I" } : Jvm.MethodName)) ∈ lw_tbl := lw_at lw_m5 98 rfl
theorem q1141 : (Jvm.Cond.instanceMethod ({ cls := "ColdBox", name := "lighterThan", desc := "(I)I" } : Jvm.MethodName)) ∈ lw_all := lw_g (lw_at lw_m5 99 rfl) rfl
theorem q1142 : (Jvm.Cond.code ({ cls := "ColdBox", name := "lighterThan", desc := "(I)I" } : Jvm.MethodName) prog_1_method_40_code (5 : Nat) (Option.some Jvm.ClassFile.FieldType.int)) ∈ lw_all := lw_g (lw_at lw_m5 100 rfl) rfl
theorem q1144 : (Jvm.Cond.instanceMethod ({ cls := "ColdBox", name := "least", desc := "(I)I" } : Jvm.MethodName)) ∈ lw_all := lw_g (lw_at lw_m5 102 rfl) rfl
theorem q1145 : (Jvm.Cond.selects "ColdBox" ({ cls := "ColdBox", name := "least", desc := "(I)I" } : Jvm.MethodName) ({ cls := "ColdBox", name := "least", desc := "(I)I" } : Jvm.MethodName)) ∈ lw_all := lw_g (lw_at lw_m5 103 rfl) rfl
theorem q1146 : (Jvm.Cond.code ({ cls := "ColdBox", name := "least", desc := "(I)I" } : Jvm.MethodName) prog_1_method_42_code (3 : Nat) (Option.some Jvm.ClassFile.FieldType.int)) ∈ lw_all := lw_g (lw_at lw_m5 104 rfl) rfl
theorem q1148 : (Jvm.Cond.instanceMethod ({ cls := "ColdBox", name := "row", desc := "(II)I" } : Jvm.MethodName)) ∈ lw_all := lw_g (lw_at lw_m5 106 rfl) rfl
theorem q1149 : (Jvm.Cond.selects "ColdBox" ({ cls := "ColdBox", name := "row", desc := "(II)I" } : Jvm.MethodName) ({ cls := "ColdBox", name := "row", desc := "(II)I" } : Jvm.MethodName)) ∈ lw_all := lw_g (lw_at lw_m5 107 rfl) rfl
theorem q1150 : (Jvm.Cond.code ({ cls := "ColdBox", name := "row", desc := "(II)I" } : Jvm.MethodName) prog_1_method_45_code (3 : Nat) (Option.some Jvm.ClassFile.FieldType.int)) ∈ lw_all := lw_g (lw_at lw_m5 108 rfl) rfl
theorem q1151 : (Jvm.Cond.methodLink "ColdBox" (321 : Nat) ({ cls := "ColdBox", name := "isCell", desc := "(II)Z" } : Jvm.MethodName)) ∈ lw_all := lw_g (lw_at lw_m5 109 rfl) rfl
theorem q1152 : (Jvm.Cond.privateMethod ({ cls := "ColdBox", name := "isCell", desc := "(II)Z" } : Jvm.MethodName)) ∈ lw_tbl := lw_at lw_m5 110 rfl
theorem q1153 : (Jvm.Cond.instanceMethod ({ cls := "ColdBox", name := "isCell", desc := "(II)Z" } : Jvm.MethodName)) ∈ lw_all := lw_g (lw_at lw_m5 111 rfl) rfl
theorem q1154 : (Jvm.Cond.code ({ cls := "ColdBox", name := "isCell", desc := "(II)Z" } : Jvm.MethodName) prog_1_method_44_code (3 : Nat) (Option.some Jvm.ClassFile.FieldType.boolean)) ∈ lw_all := lw_g (lw_at lw_m5 112 rfl) rfl
theorem q1156 : (Jvm.Cond.instanceMethod ({ cls := "ColdBox", name := "alterRow", desc := "(III)I" } : Jvm.MethodName)) ∈ lw_all := lw_g (lw_at lw_m5 114 rfl) rfl
theorem q1157 : (Jvm.Cond.selects "ColdBox" ({ cls := "ColdBox", name := "alterRow", desc := "(III)I" } : Jvm.MethodName) ({ cls := "ColdBox", name := "alterRow", desc := "(III)I" } : Jvm.MethodName)) ∈ lw_all := lw_g (lw_at lw_m5 115 rfl) rfl
theorem q1158 : (Jvm.Cond.code ({ cls := "ColdBox", name := "alterRow", desc := "(III)I" } : Jvm.MethodName) prog_1_method_46_code (5 : Nat) (Option.some Jvm.ClassFile.FieldType.int)) ∈ lw_all := lw_g (lw_at lw_m5 116 rfl) rfl
theorem q1160 : (Jvm.Cond.instanceMethod ({ cls := "ColdBox", name := "prove", desc := "()I" } : Jvm.MethodName)) ∈ lw_all := lw_g (lw_at lw_m5 118 rfl) rfl
theorem q1161 : (Jvm.Cond.selects "ColdBox" ({ cls := "ColdBox", name := "prove", desc := "()I" } : Jvm.MethodName) ({ cls := "ColdBox", name := "prove", desc := "()I" } : Jvm.MethodName)) ∈ lw_all := lw_g (lw_at lw_m5 119 rfl) rfl
theorem q1162 : (Jvm.Cond.code ({ cls := "ColdBox", name := "prove", desc := "()I" } : Jvm.MethodName) prog_1_method_47_code (1 : Nat) (Option.some Jvm.ClassFile.FieldType.int)) ∈ lw_all := lw_g (lw_at lw_m5 120 rfl) rfl
theorem q1163 : (Jvm.Cond.methodLink "ColdBox" (327 : Nat) ({ cls := "ColdBox$Shows", name := "goes", desc := "(LColdBox$Body;)Z" } : Jvm.MethodName)) ∈ lw_all := lw_g (lw_at lw_m5 121 rfl) rfl
theorem q1167 : (Jvm.Cond.instanceMethod ({ cls := "ColdBox", name := "judge", desc := "()I" } : Jvm.MethodName)) ∈ lw_all := lw_g (lw_at lw_m5 125 rfl) rfl
theorem q1168 : (Jvm.Cond.selects "ColdBox" ({ cls := "ColdBox", name := "judge", desc := "()I" } : Jvm.MethodName) ({ cls := "ColdBox", name := "judge", desc := "()I" } : Jvm.MethodName)) ∈ lw_all := lw_g (lw_at lw_m5 126 rfl) rfl
theorem q1169 : (Jvm.Cond.code ({ cls := "ColdBox", name := "judge", desc := "()I" } : Jvm.MethodName) prog_1_method_48_code (2 : Nat) (Option.some Jvm.ClassFile.FieldType.int)) ∈ lw_all := lw_g (lw_at lw_m5 127 rfl) rfl
theorem q1170 : (Jvm.Cond.methodLink "ColdBox" (332 : Nat) ({ cls := "ColdBox$Judges", name := "goes", desc := "(LColdBox$Body;)Z" } : Jvm.MethodName)) ∈ lw_all := lw_g (lw_at lw_m5 128 rfl) rfl
theorem q1174 : (Jvm.Cond.instanceMethod ({ cls := "ColdBox", name := "outs", desc := "(IIII)I" } : Jvm.MethodName)) ∈ lw_all := lw_g (lw_at lw_m5 132 rfl) rfl
theorem q1175 : (Jvm.Cond.selects "ColdBox" ({ cls := "ColdBox", name := "outs", desc := "(IIII)I" } : Jvm.MethodName) ({ cls := "ColdBox", name := "outs", desc := "(IIII)I" } : Jvm.MethodName)) ∈ lw_all := lw_g (lw_at lw_m5 133 rfl) rfl
theorem q1176 : (Jvm.Cond.codeWith ({ cls := "ColdBox", name := "outs", desc := "(IIII)I" } : Jvm.MethodName) prog_1_method_51_code (6 : Nat) (Option.some Jvm.ClassFile.FieldType.int) [((29 : Nat), (55 : Nat), (56 : Nat), (126 : Nat)), ((29 : Nat), (55 : Nat), (61 : Nat), (358 : Nat)), ((29 : Nat), (55 : Nat), (66 : Nat), (119 : Nat))]) ∈ lw_all := lw_g (lw_at lw_m5 134 rfl) rfl
theorem q1177 : (Jvm.Cond.classLink "ColdBox" (358 : Nat) "java/lang/ClassCastException") ∈ lw_all := lw_g (lw_at lw_m5 135 rfl) rfl
theorem q1204 : (Jvm.Cond.methodLink "ColdBox" (339 : Nat) ({ cls := "ColdBox", name := "isSheet", desc := "(I)Z" } : Jvm.MethodName)) ∈ lw_all := lw_g (lw_at lw_m5 162 rfl) rfl
theorem q1205 : (Jvm.Cond.static ({ cls := "ColdBox", name := "isSheet", desc := "(I)Z" } : Jvm.MethodName)) ∈ lw_all := lw_g (lw_at lw_m5 163 rfl) rfl
theorem q1206 : (Jvm.Cond.code ({ cls := "ColdBox", name := "isSheet", desc := "(I)Z" } : Jvm.MethodName) prog_1_method_52_code (1 : Nat) (Option.some Jvm.ClassFile.FieldType.boolean)) ∈ lw_all := lw_g (lw_at lw_m5 164 rfl) rfl
theorem q1207 : (Jvm.Cond.methodLink "ColdBox" (342 : Nat) ({ cls := "ColdBox$Sheet", name := "row", desc := "()Ljava/lang/Object;" } : Jvm.MethodName)) ∈ lw_all := lw_g (lw_at lw_m5 165 rfl) rfl
theorem q1211 : (Jvm.Cond.methodLink "ColdBox" (346 : Nat) ({ cls := "ColdBox", name := "there", desc := "(Ljava/lang/Object;)Ljava/lang/Object;" } : Jvm.MethodName)) ∈ lw_all := lw_g (lw_at lw_m5 169 rfl) rfl
theorem q1212 : (Jvm.Cond.privateMethod ({ cls := "ColdBox", name := "there", desc := "(Ljava/lang/Object;)Ljava/lang/Object;" } : Jvm.MethodName)) ∈ lw_tbl := lw_at lw_m5 170 rfl
theorem q1213 : (Jvm.Cond.instanceMethod ({ cls := "ColdBox", name := "there", desc := "(Ljava/lang/Object;)Ljava/lang/Object;" } : Jvm.MethodName)) ∈ lw_all := lw_g (lw_at lw_m5 171 rfl) rfl
theorem q1214 : (Jvm.Cond.code ({ cls := "ColdBox", name := "there", desc := "(Ljava/lang/Object;)Ljava/lang/Object;" } : Jvm.MethodName) prog_1_method_55_code (2 : Nat) (Option.some (Jvm.ClassFile.FieldType.object "java/lang/Object"))) ∈ lw_all := lw_g (lw_at lw_m5 172 rfl) rfl
theorem q1215 : (Jvm.Cond.methodLink "ColdBox" (350 : Nat) ({ cls := "ColdBox", name := "shorts", desc := "(Ljava/lang/Object;)[S" } : Jvm.MethodName)) ∈ lw_all := lw_g (lw_at lw_m5 173 rfl) rfl
theorem q1216 : (Jvm.Cond.static ({ cls := "ColdBox", name := "shorts", desc := "(Ljava/lang/Object;)[S" } : Jvm.MethodName)) ∈ lw_all := lw_g (lw_at lw_m5 174 rfl) rfl
theorem q1217 : (Jvm.Cond.code ({ cls := "ColdBox", name := "shorts", desc := "(Ljava/lang/Object;)[S" } : Jvm.MethodName) prog_1_method_49_code (1 : Nat) (Option.some (Jvm.ClassFile.FieldType.array Jvm.ClassFile.FieldType.short))) ∈ lw_all := lw_g (lw_at lw_m5 175 rfl) rfl
theorem q1218 : (Jvm.Cond.classLink "ColdBox" (334 : Nat) "[S") ∈ lw_all := lw_g (lw_at lw_m5 176 rfl) rfl
theorem q1219 : (Jvm.Cond.methodLink "ColdBox" (354 : Nat) ({ cls := "ColdBox", name := "outsOf", desc := "([SIII)V" } : Jvm.MethodName)) ∈ lw_all := lw_g (lw_at lw_m5 177 rfl) rfl
theorem q1220 : (Jvm.Cond.privateMethod ({ cls := "ColdBox", name := "outsOf", desc := "([SIII)V" } : Jvm.MethodName)) ∈ lw_tbl := lw_at lw_m5 178 rfl
theorem q1221 : (Jvm.Cond.instanceMethod ({ cls := "ColdBox", name := "outsOf", desc := "([SIII)V" } : Jvm.MethodName)) ∈ lw_all := lw_g (lw_at lw_m5 179 rfl) rfl
theorem q1222 : (Jvm.Cond.code ({ cls := "ColdBox", name := "outsOf", desc := "([SIII)V" } : Jvm.MethodName) prog_1_method_50_code (6 : Nat) (Option.none : Option Jvm.ClassFile.FieldType)) ∈ lw_all := lw_g (lw_at lw_m5 180 rfl) rfl
theorem q1223 : (Jvm.Cond.methodLink "ColdBox" (336 : Nat) ({ cls := "ColdBox", name := "within", desc := "(II)V" } : Jvm.MethodName)) ∈ lw_all := lw_g (lw_at lw_m5 181 rfl) rfl
theorem q1224 : (Jvm.Cond.privateMethod ({ cls := "ColdBox", name := "within", desc := "(II)V" } : Jvm.MethodName)) ∈ lw_tbl := lw_at lw_m5 182 rfl
theorem q1225 : (Jvm.Cond.instanceMethod ({ cls := "ColdBox", name := "within", desc := "(II)V" } : Jvm.MethodName)) ∈ lw_all := lw_g (lw_at lw_m5 183 rfl) rfl
theorem q1226 : (Jvm.Cond.code ({ cls := "ColdBox", name := "within", desc := "(II)V" } : Jvm.MethodName) prog_1_method_54_code (3 : Nat) (Option.none : Option Jvm.ClassFile.FieldType)) ∈ lw_all := lw_g (lw_at lw_m5 184 rfl) rfl
theorem q1228 : (Jvm.Cond.instanceMethod ({ cls := "ColdBox", name := "sheet", desc := "(III)I" } : Jvm.MethodName)) ∈ lw_all := lw_g (lw_at lw_m5 186 rfl) rfl
theorem q1229 : (Jvm.Cond.selects "ColdBox" ({ cls := "ColdBox", name := "sheet", desc := "(III)I" } : Jvm.MethodName) ({ cls := "ColdBox", name := "sheet", desc := "(III)I" } : Jvm.MethodName)) ∈ lw_all := lw_g (lw_at lw_m5 187 rfl) rfl
theorem q1230 : (Jvm.Cond.codeWith ({ cls := "ColdBox", name := "sheet", desc := "(III)I" } : Jvm.MethodName) prog_1_method_56_code (5 : Nat) (Option.some Jvm.ClassFile.FieldType.int) [((28 : Nat), (40 : Nat), (41 : Nat), (367 : Nat))]) ∈ lw_all := lw_g (lw_at lw_m5 188 rfl) rfl
theorem q1231 : (Jvm.Cond.classLink "ColdBox" (367 : Nat) "java/lang/NegativeArraySizeException") ∈ lw_all := lw_g (lw_at lw_m5 189 rfl) rfl
theorem q1245 : (Jvm.Cond.methodLink "ColdBox" (364 : Nat) ({ cls := "ColdBox$Sheet", name := "becomes", desc := "(II)V" } : Jvm.MethodName)) ∈ lw_all := lw_g (lw_at lw_m5 203 rfl) rfl
theorem q1252 : (Jvm.Cond.instanceMethod ({ cls := "ColdBox", name := "put", desc := "(III)I" } : Jvm.MethodName)) ∈ lw_all := lw_g (lw_at lw_m5 210 rfl) rfl
theorem q1253 : (Jvm.Cond.selects "ColdBox" ({ cls := "ColdBox", name := "put", desc := "(III)I" } : Jvm.MethodName) ({ cls := "ColdBox", name := "put", desc := "(III)I" } : Jvm.MethodName)) ∈ lw_all := lw_g (lw_at lw_m5 211 rfl) rfl
theorem q1254 : (Jvm.Cond.codeWith ({ cls := "ColdBox", name := "put", desc := "(III)I" } : Jvm.MethodName) prog_1_method_58_code (5 : Nat) (Option.some Jvm.ClassFile.FieldType.int) [((9 : Nat), (29 : Nat), (30 : Nat), (126 : Nat)), ((9 : Nat), (29 : Nat), (35 : Nat), (119 : Nat))]) ∈ lw_all := lw_g (lw_at lw_m5 212 rfl) rfl
theorem q1255 : (Jvm.Cond.methodLink "ColdBox" (373 : Nat) ({ cls := "ColdBox", name := "set", desc := "(Ljava/lang/Object;II)V" } : Jvm.MethodName)) ∈ lw_all := lw_g (lw_at lw_m5 213 rfl) rfl
theorem q1256 : (Jvm.Cond.privateMethod ({ cls := "ColdBox", name := "set", desc := "(Ljava/lang/Object;II)V" } : Jvm.MethodName)) ∈ lw_tbl := lw_at lw_m5 214 rfl
theorem q1257 : (Jvm.Cond.instanceMethod ({ cls := "ColdBox", name := "set", desc := "(Ljava/lang/Object;II)V" } : Jvm.MethodName)) ∈ lw_all := lw_g (lw_at lw_m5 215 rfl) rfl
theorem q1258 : (Jvm.Cond.code ({ cls := "ColdBox", name := "set", desc := "(Ljava/lang/Object;II)V" } : Jvm.MethodName) prog_1_method_57_code (4 : Nat) (Option.none : Option Jvm.ClassFile.FieldType)) ∈ lw_all := lw_g (lw_at lw_m5 216 rfl) rfl
theorem q1259 : (Jvm.Cond.methodLink "ColdBox" (369 : Nat) ({ cls := "ColdBox", name := "lengthOf", desc := "(Ljava/lang/Object;)I" } : Jvm.MethodName)) ∈ lw_all := lw_g (lw_at lw_m5 217 rfl) rfl
theorem q1260 : (Jvm.Cond.static ({ cls := "ColdBox", name := "lengthOf", desc := "(Ljava/lang/Object;)I" } : Jvm.MethodName)) ∈ lw_all := lw_g (lw_at lw_m5 218 rfl) rfl
theorem q1261 : (Jvm.Cond.code ({ cls := "ColdBox", name := "lengthOf", desc := "(Ljava/lang/Object;)I" } : Jvm.MethodName) prog_1_method_53_code (1 : Nat) (Option.some Jvm.ClassFile.FieldType.int)) ∈ lw_all := lw_g (lw_at lw_m5 219 rfl) rfl
theorem q1262 : (Jvm.Cond.classLink "ColdBox" (360 : Nat) "[B") ∈ lw_all := lw_g (lw_at lw_m5 220 rfl) rfl
theorem q1263 : (Jvm.Cond.classLink "ColdBox" (361 : Nat) "[J") ∈ lw_all := lw_g (lw_at lw_m5 221 rfl) rfl
theorem q1264 : (Jvm.Cond.classLink "ColdBox" (363 : Nat) "[I") ∈ lw_all := lw_g (lw_at lw_m5 222 rfl) rfl
theorem q1266 : (Jvm.Cond.instanceMethod ({ cls := "ColdBox", name := "item", desc := "(III)I" } : Jvm.MethodName)) ∈ lw_all := lw_g (lw_at lw_m5 224 rfl) rfl
theorem q1267 : (Jvm.Cond.selects "ColdBox" ({ cls := "ColdBox", name := "item", desc := "(III)I" } : Jvm.MethodName) ({ cls := "ColdBox", name := "item", desc := "(III)I" } : Jvm.MethodName)) ∈ lw_all := lw_g (lw_at lw_m5 225 rfl) rfl
theorem q1268 : (Jvm.Cond.codeWith ({ cls := "ColdBox", name := "item", desc := "(III)I" } : Jvm.MethodName) prog_1_method_64_code (5 : Nat) (Option.some Jvm.ClassFile.FieldType.int) [((18 : Nat), (37 : Nat), (38 : Nat), (126 : Nat)), ((18 : Nat), (37 : Nat), (43 : Nat), (358 : Nat)), ((18 : Nat), (37 : Nat), (48 : Nat), (119 : Nat))]) ∈ lw_all := lw_g (lw_at lw_m5 226 rfl) rfl
theorem q1269 : (Jvm.Cond.methodLink "ColdBox" (393 : Nat) ({ cls := "ColdBox", name := "itemOf", desc := "(Ljava/lang/Object;II)I" } : Jvm.MethodName)) ∈ lw_all := lw_g (lw_at lw_m5 227 rfl) rfl
theorem q1270 : (Jvm.Cond.privateMethod ({ cls := "ColdBox", name := "itemOf", desc := "(Ljava/lang/Object;II)I" } : Jvm.MethodName)) ∈ lw_tbl := lw_at lw_m5 228 rfl
theorem q1271 : (Jvm.Cond.instanceMethod ({ cls := "ColdBox", name := "itemOf", desc := "(Ljava/lang/Object;II)I" } : Jvm.MethodName)) ∈ lw_all := lw_g (lw_at lw_m5 229 rfl) rfl
theorem q1272 : (Jvm.Cond.code ({ cls := "ColdBox", name := "itemOf", desc := "(Ljava/lang/Object;II)I" } : Jvm.MethodName) prog_1_method_63_code (4 : Nat) (Option.some Jvm.ClassFile.FieldType.int)) ∈ lw_all := lw_g (lw_at lw_m5 230 rfl) rfl
theorem q1273 : (Jvm.Cond.methodLink "ColdBox" (377 : Nat) ({ cls := "ColdBox", name := "byteAt", desc := "([BI)I" } : Jvm.MethodName)) ∈ lw_all := lw_g (lw_at lw_m5 231 rfl) rfl
theorem q1274 : (Jvm.Cond.privateMethod ({ cls := "ColdBox", name := "byteAt", desc := "([BI)I" } : Jvm.MethodName)) ∈ lw_tbl := lw_at lw_m5 232 rfl
theorem q1275 : (Jvm.Cond.instanceMethod ({ cls := "ColdBox", name := "byteAt", desc := "([BI)I" } : Jvm.MethodName)) ∈ lw_all := lw_g (lw_at lw_m5 233 rfl) rfl
theorem q1276 : (Jvm.Cond.code ({ cls := "ColdBox", name := "byteAt", desc := "([BI)I" } : Jvm.MethodName) prog_1_method_59_code (3 : Nat) (Option.some Jvm.ClassFile.FieldType.int)) ∈ lw_all := lw_g (lw_at lw_m5 234 rfl) rfl
theorem q1277 : (Jvm.Cond.methodLink "ColdBox" (381 : Nat) ({ cls := "ColdBox", name := "shortAt", desc := "([SI)I" } : Jvm.MethodName)) ∈ lw_all := lw_g (lw_at lw_m5 235 rfl) rfl
theorem q1278 : (Jvm.Cond.privateMethod ({ cls := "ColdBox", name := "shortAt", desc := "([SI)I" } : Jvm.MethodName)) ∈ lw_tbl := lw_at lw_m5 236 rfl
theorem q1279 : (Jvm.Cond.instanceMethod ({ cls := "ColdBox", name := "shortAt", desc := "([SI)I" } : Jvm.MethodName)) ∈ lw_all := lw_g (lw_at lw_m5 237 rfl) rfl
theorem q1280 : (Jvm.Cond.code ({ cls := "ColdBox", name := "shortAt", desc := "([SI)I" } : Jvm.MethodName) prog_1_method_60_code (3 : Nat) (Option.some Jvm.ClassFile.FieldType.int)) ∈ lw_all := lw_g (lw_at lw_m5 238 rfl) rfl
theorem q1281 : (Jvm.Cond.methodLink "ColdBox" (385 : Nat) ({ cls := "ColdBox", name := "intAt", desc := "([II)I" } : Jvm.MethodName)) ∈ lw_all := lw_g (lw_at lw_m5 239 rfl) rfl
theorem q1282 : (Jvm.Cond.privateMethod ({ cls := "ColdBox", name := "intAt", desc := "([II)I" } : Jvm.MethodName)) ∈ lw_tbl := lw_at lw_m6 0 rfl
theorem q1283 : (Jvm.Cond.instanceMethod ({ cls := "ColdBox", name := "intAt", desc := "([II)I" } : Jvm.MethodName)) ∈ lw_all := lw_g (lw_at lw_m6 1 rfl) rfl
theorem q1284 : (Jvm.Cond.code ({ cls := "ColdBox", name := "intAt", desc := "([II)I" } : Jvm.MethodName) prog_1_method_61_code (3 : Nat) (Option.some Jvm.ClassFile.FieldType.int)) ∈ lw_all := lw_g (lw_at lw_m6 2 rfl) rfl
theorem q1285 : (Jvm.Cond.methodLink "ColdBox" (389 : Nat) ({ cls := "ColdBox", name := "longAt", desc := "([JI)I" } : Jvm.MethodName)) ∈ lw_all := lw_g (lw_at lw_m6 3 rfl) rfl
theorem q1286 : (Jvm.Cond.privateMethod ({ cls := "ColdBox", name := "longAt", desc := "([JI)I" } : Jvm.MethodName)) ∈ lw_tbl := lw_at lw_m6 4 rfl
theorem q1287 : (Jvm.Cond.instanceMethod ({ cls := "ColdBox", name := "longAt", desc := "([JI)I" } : Jvm.MethodName)) ∈ lw_all := lw_g (lw_at lw_m6 5 rfl) rfl
theorem q1288 : (Jvm.Cond.code ({ cls := "ColdBox", name := "longAt", desc := "([JI)I" } : Jvm.MethodName) prog_1_method_62_code (3 : Nat) (Option.some Jvm.ClassFile.FieldType.int)) ∈ lw_all := lw_g (lw_at lw_m6 6 rfl) rfl
theorem q1290 : (Jvm.Cond.instanceMethod ({ cls := "ColdBox", name := "shelf", desc := "(III)I" } : Jvm.MethodName)) ∈ lw_all := lw_g (lw_at lw_m6 8 rfl) rfl
theorem q1291 : (Jvm.Cond.selects "ColdBox" ({ cls := "ColdBox", name := "shelf", desc := "(III)I" } : Jvm.MethodName) ({ cls := "ColdBox", name := "shelf", desc := "(III)I" } : Jvm.MethodName)) ∈ lw_all := lw_g (lw_at lw_m6 9 rfl) rfl
theorem q1292 : (Jvm.Cond.code ({ cls := "ColdBox", name := "shelf", desc := "(III)I" } : Jvm.MethodName) prog_1_method_68_code (4 : Nat) (Option.some Jvm.ClassFile.FieldType.int)) ∈ lw_all := lw_g (lw_at lw_m6 10 rfl) rfl
theorem q1293 : (Jvm.Cond.methodLink "ColdBox" (413 : Nat) ({ cls := "ColdBox", name := "isShelf", desc := "(I)Z" } : Jvm.MethodName)) ∈ lw_all := lw_g (lw_at lw_m6 11 rfl) rfl
theorem q1294 : (Jvm.Cond.static ({ cls := "ColdBox", name := "isShelf", desc := "(I)Z" } : Jvm.MethodName)) ∈ lw_all := lw_g (lw_at lw_m6 12 rfl) rfl
theorem q1295 : (Jvm.Cond.code ({ cls := "ColdBox", name := "isShelf", desc := "(I)Z" } : Jvm.MethodName) prog_1_method_66_code (1 : Nat) (Option.some Jvm.ClassFile.FieldType.boolean)) ∈ lw_all := lw_g (lw_at lw_m6 13 rfl) rfl
theorem q1297 : (Jvm.Cond.instanceMethod ({ cls := "ColdBox", name := "taken", desc := "(II)I" } : Jvm.MethodName)) ∈ lw_all := lw_g (lw_at lw_m6 15 rfl) rfl
theorem q1298 : (Jvm.Cond.selects "ColdBox" ({ cls := "ColdBox", name := "taken", desc := "(II)I" } : Jvm.MethodName) ({ cls := "ColdBox", name := "taken", desc := "(II)I" } : Jvm.MethodName)) ∈ lw_all := lw_g (lw_at lw_m6 16 rfl) rfl
theorem q1299 : (Jvm.Cond.codeWith ({ cls := "ColdBox", name := "taken", desc := "(II)I" } : Jvm.MethodName) prog_1_method_71_code (4 : Nat) (Option.some Jvm.ClassFile.FieldType.int) [((29 : Nat), (47 : Nat), (48 : Nat), (126 : Nat)), ((29 : Nat), (47 : Nat), (52 : Nat), (358 : Nat))]) ∈ lw_all := lw_g (lw_at lw_m6 17 rfl) rfl
theorem q1300 : (Jvm.Cond.methodLink "ColdBox" (440 : Nat) ({ cls := "ColdBox", name := "heldOf", desc := "(LColdBox$Shelf;)Ljava/lang/Object;" } : Jvm.MethodName)) ∈ lw_all := lw_g (lw_at lw_m6 18 rfl) rfl
theorem q1301 : (Jvm.Cond.privateMethod ({ cls := "ColdBox", name := "heldOf", desc := "(LColdBox$Shelf;)Ljava/lang/Object;" } : Jvm.MethodName)) ∈ lw_tbl := lw_at lw_m6 19 rfl
theorem q1302 : (Jvm.Cond.instanceMethod ({ cls := "ColdBox", name := "heldOf", desc := "(LColdBox$Shelf;)Ljava/lang/Object;" } : Jvm.MethodName)) ∈ lw_all := lw_g (lw_at lw_m6 20 rfl) rfl
theorem q1303 : (Jvm.Cond.code ({ cls := "ColdBox", name := "heldOf", desc := "(LColdBox$Shelf;)Ljava/lang/Object;" } : Jvm.MethodName) prog_1_method_67_code (2 : Nat) (Option.some (Jvm.ClassFile.FieldType.object "java/lang/Object"))) ∈ lw_all := lw_g (lw_at lw_m6 21 rfl) rfl
theorem q1304 : (Jvm.Cond.methodLink "ColdBox" (406 : Nat) ({ cls := "ColdBox$Nature", name := "thing", desc := "(II)LColdBox$Tells;" } : Jvm.MethodName)) ∈ lw_all := lw_g (lw_at lw_m6 22 rfl) rfl
theorem q1418 : (Jvm.Cond.methodLink "ColdBox" (444 : Nat) ({ cls := "ColdBox", name := "castTo", desc := "(Ljava/lang/Object;I)I" } : Jvm.MethodName)) ∈ lw_all := lw_g (lw_at lw_m6 136 rfl) rfl
theorem q1419 : (Jvm.Cond.static ({ cls := "ColdBox", name := "castTo", desc := "(Ljava/lang/Object;I)I" } : Jvm.MethodName)) ∈ lw_all := lw_g (lw_at lw_m6 137 rfl) rfl
theorem q1420 : (Jvm.Cond.code ({ cls := "ColdBox", name := "castTo", desc := "(Ljava/lang/Object;I)I" } : Jvm.MethodName) prog_1_method_70_code (2 : Nat) (Option.some Jvm.ClassFile.FieldType.int)) ∈ lw_all := lw_g (lw_at lw_m6 138 rfl) rfl
theorem q1421 : (Jvm.Cond.classLink "ColdBox" (416 : Nat) "ColdBox$AnyWeek") ∈ lw_all := lw_g (lw_at lw_m6 139 rfl) rfl
theorem q1422 : (Jvm.Cond.methodLink "ColdBox" (418 : Nat) ({ cls := "ColdBox$AnyWeek", name := "its", desc := "()I" } : Jvm.MethodName)) ∈ lw_all := lw_g (lw_at lw_m6 140 rfl) rfl
theorem q1432 : (Jvm.Cond.classLink "ColdBox" (421 : Nat) "ColdBox$DeepWeek") ∈ lw_all := lw_g (lw_at lw_m6 150 rfl) rfl
theorem q1433 : (Jvm.Cond.methodLink "ColdBox" (423 : Nat) ({ cls := "ColdBox$DeepWeek", name := "its", desc := "()I" } : Jvm.MethodName)) ∈ lw_all := lw_g (lw_at lw_m6 151 rfl) rfl
theorem q1438 : (Jvm.Cond.classLink "ColdBox" (424 : Nat) "ColdBox$MildWeek") ∈ lw_all := lw_g (lw_at lw_m6 156 rfl) rfl
theorem q1439 : (Jvm.Cond.methodLink "ColdBox" (426 : Nat) ({ cls := "ColdBox$MildWeek", name := "its", desc := "()I" } : Jvm.MethodName)) ∈ lw_all := lw_g (lw_at lw_m6 157 rfl) rfl
theorem q1443 : (Jvm.Cond.classLink "ColdBox" (427 : Nat) "ColdBox$AwakeWeek") ∈ lw_all := lw_g (lw_at lw_m6 161 rfl) rfl
theorem q1444 : (Jvm.Cond.methodLink "ColdBox" (429 : Nat) ({ cls := "ColdBox$AwakeWeek", name := "its", desc := "()I" } : Jvm.MethodName)) ∈ lw_all := lw_g (lw_at lw_m6 162 rfl) rfl
theorem q1447 : (Jvm.Cond.classLink "ColdBox" (430 : Nat) "ColdBox$FrostedWeek") ∈ lw_all := lw_g (lw_at lw_m6 165 rfl) rfl
theorem q1448 : (Jvm.Cond.methodLink "ColdBox" (432 : Nat) ({ cls := "ColdBox$FrostedWeek", name := "its", desc := "()I" } : Jvm.MethodName)) ∈ lw_all := lw_g (lw_at lw_m6 166 rfl) rfl
theorem q1451 : (Jvm.Cond.classLink "ColdBox" (433 : Nat) "ColdBox$DryingWeek") ∈ lw_all := lw_g (lw_at lw_m6 169 rfl) rfl
theorem q1452 : (Jvm.Cond.methodLink "ColdBox" (435 : Nat) ({ cls := "ColdBox$DryingWeek", name := "its", desc := "()I" } : Jvm.MethodName)) ∈ lw_all := lw_g (lw_at lw_m6 170 rfl) rfl
theorem q1455 : (Jvm.Cond.methodLink "ColdBox" (436 : Nat) ({ cls := "ColdBox", name := "rowAs", desc := "(Ljava/lang/Object;I)I" } : Jvm.MethodName)) ∈ lw_all := lw_g (lw_at lw_m6 173 rfl) rfl
theorem q1456 : (Jvm.Cond.static ({ cls := "ColdBox", name := "rowAs", desc := "(Ljava/lang/Object;I)I" } : Jvm.MethodName)) ∈ lw_all := lw_g (lw_at lw_m6 174 rfl) rfl
theorem q1457 : (Jvm.Cond.code ({ cls := "ColdBox", name := "rowAs", desc := "(Ljava/lang/Object;I)I" } : Jvm.MethodName) prog_1_method_69_code (2 : Nat) (Option.some Jvm.ClassFile.FieldType.int)) ∈ lw_all := lw_g (lw_at lw_m6 175 rfl) rfl
theorem q1459 : (Jvm.Cond.instanceMethod ({ cls := "ColdBox", name := "act", desc := "(III)I" } : Jvm.MethodName)) ∈ lw_all := lw_g (lw_at lw_m6 177 rfl) rfl
theorem q1460 : (Jvm.Cond.selects "ColdBox" ({ cls := "ColdBox", name := "act", desc := "(III)I" } : Jvm.MethodName) ({ cls := "ColdBox", name := "act", desc := "(III)I" } : Jvm.MethodName)) ∈ lw_all := lw_g (lw_at lw_m6 178 rfl) rfl
theorem q1461 : (Jvm.Cond.codeWith ({ cls := "ColdBox", name := "act", desc := "(III)I" } : Jvm.MethodName) prog_1_method_73_code (6 : Nat) (Option.some Jvm.ClassFile.FieldType.int) [((45 : Nat), (55 : Nat), (56 : Nat), (465 : Nat))]) ∈ lw_all := lw_g (lw_at lw_m6 179 rfl) rfl
theorem q1462 : (Jvm.Cond.classLink "ColdBox" (465 : Nat) "java/lang/ArithmeticException") ∈ lw_all := lw_g (lw_at lw_m6 180 rfl) rfl
theorem q1476 : (Jvm.Cond.classLink "ColdBox" (448 : Nat) "ColdBox$Tells") ∈ lw_all := lw_g (lw_at lw_m6 194 rfl) rfl
theorem q1477 : (Jvm.Cond.methodLink "ColdBox" (461 : Nat) ({ cls := "ColdBox", name := "acted", desc := "(LColdBox$Tells;II)I" } : Jvm.MethodName)) ∈ lw_all := lw_g (lw_at lw_m6 195 rfl) rfl
theorem q1478 : (Jvm.Cond.static ({ cls := "ColdBox", name := "acted", desc := "(LColdBox$Tells;II)I" } : Jvm.MethodName)) ∈ lw_all := lw_g (lw_at lw_m6 196 rfl) rfl
theorem q1479 : (Jvm.Cond.code ({ cls := "ColdBox", name := "acted", desc := "(LColdBox$Tells;II)I" } : Jvm.MethodName) prog_1_method_72_code (3 : Nat) (Option.some Jvm.ClassFile.FieldType.int)) ∈ lw_all := lw_g (lw_at lw_m6 197 rfl) rfl
theorem q1480 : (Jvm.Cond.interfaceEntry "ColdBox" (447 : Nat)) ∈ lw_tbl := lw_at lw_m6 198 rfl
theorem q1490 : (Jvm.Cond.privateMethod ({ cls := "ColdBox", name := "ran", desc := "(I)V" } : Jvm.MethodName)) ∈ lw_tbl := lw_at lw_m6 208 rfl
theorem q1491 : (Jvm.Cond.instanceMethod ({ cls := "ColdBox", name := "ran", desc := "(I)V" } : Jvm.MethodName)) ∈ lw_all := lw_g (lw_at lw_m6 209 rfl) rfl
theorem q1492 : (Jvm.Cond.code ({ cls := "ColdBox", name := "ran", desc := "(I)V" } : Jvm.MethodName) prog_1_method_65_code (2 : Nat) (Option.none : Option Jvm.ClassFile.FieldType)) ∈ lw_all := lw_g (lw_at lw_m6 210 rfl) rfl
theorem q1525 : (Jvm.Cond.interfaceEntry "ColdBox" (452 : Nat)) ∈ lw_tbl := lw_at lw_m7 3 rfl
theorem q1566 : (Jvm.Cond.interfaceEntry "ColdBox" (455 : Nat)) ∈ lw_tbl := lw_at lw_m7 44 rfl
theorem q1598 : (Jvm.Cond.interfaceEntry "ColdBox" (458 : Nat)) ∈ lw_tbl := lw_at lw_m7 76 rfl
theorem q1599 : (Jvm.Cond.methodLink "ColdBox" (458 : Nat) ({ cls := "ColdBox$Tells", name := "tells", desc := "(I)I" } : Jvm.MethodName)) ∈ lw_all := lw_g (lw_at lw_m7 77 rfl) rfl
theorem q1631 : (Jvm.Cond.instanceMethod ({ cls := "ColdBox", name := "trace", desc := "(I)I" } : Jvm.MethodName)) ∈ lw_all := lw_g (lw_at lw_m7 109 rfl) rfl
theorem q1632 : (Jvm.Cond.selects "ColdBox" ({ cls := "ColdBox", name := "trace", desc := "(I)I" } : Jvm.MethodName) ({ cls := "ColdBox", name := "trace", desc := "(I)I" } : Jvm.MethodName)) ∈ lw_all := lw_g (lw_at lw_m7 110 rfl) rfl
theorem q1633 : (Jvm.Cond.code ({ cls := "ColdBox", name := "trace", desc := "(I)I" } : Jvm.MethodName) prog_1_method_74_code (2 : Nat) (Option.some Jvm.ClassFile.FieldType.int)) ∈ lw_all := lw_g (lw_at lw_m7 111 rfl) rfl
theorem q1635 : (Jvm.Cond.instanceMethod ({ cls := "ColdBox", name := "many", desc := "(I)I" } : Jvm.MethodName)) ∈ lw_all := lw_g (lw_at lw_m7 113 rfl) rfl
theorem q1636 : (Jvm.Cond.selects "ColdBox" ({ cls := "ColdBox", name := "many", desc := "(I)I" } : Jvm.MethodName) ({ cls := "ColdBox", name := "many", desc := "(I)I" } : Jvm.MethodName)) ∈ lw_all := lw_g (lw_at lw_m7 114 rfl) rfl
theorem q1637 : (Jvm.Cond.code ({ cls := "ColdBox", name := "many", desc := "(I)I" } : Jvm.MethodName) prog_1_method_75_code (2 : Nat) (Option.some Jvm.ClassFile.FieldType.int)) ∈ lw_all := lw_g (lw_at lw_m7 115 rfl) rfl
theorem q1639 : (Jvm.Cond.instanceMethod ({ cls := "ColdBox", name := "keep", desc := "()I" } : Jvm.MethodName)) ∈ lw_all := lw_g (lw_at lw_m7 117 rfl) rfl
theorem q1640 : (Jvm.Cond.selects "ColdBox" ({ cls := "ColdBox", name := "keep", desc := "()I" } : Jvm.MethodName) ({ cls := "ColdBox", name := "keep", desc := "()I" } : Jvm.MethodName)) ∈ lw_all := lw_g (lw_at lw_m7 118 rfl) rfl
theorem q1641 : (Jvm.Cond.code ({ cls := "ColdBox", name := "keep", desc := "()I" } : Jvm.MethodName) prog_1_method_76_code (1 : Nat) (Option.some Jvm.ClassFile.FieldType.int)) ∈ lw_all := lw_g (lw_at lw_m7 119 rfl) rfl
theorem q1642 : (Jvm.Cond.methodLink "ColdBox" (467 : Nat) ({ cls := "ColdBox$Winter", name := "become", desc := "(LColdBox$Winter;)V" } : Jvm.MethodName)) ∈ lw_all := lw_g (lw_at lw_m7 120 rfl) rfl
theorem q1649 : (Jvm.Cond.instanceMethod ({ cls := "ColdBox", name := "again", desc := "()I" } : Jvm.MethodName)) ∈ lw_all := lw_g (lw_at lw_m7 127 rfl) rfl
theorem q1650 : (Jvm.Cond.selects "ColdBox" ({ cls := "ColdBox", name := "again", desc := "()I" } : Jvm.MethodName) ({ cls := "ColdBox", name := "again", desc := "()I" } : Jvm.MethodName)) ∈ lw_all := lw_g (lw_at lw_m7 128 rfl) rfl
theorem q1651 : (Jvm.Cond.code ({ cls := "ColdBox", name := "again", desc := "()I" } : Jvm.MethodName) prog_1_method_77_code (1 : Nat) (Option.some Jvm.ClassFile.FieldType.int)) ∈ lw_all := lw_g (lw_at lw_m7 129 rfl) rfl
theorem in_X0 : ∀ w ∈ wsX00, w ∈ lw_all := lw_in wsX00 [592, 594, 596, 598, 600, 602, 604, 606, 608, 610, 612, 614, 616, 618, 620, 622, 624, 626, 628, 630, 632, 634, 636, 638, 640] (by decide +kernel) (by decide +kernel)
